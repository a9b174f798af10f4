set_option maxRecDepth 100000
def allN (n : Nat) (f : Nat → Bool) : Bool := match n with
  | 0 => true
  | n + 1 => allN n f && f n
theorem allN_spec {f : Nat → Bool} : ∀ {n : Nat}, allN n f = true → ∀ i, i < n → f i = true
  | 0, _, i, hi => absurd hi (Nat.not_lt_zero i)
  | n + 1, h, i, hi => by
    rw [allN, Bool.and_eq_true] at h
    rcases Nat.lt_succ_iff_lt_or_eq.mp hi with q | q
    · exact allN_spec h.1 i q
    · rw [q]; exact h.2
theorem allN_of {f : Nat → Bool} : ∀ {n : Nat}, (∀ i, i < n → f i = true) → allN n f = true
  | 0, _ => rfl
  | n + 1, h => by rw [allN, Bool.and_eq_true]; exact ⟨allN_of (fun i hi => h i (Nat.lt_succ_of_lt hi)), h n (Nat.lt_succ_self n)⟩
def cpI (a b sp dp n : Nat) (h : AH) : AH := (hK h, upA (hI h) b (va_cpy (hI h a) (hI h b) sp dp n), hL h, hR h, hn h, hs h)
def cpR (a b sp dp n : Nat) (h : AH) : AH := (hK h, hI h, hL h, upA (hR h) b (va_cpy (hR h a) (hR h b) sp dp n), hn h, hs h)
def objL : List Nat := [8, 9, 10, 12, 13, 14, 15, 16, 18, 19, 20, 21, 23]
def acpB (r : Option Nat) (sp : Int32) (s : Option Nat) (dp n : Int32) (h : AH) : Option AH := match r, s with
  | some a, some b => if ((hK h a).1 = 101 ∧ (hK h b).1 = 101 ∧ NC ≤ a ∧ NC ≤ b) ∧ (¬ sp < 0 ∧ ¬ dp < 0 ∧ ¬ n < 0) ∧ sp.toNatClampNeg + n.toNatClampNeg ≤ (hK h a).2 ∧ dp.toNatClampNeg + n.toNatClampNeg ≤ (hK h b).2 ∧ allN n.toNatClampNeg (fun i => fits .byte (.int (hI h a (sp.toNatClampNeg + i)))) = true then some (cpI a b sp.toNatClampNeg dp.toNatClampNeg n.toNatClampNeg h) else none
  | _, _ => none
def okO (h : AH) (r : Option Nat) : Bool := match r with
  | none => true
  | some b => decide ((hK h b).1 ∈ objL)
def acpR (r : Option Nat) (sp : Int32) (s : Option Nat) (dp n : Int32) (h : AH) : Option AH := match r, s with
  | some a, some b => if ((hK h a).1 = 104 ∧ (hK h b).1 = 104 ∧ NC ≤ a ∧ NC ≤ b) ∧ (¬ sp < 0 ∧ ¬ dp < 0 ∧ ¬ n < 0) ∧ sp.toNatClampNeg + n.toNatClampNeg ≤ (hK h a).2 ∧ dp.toNatClampNeg + n.toNatClampNeg ≤ (hK h b).2 ∧ allN n.toNatClampNeg (fun i => okO h (hR h a (sp.toNatClampNeg + i))) = true then some (cpR a b sp.toNatClampNeg dp.toNatClampNeg n.toNatClampNeg h) else none
  | _, _ => none
def isA4 (r : Option Nat) (h : AH) : Option Nat := match r with
  | some a => if (hK h a).1 = 104 ∧ NC ≤ a then some a else none
  | none => none
theorem i_nn (z : Int32) (hz : ¬ z < 0) : z.toInt = (z.toNatClampNeg : Int) := by
  have hz0 : (0 : Int) ≤ z.toInt := by
    have := Int32.not_lt.mp hz
    simpa using Int32.le_iff_toInt_le.mp this
  show z.toInt = ((z.toInt.toNat : Nat) : Int)
  omega
section VRows6
variable {G : GT} {X : CX} {nL d : Nat} {h0 h : AH} {Q : State → Prop} {pc : Nat} {lv : List (Nat × AV)} {st stk : List AV} {own : String} {cc : ByteArray} {τ : Type} {z : τ}
/-- what stands where behind a copy -/
theorem copied_get {ca cb : Cell} {sp dp n : Int32} {na nb : Nat} {f g : Nat → Value} (sb : nb ≤ cb.slots.size) (fa : ∀ j, j < na → ca.slots[j]? = some (f j)) (fb : ∀ j, j < nb → cb.slots[j]? = some (g j)) (h4 : sp.toNatClampNeg + n.toNatClampNeg ≤ na) (h5 : dp.toNatClampNeg + n.toNatClampNeg ≤ nb) {j : Nat} (hj : j < nb) :
    (copied ca cb sp dp n).slots[j]? = some (va_cpy f g sp.toNatClampNeg dp.toNatClampNeg n.toNatClampNeg j) := by
  have hlen : (ca.stretch sp.toNatClampNeg n.toNatClampNeg).length = n.toNatClampNeg := by simp [Cell.stretch]
  unfold copied
  rw [Cell.storeRun_get _ _ _ _ (by rw [hlen]; exact Nat.le_trans h5 sb), hlen]
  unfold va_cpy
  by_cases h : dp.toNatClampNeg ≤ j ∧ j < dp.toNatClampNeg + n.toNatClampNeg
  · rw [if_pos h, if_pos h]
    unfold Cell.stretch
    rw [List.getElem?_map, List.getElem?_range (by omega)]
    show some (ca.slots.getD _ _) = _
    rw [Array.getD_eq_getD_getElem?, fa _ (by omega)]
    rfl
  · rw [if_neg h, if_neg h]
    exact fb j hj
theorem ck_obj : ∀ k ∈ objL, CK "java/lang/Object" k := by
  unfold objL
  simp only [List.forall_mem_cons]
  exact ⟨Or.inl ⟨_, rfl, Or.inr q2747⟩, Or.inl ⟨_, rfl, Or.inr q2748⟩, Or.inl ⟨_, rfl, Or.inr q2749⟩, Or.inl ⟨_, rfl, Or.inr q2750⟩, Or.inl ⟨_, rfl, Or.inr q2752⟩, Or.inl ⟨_, rfl, Or.inr q2753⟩, Or.inl ⟨_, rfl, Or.inr q2754⟩, Or.inl ⟨_, rfl, Or.inr q2755⟩, Or.inl ⟨_, rfl, Or.inr q2756⟩, Or.inl ⟨_, rfl, Or.inr q2757⟩, Or.inl ⟨_, rfl, Or.inr q2758⟩, Or.inl ⟨_, rfl, Or.inr q2759⟩, Or.inl ⟨_, rfl, Or.inr q2740⟩, fun x hx => absurd hx List.not_mem_nil⟩

theorem v_acpB (ok : Ok G X own cc nL d h0) {index : Nat} (q1 : Cond.methodLink own index arraycopyName ∈ lw_all) (q2 : Cond.native arraycopyName ∈ lw_all) (q3 : Cond.static arraycopyName ∈ lw_all) (q4 : Cond.initialized "java/lang/System" ∈ lw_all) {r s : Option Nat} {sp dp n : Int32} (hd1 : 2 ≤ d) (h8 : (st.map ctN).sum ≤ 12) (hd : decode cc pc = .ok (.invokestatic index, 3)) {f : AH → Option τ} (hf : (acpB r sp s dp n h).bind f = some z) (kk : ∀ h', f h' = some z → V G X nL h0 Q h' (pc + 3) lv st) : V G X nL h0 Q h pc lv (vi n :: vi dp :: vr s :: vi sp :: vr r :: st) := by
  cases r with
  | none => cases hf
  | some a =>
    cases s with
    | none => cases hf
    | some b =>
      simp only [acpB] at hf
      split at hf
      · rename_i hC
        obtain ⟨⟨ka, kb, ha, hb⟩, ⟨h1, h2, h3⟩, h4, h5, h6⟩ := hC
        intro H locs ls A bb c e T hT S
        obtain ⟨ca, ca1, ca2, ca3, ca4⟩ := A.cellA (a := a) (by omega) (by omega)
        obtain ⟨cb, cb1, cb2, cb3, cb4⟩ := A.cellA (a := b) (by omega) (by omega)
        obtain ⟨kA, comp, k1, k2, k3, k4, k5⟩ := gAK ok (t := 101) (by decide) (by decide)
        have hroom := ok.2.2.2.2.2.2.2
        have fa : ∀ j, j < (hK h a).2 → ca.slots[j]? = some (Value.int (hI h a j)) := by
          intro j hj
          have := (ca2.2.2.2.2 (by omega)).2.2 j hj
          rw [ka] at this
          exact this
        have fb : ∀ j, j < (hK h b).2 → cb.slots[j]? = some (Value.int (hI h b j)) := by
          intro j hj
          have := (cb2.2.2.2.2 (by omega)).2.2 j hj
          rw [kb] at this
          exact this
        obtain ⟨vm', X', step⟩ := S.arraycopy ok.1 ok.2.2.2.1 (gw ok q1) (gw ok q2) (gw ok q3) (gw ok q4) (src := rho G a) (dst := rho G b) (srcPos := sp) (destPos := dp) (n := n) (by rw [hT]; exact ca1) (by rw [hT]; exact cb1)
          ca2.2.1 cb2.2.1 ca2.1 cb2.1 (by rw [ca4.2 ha, ka]; exact k2) (by rw [cb4.2 hb, kb]; exact k2) k3 k3 rfl h1 h2 h3
          (by have := ca3.1; rw [i_nn sp h1, i_nn n h3]; omega) (by have := cb3.1; rw [i_nn dp h2, i_nn n h3]; omega)
          (fun vm₁ hal i hi => by
            have ee : ca.slots.getD (sp.toNatClampNeg + i) .null = Value.int (hI h a (sp.toNatClampNeg + i)) := by
              rw [Array.getD_eq_getD_getElem?, fa _ (by omega)]; rfl
            rw [ee]
            have h7 := allN_spec h6 i hi
            exact ⟨h7, trivial⟩)
          (g := F0 X.2.2.2.2.2.1 pc ls ((vi n :: vi dp :: vr (some b) :: vi sp :: vr (some a) :: st).map (cv G))) rfl (bb.1.trans ok.2.2.1.symm) (rest := st.map (cv G)) rfl (by rw [ok.2.1]; exact hd) (Nat.le_trans (by show 1 ≤ d; omega) hroom.1)
          (by
            refine Nat.le_trans ?_ hroom.2.2.2
            have hw : nativeFrameWords "java/lang/System" "arraycopy" 5 ≤ 30 := by decide
            show 2 * 0 + _ + _ ≤ 64 * d
            rw [ctN_eq]
            omega)
        have hl : rho G b < H.size := (Array.getElem?_eq_some_iff.mp cb1).1
        have hB : g_B G ≤ rho G b := by rw [rho_ge hb]; exact Nat.le_add_right _ _
        have hheap : ((T.setVm vm').setCell (rho G b) (copied ca cb sp dp n)).heap = H.setIfInBounds (rho G b) (copied ca cb sp dp n) := by rw [← hT]; rfl
        have facts := Cell.storeRun_facts cb dp.toNatClampNeg (ca.stretch sp.toNatClampNeg n.toNatClampNeg)
        have k6 := kk _ hf (H.setIfInBounds (rho G b) (copied ca cb sp dp n)) _ ls ?_ bb (fun q hq => ?_) e _ hheap X'
        · obtain ⟨t, a1, b1⟩ := k6
          exact ⟨t, step t a1, b1⟩
        · refine A.upd ok.2.2.2.2.2.2.1 hb (h' := cpI a b sp.toNatClampNeg dp.toNatClampNeg n.toNatClampNeg h) (c' := copied ca cb sp dp n) rfl rfl rfl (fun x j hx => ⟨congrFun (upA_ne hx) j, rfl, rfl⟩) (by simp [Array.getElem?_setIfInBounds, hl]) ⟨by rw [facts.2.1]; exact cb2.1, by rw [facts.2.1]; exact cb2.2.1, fun _ => by rw [facts.2.1]; exact cb2.2.2.1 hb, ?_, ?_⟩ (by simp) (fun q hq => by simp [Array.getElem?_setIfInBounds, Ne.symm hq])
          · show ∀ q, clT[(hK h b).1]? = some q → _
            intro q hq
            have := clT_lt hq
            omega
          · show 100 ≤ (hK h b).1 → _
            intro _
            refine ⟨⟨⟨by rw [facts.2.1]; exact cb2.2.1, by rw [facts.1]; exact cb4.1.2⟩, fun _ => by rw [facts.1]; exact cb4.2 hb⟩, SzOk.eq facts.2.2.1 cb3, fun j hj => ?_⟩
            have hj : j < (hK h b).2 := hj
            rw [copied_get cb3.1 fa fb h4 h5 hj]
            show some _ = some (fv G (atT (hK h b).1) (cpI a b sp.toNatClampNeg dp.toNatClampNeg n.toNatClampNeg h) b j)
            rw [kb]
            show some _ = some (Value.int (upA (hI h) b (va_cpy (hI h a) (hI h b) sp.toNatClampNeg dp.toNatClampNeg n.toNatClampNeg) b j))
            rw [upA_eq]
            unfold va_cpy
            split <;> rfl
        · rcases List.mem_append.mp hq with w | w
          · exact c q w
          · obtain ⟨y, -, hy⟩ := List.mem_map.mp w
            rw [← hy]
            exact hB
      · cases hf
theorem v_acpR (ok : Ok G X own cc nL d h0) {index : Nat} (q1 : Cond.methodLink own index arraycopyName ∈ lw_all) (q2 : Cond.native arraycopyName ∈ lw_all) (q3 : Cond.static arraycopyName ∈ lw_all) (q4 : Cond.initialized "java/lang/System" ∈ lw_all) {r s : Option Nat} {sp dp n : Int32} (hd1 : 2 ≤ d) (h8 : (st.map ctN).sum ≤ 12) (hd : decode cc pc = .ok (.invokestatic index, 3)) {f : AH → Option τ} (hf : (acpR r sp s dp n h).bind f = some z) (kk : ∀ h', f h' = some z → V G X nL h0 Q h' (pc + 3) lv st) : V G X nL h0 Q h pc lv (vi n :: vi dp :: vr s :: vi sp :: vr r :: st) := by
  cases r with
  | none => cases hf
  | some a =>
    cases s with
    | none => cases hf
    | some b =>
      simp only [acpR] at hf
      split at hf
      · rename_i hC
        obtain ⟨⟨ka, kb, ha, hb⟩, ⟨h1, h2, h3⟩, h4, h5, h6⟩ := hC
        intro H locs ls A bb c e T hT S
        obtain ⟨ca, ca1, ca2, ca3, ca4⟩ := A.cellA (a := a) (by omega) (by omega)
        obtain ⟨cb, cb1, cb2, cb3, cb4⟩ := A.cellA (a := b) (by omega) (by omega)
        obtain ⟨kA, comp, k1, k2, k3, k4, k5⟩ := gAK ok (t := 104) (by decide) (by decide)
        have hroom := ok.2.2.2.2.2.2.2
        have fa : ∀ j, j < (hK h a).2 → ca.slots[j]? = some ((fun r => va_rf (Option.map (rho G) r)) (hR h a j)) := by
          intro j hj
          have := (ca2.2.2.2.2 (by omega)).2.2 j hj
          rw [ka] at this
          exact this
        have fb : ∀ j, j < (hK h b).2 → cb.slots[j]? = some ((fun r => va_rf (Option.map (rho G) r)) (hR h b j)) := by
          intro j hj
          have := (cb2.2.2.2.2 (by omega)).2.2 j hj
          rw [kb] at this
          exact this
        obtain ⟨vm', X', step⟩ := S.arraycopy ok.1 ok.2.2.2.1 (gw ok q1) (gw ok q2) (gw ok q3) (gw ok q4) (src := rho G a) (dst := rho G b) (srcPos := sp) (destPos := dp) (n := n) (by rw [hT]; exact ca1) (by rw [hT]; exact cb1)
          ca2.2.1 cb2.2.1 ca2.1 cb2.1 (by rw [ca4.2 ha, ka]; exact k2) (by rw [cb4.2 hb, kb]; exact k2) k3 k3 rfl h1 h2 h3
          (by have := ca3.1; rw [i_nn sp h1, i_nn n h3]; omega) (by have := cb3.1; rw [i_nn dp h2, i_nn n h3]; omega)
          (fun vm₁ hal i hi => by
            have ee : ca.slots.getD (sp.toNatClampNeg + i) .null = (fun r => va_rf (Option.map (rho G) r)) (hR h a (sp.toNatClampNeg + i)) := by
              rw [Array.getD_eq_getD_getElem?, fa _ (by omega)]; rfl
            rw [ee]
            have h7 := allN_spec h6 i hi
            cases hy : hR h a (sp.toNatClampNeg + i) with
            | none => exact ⟨rfl, trivial⟩
            | some y =>
              rw [hy] at h7
              have hm : (hK h y).1 ∈ objL := of_decide_eq_true h7
              obtain ⟨cv1, cT, g1, g2, g3, g4, kv, hkv⟩ := ck_asg ok A (ck_obj _ hm) (fun h9 => absurd (show (hK h y).1 < 100 from List.forall_mem_iff_forall_getElem.mp (show ∀ k ∈ objL, k < 100 by decide) |> fun _ => (show ∀ k ∈ objL, k < 100 by decide) _ hm) (Nat.not_lt.mpr h9))
              have hcT : cT = comp := Option.some.inj (g3.symm.trans (k4 _ rfl))
              subst hcT
              obtain ⟨kE, hkE, -⟩ := Vm.findClass_spec g3
              obtain ⟨kC', hkC', -⟩ := hal.2.2 _ _ hkv
              obtain ⟨kE', hkE', -⟩ := hal.2.2 _ _ hkE
              exact ⟨rfl, cv1, by show T.heap[rho G y]? = _; rw [hT]; exact g1, (fun k hk => by rw [hk] at g2; cases g2), ⟨kC', hkC'⟩, ⟨kE', hkE'⟩, by rw [← g4]; exact hal.assignable _ _⟩)
          (g := F0 X.2.2.2.2.2.1 pc ls ((vi n :: vi dp :: vr (some b) :: vi sp :: vr (some a) :: st).map (cv G))) rfl (bb.1.trans ok.2.2.1.symm) (rest := st.map (cv G)) rfl (by rw [ok.2.1]; exact hd) (Nat.le_trans (by show 1 ≤ d; omega) hroom.1)
          (by
            refine Nat.le_trans ?_ hroom.2.2.2
            have hw : nativeFrameWords "java/lang/System" "arraycopy" 5 ≤ 30 := by decide
            show 2 * 0 + _ + _ ≤ 64 * d
            rw [ctN_eq]
            omega)
        have hl : rho G b < H.size := (Array.getElem?_eq_some_iff.mp cb1).1
        have hB : g_B G ≤ rho G b := by rw [rho_ge hb]; exact Nat.le_add_right _ _
        have hheap : ((T.setVm vm').setCell (rho G b) (copied ca cb sp dp n)).heap = H.setIfInBounds (rho G b) (copied ca cb sp dp n) := by rw [← hT]; rfl
        have facts := Cell.storeRun_facts cb dp.toNatClampNeg (ca.stretch sp.toNatClampNeg n.toNatClampNeg)
        have k6 := kk _ hf (H.setIfInBounds (rho G b) (copied ca cb sp dp n)) _ ls ?_ bb (fun q hq => ?_) e _ hheap X'
        · obtain ⟨t, a1, b1⟩ := k6
          exact ⟨t, step t a1, b1⟩
        · refine A.upd ok.2.2.2.2.2.2.1 hb (h' := cpR a b sp.toNatClampNeg dp.toNatClampNeg n.toNatClampNeg h) (c' := copied ca cb sp dp n) rfl rfl rfl (fun x j hx => ⟨rfl, rfl, congrFun (upA_ne hx) j⟩) (by simp [Array.getElem?_setIfInBounds, hl]) ⟨by rw [facts.2.1]; exact cb2.1, by rw [facts.2.1]; exact cb2.2.1, fun _ => by rw [facts.2.1]; exact cb2.2.2.1 hb, ?_, ?_⟩ (by simp) (fun q hq => by simp [Array.getElem?_setIfInBounds, Ne.symm hq])
          · show ∀ q, clT[(hK h b).1]? = some q → _
            intro q hq
            have := clT_lt hq
            omega
          · show 100 ≤ (hK h b).1 → _
            intro _
            refine ⟨⟨⟨by rw [facts.2.1]; exact cb2.2.1, by rw [facts.1]; exact cb4.1.2⟩, fun _ => by rw [facts.1]; exact cb4.2 hb⟩, SzOk.eq facts.2.2.1 cb3, fun j hj => ?_⟩
            have hj : j < (hK h b).2 := hj
            rw [copied_get cb3.1 fa fb h4 h5 hj]
            show some _ = some (fv G (atT (hK h b).1) (cpR a b sp.toNatClampNeg dp.toNatClampNeg n.toNatClampNeg h) b j)
            rw [kb]
            show some _ = some ((fun r => va_rf (Option.map (rho G) r)) (upA (hR h) b (va_cpy (hR h a) (hR h b) sp.toNatClampNeg dp.toNatClampNeg n.toNatClampNeg) b j))
            rw [upA_eq]
            unfold va_cpy
            split <;> rfl
        · rcases List.mem_append.mp hq with w | w
          · exact c q w
          · obtain ⟨y, -, hy⟩ := List.mem_map.mp w
            rw [← hy]
            exact hB
      · cases hf
theorem v_ldcM (ok : Ok G X own cc nL d h0) {index : Nat} (hl : Cond.classLink own index "[Ljava/lang/Object;" ∈ lw_all) (hd : decode cc pc = .ok (.ldc index, 2)) (k : V G X nL h0 Q h (pc + 2) lv (vr (some 116) :: st)) : V G X nL h0 Q h pc lv st := by
  intro H locs ls a b c e
  have k2 := k H locs ls a b c e
  have hr : cv G (vr (some 116)) = .ref (g_ad G 116) := by show va_rf (some (rho G 116)) = _; rw [rho, if_pos (by decide)]; rfl
  rw [List.map_cons, hr] at k2
  exact va_ldcM ok.1 ok.2.1 ok.2.2.2.1 (gw ok hl) (va_Mi.moved ok.2.2.2.2.1.alike ok.2.2.2.2.2.2.1.2.2.2.2.2.2) hd k2
theorem v_getC (ok : Ok G X own cc nL d h0) {index : Nat} {r : Option Nat} (q1 : Cond.methodLink own index ⟨"java/lang/Object", "getClass", "()Ljava/lang/Class;"⟩ ∈ lw_all) (q2 : Cond.declares ⟨"java/lang/Object", "getClass", "()Ljava/lang/Class;"⟩ ∈ lw_tbl) (q3 : Cond.selects "[Ljava/lang/Object;" ⟨"java/lang/Object", "getClass", "()Ljava/lang/Class;"⟩ ⟨"java/lang/Object", "getClass", "()Ljava/lang/Class;"⟩ ∈ lw_all) (q4 : Cond.instanceMethod ⟨"java/lang/Object", "getClass", "()Ljava/lang/Class;"⟩ ∈ lw_all) (q5 : Cond.native ⟨"java/lang/Object", "getClass", "()Ljava/lang/Class;"⟩ ∈ lw_all) (hd1 : 2 ≤ d) (h8 : (st.map ctN).sum ≤ 12) (hd : decode cc pc = .ok (.invokevirtual index, 3)) {f : Nat → Option τ} (hf : (isA4 r h).bind f = some z) (kk : ∀ a, f a = some z → V G X nL h0 Q h (pc + 3) lv (vr (some 116) :: st)) : V G X nL h0 Q h pc lv (vr r :: st) := by
  obtain ⟨a, ha, hz⟩ := ob hf
  cases r with
  | none => cases ha
  | some a0 =>
    simp only [isA4] at ha
    split at ha
    · rename_i hK9
      obtain ⟨hK, hnc⟩ := hK9
      cases ha
      intro H locs ls A b c e
      have hroom := ok.2.2.2.2.2.2.2
      have k2 := kk _ hz H locs ls A b c e
      have hr : cv G (vr (some 116)) = .ref (g_ad G 116) := by show va_rf (some (rho G 116)) = _; rw [rho, if_pos (by decide)]; rfl
      rw [List.map_cons, hr] at k2
      obtain ⟨cell, c1, c2, c3, -, c5, -⟩ := A.arr (by decide) (by decide) hK
      obtain ⟨kA, comp, k1, -⟩ := gAK ok (t := 104) (by decide) (by decide)
      exact va_getC ok.1 ok.2.1 (ok.2.2.1.trans b.1.symm) ok.2.2.2.1 (gw ok q1) (va_Nw.use rfl (va_Nw.warmD ok.2.2.2.2.1 (gt0 ok.2.2.2.2.2.2.1 q2 rfl))) (gw ok q3) (gw ok q4) (gw ok q5) (va_Mi.moved ok.2.2.2.2.1.alike ok.2.2.2.2.2.2.1.2.2.2.2.2.2) ⟨cell, c1, by cases hz : cell.vm with | statics x => exact absurd hz (c3 x) | _ => rfl, by rw [c5.2 hnc]; exact k1⟩ (Nat.le_trans (by show 1 ≤ d; omega) hroom.1) (Nat.le_trans (by show _ ≤ 64 * d; rw [ctN_eq]; omega) hroom.2.2.2) hd k2
    · cases ha
end VRows6
