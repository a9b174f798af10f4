set_option maxRecDepth 100000
def cst (L : List Nat) (r : Option Nat) (h : AH) : Option Unit := match r with
  | none => some ()
  | some a => if (hK h a).1 ∈ L ∧ (100 ≤ (hK h a).1 → NC ≤ a) then some () else none
def inst (L : List Nat) (r : Option Nat) (h : AH) : Option Int32 := match r with
  | none => some 0
  | some a => if (hK h a).1 ∈ L ∧ (100 ≤ (hK h a).1 → NC ≤ a) then some 1 else none
def sR (t : Nat) (L : List Nat) (r : Option Nat) (i : Int32) (v : Option Nat) (h : AH) : Option AH := match r, v with
  | some a, some b => if (hK h a).1 = t ∧ NC ≤ a ∧ (¬ i < 0 ∧ i.toNatClampNeg < (hK h a).2) ∧ (hK h b).1 ∈ L ∧ (100 ≤ (hK h b).1 → NC ≤ b) then some (wR a i.toNatClampNeg (some b) h) else none
  | _, _ => none
/-- the kind t may be cast to the class nm -/
def CK (nm : String) (t : Nat) : Prop := (∃ q, clT[t]? = some q ∧ (q.1 = nm ∨ Cond.castable q.1 nm ∈ lw_tbl)) ∨ (100 ≤ t ∧ t ≤ 107 ∧ "[" ++ (atT t).toString = nm)
section VRows5
variable {G : GT} {X : CX} {nL d : Nat} {h0 h : AH} {Q : State → Prop} {pc : Nat} {lv : List (Nat × AV)} {st stk : List AV} {own : String} {cc : ByteArray} {τ : Type} {z : τ}
theorem ck_asg (ok : Ok G X own cc nL d h0) {H : Heap} (A : Abs G h H) {nm : String} {a : Nat} (hc : CK nm (hK h a).1) (hnc : 100 ≤ (hK h a).1 → NC ≤ a) : ∃ cell cT, H[rho G a]? = some cell ∧ cell.vm.isStatics = false ∧ X.2.2.2.2.1.vm.findClass nm = some cT ∧ X.2.2.2.2.1.vm.assignable cell.cls cT = true ∧ ∃ kv, X.2.2.2.2.1.vm.classes[cell.cls]? = some kv := by
  rcases hc with ⟨q, hq, hc⟩ | ⟨h1, h2, h3⟩
  · obtain ⟨cell, c1, c2, c3, -, c5, -⟩ := A.obj hq rfl
    obtain ⟨hS, hfc, kC, hkC, hkind⟩ := gKn ok hq
    have hst : cell.vm.isStatics = false := by cases hz : cell.vm with | statics x => exact absurd hz (c3 x) | _ => rfl
    rcases hc with rfl | hc
    · exact ⟨cell, _, c1, hst, hfc, by rw [c5]; exact va_asg _ _, kC, by rw [c5]; exact hkC⟩
    · obtain ⟨c0, t0, f1, f2, f3⟩ := Cond.castable_spec (va_Nw.use (A := #[]) rfl (va_Nw.warmC ok.2.2.2.2.1 (gt0 ok.2.2.2.2.2.2.1 hc rfl)))
      have e : c0 = g_C G (hK h a).1 := Option.some.inj (f1.symm.trans hfc)
      exact ⟨cell, t0, c1, hst, f2, by rw [c5, ← e]; exact f3, kC, by rw [c5]; exact hkC⟩
  · obtain ⟨cell, c1, c2, c3, -, c5, -⟩ := A.arr h1 h2 rfl
    obtain ⟨kA, comp, k1, k2, -⟩ := gAK ok h1 h2
    have hst : cell.vm.isStatics = false := by cases hz : cell.vm with | statics x => exact absurd hz (c3 x) | _ => rfl
    exact ⟨cell, _, c1, hst, by rw [← h3]; exact k1, by rw [c5.2 (hnc h1)]; exact va_asg _ _, kA, by rw [c5.2 (hnc h1)]; exact k2⟩
theorem v_cast_ (ok : Ok G X own cc nL d h0) {nm : String} {index : Nat} {L : List Nat} (hck : ∀ t ∈ L, CK nm t) (hl : Cond.classLink own index nm ∈ lw_all) {r : Option Nat} (hd : decode cc pc = .ok (.checkcast index, 3)) {f : Unit → Option τ} (hf : (cst L r h).bind f = some z) (kk : f () = some z → V G X nL h0 Q h (pc + 3) lv (vr r :: st)) : V G X nL h0 Q h pc lv (vr r :: st) := by
  intro H locs ls A b c e
  cases r with
  | none => exact lv_castN ok.1 ok.2.1 hd (kk hf H locs ls A b c e)
  | some a =>
    simp only [cst] at hf
    split at hf
    · rename_i hm
      obtain ⟨cell, cT, g1, g2, g3, g4, -⟩ := ck_asg ok A (hck _ hm.1) hm.2
      intro T hT S
      obtain ⟨vm', X', st'⟩ := S.checkcastYes ok.1 ok.2.2.2.1 (gw ok hl) (by rw [hT]; exact g1) g2 g3 g4 (g := F0 X.2.2.2.2.2.1 pc ls ((vr (some a) :: st).map (cv G))) rfl rfl (by rw [ok.2.1]; exact hd)
      obtain ⟨t, a1, b1⟩ := kk hf H locs ls A b c e (T.setVm vm') hT X'
      exact ⟨t, st' t a1, b1⟩
    · cases hf
theorem v_inst (ok : Ok G X own cc nL d h0) {nm : String} {index : Nat} {L : List Nat} (hck : ∀ t ∈ L, CK nm t) (hl : Cond.classLink own index nm ∈ lw_all) {r : Option Nat} (hd : decode cc pc = .ok (.instanceof index, 3)) {f : Int32 → Option τ} (hf : (inst L r h).bind f = some z) (kk : ∀ v, f v = some z → V G X nL h0 Q h (pc + 3) lv (vi v :: st)) : V G X nL h0 Q h pc lv (vr r :: st) := by
  intro H locs ls A b c e
  cases r with
  | none => exact lv_instN ok.1 ok.2.1 hd (kk 0 hf H locs ls A b c e)
  | some a =>
    simp only [inst] at hf
    split at hf
    · rename_i hm
      obtain ⟨cell, cT, g1, g2, g3, g4, -⟩ := ck_asg ok A (hck _ hm.1) hm.2
      intro T hT S
      obtain ⟨vm', X', st'⟩ := S.instanceofYes ok.1 ok.2.2.2.1 (gw ok hl) (by rw [hT]; exact g1) g2 g3 g4 (g := F0 X.2.2.2.2.2.1 pc ls ((vr (some a) :: st).map (cv G))) rfl rfl (by rw [ok.2.1]; exact hd)
      obtain ⟨t, a1, b1⟩ := kk 1 hf H locs ls A b c e (T.setVm vm') hT X'
      exact ⟨t, st' t a1, b1⟩
    · cases hf
/-- what may lie in an array of the kind t -/
def compN (t : Nat) : String := match t with
  | 104 => "java/lang/Object"
  | 105 => "java/lang/String"
  | 106 => "[I"
  | _ => "TurnedBoards$State"
theorem v_aast (ok : Ok G X own cc nL d h0) {t : Nat} (ht1 : 104 ≤ t) (ht2 : t ≤ 107) {L : List Nat} (hck : ∀ k ∈ L, CK (compN t) k) {r v : Option Nat} {i : Int32} (hd : decode cc pc = .ok (.aastore, 1)) {f : AH → Option τ} (hf : (sR t L r i v h).bind f = some z) (kk : ∀ h', f h' = some z → V G X nL h0 Q h' (pc + 1) lv st) : V G X nL h0 Q h pc lv (vr v :: vi i :: vr r :: st) := by
  intro H locs ls A b c e
  cases r with
  | none => cases hf
  | some a0 =>
    cases v with
    | none => cases hf
    | some b0 =>
      simp only [sR] at hf
      split at hf
      · rename_i hC
        obtain ⟨hk, ha, hi, hm, hm2⟩ := hC
        obtain ⟨cell, c1, c2, c3, c4⟩ := A.cellA (a := a0) (by omega) (by omega)
        obtain ⟨cellV, cT, g1, g2, g3, g4, kv, hkv⟩ := ck_asg ok A (hck _ hm) hm2
        obtain ⟨kA, comp, k1, k2, k3, k4, k5⟩ := gAK ok (t := t) (by omega) (by omega)
        have hcomp : X.2.2.2.2.1.vm.findClass (compN t) = some comp := by
          have ht : t = 104 ∨ t = 105 ∨ t = 106 ∨ t = 107 := by omega
          rcases ht with rfl | rfl | rfl | rfl
          · exact k4 _ rfl
          · exact k4 _ rfl
          · exact k5 _ rfl
          · exact k4 _ rfl
        have hcT : cT = comp := Option.some.inj (g3.symm.trans hcomp)
        subst hcT
        have href : (atT t).isReference = true := by
          have ht : t = 104 ∨ t = 105 ∨ t = 106 ∨ t = 107 := by omega
          rcases ht with rfl | rfl | rfl | rfl <;> rfl
        have hfv : ∀ h' : AH, ∀ x y, fv G (atT t) h' x y = va_rf ((hR h' x y).map (rho G)) := by
          intro h' x y
          have ht : t = 104 ∨ t = 105 ∨ t = 106 ∨ t = 107 := by omega
          rcases ht with rfl | rfl | rfl | rfl <;> rfl
        have hB : g_B G ≤ rho G a0 := by rw [rho_ge ha]; exact Nat.le_add_right _ _
        obtain ⟨kc, hkc, -⟩ := Vm.findClass_spec g3
        refine W.aast ok.1 ok.2.1 c1 c2.2.1 c2.1 (by rw [c4.2 ha, hk]; exact k2) k3 href hkc ⟨hi.1, Nat.lt_of_lt_of_le hi.2 c3.1⟩ g1 (fun q hz => by rw [hz] at g2; cases g2) hkv g4 rfl rfl hd (fun H' e1 e2 e3 => ?_)
        refine kk _ hf H' _ ls ?_ b (locs_add c hB) e
        exact A.ast ok.2.2.2.2.2.2.1 ha (by rw [hk]; omega) hi.2 c2 rfl rfl rfl (fun x j hx => ⟨rfl, rfl, up2_ne hx⟩) (by rw [hk, hfv]; exact congrArg (fun x => va_rf (Option.map (rho G) x)) up2_eq) e1 e2 e3
      · cases hf
theorem v_anew (ok : Ok G X own cc nL d h0) {t index : Nat} {C : String} (ht1 : 104 ≤ t) (ht2 : t ≤ 107) (hty : atT t = .object C) (hl : Cond.classLink own index C ∈ lw_all) (hq : Cond.arrayOver (.object C) ∈ lw_tbl) {n : Int32} (hd : decode cc pc = .ok (.anewarray index, 3)) {f : Option Nat → AH → Option τ} (hf : b2 (newA t n h) f = some z) (kk : ∀ r h', f r h' = some z → V G X nL h0 Q h' (pc + 3) lv (vr r :: st)) : V G X nL h0 Q h pc lv (vi n :: st) := by
  by_cases h1 : n < 0
  · rw [newA, if_pos h1] at hf; cases hf
  rw [newA, if_neg h1, alloc] at hf
  by_cases h2 : hn h + 1 ≤ CMX ∧ hs h + n.toNatClampNeg ≤ SMX
  · rw [if_pos h2] at hf
    intro H locs ls a b c e
    have hroom := ok.2.2.2.2.2.2.2
    have hov : va_AO C X.2.2.2.2.1 := va_AO.moved ok.2.2.2.2.1.alike (by obtain ⟨A0, ht⟩ := ok.2.2.2.2.2.2.1.1; exact va_AO.of (ht _ hq))
    refine W.anew ok.1 ok.2.1 ok.2.2.2.1 (gw ok hl) (va_AO.use hov) rfl hd rfl h1 ?_ ?_ ?_ (fun cA kA comp f1 f2 f3 f4 => ?_)
    · have h3 : n.toNatClampNeg ≤ 6471184 := by have := h2.2; unfold SMX at this; omega
      omega
    · exact Nat.le_trans (by show _ ≤ CMX - hn h0; omega) hroom.2.1
    · exact Nat.le_trans (by show _ ≤ SMX - hs h0; omega) hroom.2.2.1
    · have hcA : cA = g_A G t := by
        obtain ⟨_, _, k1, -⟩ := gAK ok (t := t) (by omega) ht2
        rw [hty] at k1
        exact Option.some.inj (f1.symm.trans k1)
      have k2 := kk _ _ hf (H.push { cls := cA, slots := Array.replicate n.toNatClampNeg .null, vm := .none }) locs ls ?_ b c ⟨Nat.le_trans e.1 (Nat.le_add_right _ 1), Nat.le_trans e.2 (Nat.le_add_right _ _)⟩
      · have i1 : hn (mk t n.toNatClampNeg n.toNatClampNeg h) - hn h0 = hn h - hn h0 + 1 := by show hn h + 1 - hn h0 = _; omega
        have i2 : hs (mk t n.toNatClampNeg n.toNatClampNeg h) - hs h0 = hs h - hs h0 + n.toNatClampNeg := by show hs h + _ - hs h0 = _; omega
        rw [i1, i2] at k2
        have hr : cv G (vr (some (hn h))) = .ref H.size := by show va_rf (some (rho G (hn h))) = _; rw [rho_ge a.2.1.1, ← a.1]; rfl
        rw [List.map_cons, hr] at k2
        exact k2
      · refine a.push (c' := { cls := cA, slots := Array.replicate n.toNatClampNeg .null, vm := .none }) ok.2.2.2.2.2.2.1 h2.1 h2.2 (by simp) (by simp) (fun q hq => by rw [Array.getElem?_push, if_neg (Nat.ne_of_lt hq)]) ⟨(fun z => by cases z), (fun q z => by cases z), fun _ => rfl, ?_, ?_⟩
        · show ∀ q, clT[(upA (hK h) (hn h) (t, n.toNatClampNeg) (hn h)).1]? = some q → _
          rw [upA_eq]
          intro q hq
          have := clT_lt hq
          omega
        · have hkk : hK (mk t n.toNatClampNeg n.toNatClampNeg h) (hn h) = (t, n.toNatClampNeg) := upA_eq
          rw [hkk]
          intro _
          refine ⟨⟨State.isArrayOf_alike ok.2.2.2.2.1.alike.symm ⟨(fun q z => by cases z), kA, f2, comp, by rw [f3, ← hty]⟩, fun _ => hcA⟩, SzOk.ex (by simp), fun j hj => ?_⟩
          have hR0 : hR (mk t n.toNatClampNeg n.toNatClampNeg h) (hn h) j = none := congrFun upA_eq j
          show _ = some (fv G (atT t) (mk t n.toNatClampNeg n.toNatClampNeg h) (hn h) j)
          rw [hty]
          show _ = some (va_rf ((hR (mk t n.toNatClampNeg n.toNatClampNeg h) (hn h) j).map (rho G)))
          rw [hR0]
          have hj : j < n.toNatClampNeg := hj
          simp [hj, va_rf]
  · rw [if_neg h2] at hf; cases hf
theorem v_cVNi (ok : Ok G X own cc nL d h0) {ci index : Nat} (q : vw_C) (hq : clT[ci]? = some q) {y : MethodName} {bytes : ByteArray} {maxL d' : Nat} {ret : Option FieldType} (as : List AV) {r : Option Nat} {F : Nat → Option (Int32 × AH)} (mm : ∀ a v h1, r = some a → F a = some (v, h1) → MM G X.2.1 y bytes maxL ret d' (vr (some a) :: as) h (some (vi v)) h1) (hd' : d' + 1 ≤ d) (cw : CW y bytes maxL ret as.length) {host : String} (q1 : Cond.methodLinkNest own index y host ∈ lw_tbl) (q2 : Cond.instanceMethod y ∈ lw_all) (q3 : Cond.selects q.1 y y ∈ lw_all)
    (hd : decode cc pc = .ok (.invokevirtual index, 3)) (st : List AV) (hst : stk = as.reverse ++ vr r :: st) (h8 : (st.map ctN).sum ≤ 12) {f : Int32 → AH → Option τ} (hf : ((isO ci r h).bind fun a => b2 (F a) f) = some z) (kk : ∀ v h1, f v h1 = some z → V G X nL h0 Q h1 (pc + 3) lv (vi v :: st)) : V G X nL h0 Q h pc lv stk := by
  obtain ⟨a, ha, hg⟩ := ob hf
  obtain ⟨v, h1, hv, hz⟩ := ob2 hg
  cases r with
  | none => cases ha
  | some a0 =>
    simp only [isO] at ha
    split at ha
    · rename_i hKa
      cases ha
      exact v_cVN ok hq hKa (mm _ v h1 rfl hv) hd' cw q1 q2 q3 hd hst h8 (kk v h1 hz)
    · cases ha
theorem v_cFi (ok : Ok G X own cc nL d h0) {ci index : Nat} (q : vw_C) (hq : clT[ci]? = some q) {y : MethodName} {bytes : ByteArray} {maxL d' : Nat} {ret : Option FieldType} (as : List AV) {r : Option Nat} {F : Nat → Option (Int32 × AH)} (mm : ∀ a v h1, r = some a → F a = some (v, h1) → MM G X.2.1 y bytes maxL ret d' (vr (some a) :: as) h (some (vi v)) h1) (hd' : d' + 1 ≤ d) (cw : CW y bytes maxL ret as.length) {x : MethodName} {count : Nat} (q1 : Cond.methodLink own index x ∈ lw_all) (q2 : Cond.instanceMethod y ∈ lw_all) (cf : CWF q.1 x y)
    (hd : decode cc pc = .ok (.invokeinterface index count, 5)) (st : List AV) (hst : stk = as.reverse ++ vr r :: st) (h8 : (st.map ctN).sum ≤ 12) {f : Int32 → AH → Option τ} (hf : ((isO ci r h).bind fun a => b2 (F a) f) = some z) (kk : ∀ v h1, f v h1 = some z → V G X nL h0 Q h1 (pc + 5) lv (vi v :: st)) : V G X nL h0 Q h pc lv stk := by
  obtain ⟨a, ha, hg⟩ := ob hf
  obtain ⟨v, h1, hv, hz⟩ := ob2 hg
  cases r with
  | none => cases ha
  | some a0 =>
    simp only [isO] at ha
    split at ha
    · rename_i hKa
      cases ha
      exact v_cF ok hq hKa (mm _ v h1 rfl hv) hd' cw q1 q2 cf hd hst h8 (kk v h1 hz)
    · cases ha
theorem v_cUi (ok : Ok G X own cc nL d h0) {ci index : Nat} (q : vw_C) (hq : clT[ci]? = some q) {y : MethodName} {bytes : ByteArray} {maxL d' : Nat} {ret : Option FieldType} (as : List AV) {r : Option Nat} {F : Nat → Option (Int32 × AH)} (mm : ∀ a v h1, r = some a → F a = some (v, h1) → MM G X.2.1 y bytes maxL ret d' (vr (some a) :: as) h (some (vi v)) h1) (hd' : d' + 1 ≤ d) (cw : CW y bytes maxL ret as.length) {x : MethodName} (q1 : Cond.methodLink own index x ∈ lw_all) (q2 : Cond.instanceMethod y ∈ lw_all) (cf : CWU q.1 x y)
    (hd : decode cc pc = .ok (.invokevirtual index, 3)) (st : List AV) (hst : stk = as.reverse ++ vr r :: st) (h8 : (st.map ctN).sum ≤ 12) {f : Int32 → AH → Option τ} (hf : ((isO ci r h).bind fun a => b2 (F a) f) = some z) (kk : ∀ v h1, f v h1 = some z → V G X nL h0 Q h1 (pc + 3) lv (vi v :: st)) : V G X nL h0 Q h pc lv stk := by
  obtain ⟨a, ha, hg⟩ := ob hf
  obtain ⟨v, h1, hv, hz⟩ := ob2 hg
  cases r with
  | none => cases ha
  | some a0 =>
    simp only [isO] at ha
    split at ha
    · rename_i hKa
      cases ha
      exact v_cU ok hq hKa (mm _ v h1 rfl hv) hd' cw q1 q2 cf hd hst h8 (kk v h1 hz)
    · cases ha
theorem v_cSNi (ok : Ok G X own cc nL d h0) {index : Nat} {y : MethodName} {bytes : ByteArray} {maxL d' : Nat} {ret : Option FieldType} (as : List AV) {F : Option (Int32 × AH)} (mm : ∀ v h1, F = some (v, h1) → MM G X.2.1 y bytes maxL ret d' as h (some (vi v)) h1) (hd' : d' + 1 ≤ d) (cw : CW y bytes maxL ret as.length) {host : String} (q1 : Cond.methodLinkNest own index y host ∈ lw_tbl) (q2 : Cond.static y ∈ lw_all)
    (hd : decode cc pc = .ok (.invokestatic index, 3)) (st : List AV) (hst : stk = as.reverse ++ st) (h8 : (st.map ctN).sum ≤ 12) {f : Int32 → AH → Option τ} (hf : (b2 F f) = some z) (kk : ∀ v h1, f v h1 = some z → V G X nL h0 Q h1 (pc + 3) lv (vi v :: st)) : V G X nL h0 Q h pc lv stk := by
  have hg := hf
  obtain ⟨v, h1, hv, hz⟩ := ob2 hg
  exact v_cSN ok (mm v h1 hv) hd' cw q1 q2 hd hst h8 (kk v h1 hz)
theorem v_cVNl (ok : Ok G X own cc nL d h0) {ci index : Nat} (q : vw_C) (hq : clT[ci]? = some q) {y : MethodName} {bytes : ByteArray} {maxL d' : Nat} {ret : Option FieldType} (as : List AV) {r : Option Nat} {F : Nat → Option (Int64 × AH)} (mm : ∀ a v h1, r = some a → F a = some (v, h1) → MM G X.2.1 y bytes maxL ret d' (vr (some a) :: as) h (some (vl v)) h1) (hd' : d' + 1 ≤ d) (cw : CW y bytes maxL ret as.length) {host : String} (q1 : Cond.methodLinkNest own index y host ∈ lw_tbl) (q2 : Cond.instanceMethod y ∈ lw_all) (q3 : Cond.selects q.1 y y ∈ lw_all)
    (hd : decode cc pc = .ok (.invokevirtual index, 3)) (st : List AV) (hst : stk = as.reverse ++ vr r :: st) (h8 : (st.map ctN).sum ≤ 12) {f : Int64 → AH → Option τ} (hf : ((isO ci r h).bind fun a => b2 (F a) f) = some z) (kk : ∀ v h1, f v h1 = some z → V G X nL h0 Q h1 (pc + 3) lv (vl v :: st)) : V G X nL h0 Q h pc lv stk := by
  obtain ⟨a, ha, hg⟩ := ob hf
  obtain ⟨v, h1, hv, hz⟩ := ob2 hg
  cases r with
  | none => cases ha
  | some a0 =>
    simp only [isO] at ha
    split at ha
    · rename_i hKa
      cases ha
      exact v_cVN ok hq hKa (mm _ v h1 rfl hv) hd' cw q1 q2 q3 hd hst h8 (kk v h1 hz)
    · cases ha
theorem v_cFl (ok : Ok G X own cc nL d h0) {ci index : Nat} (q : vw_C) (hq : clT[ci]? = some q) {y : MethodName} {bytes : ByteArray} {maxL d' : Nat} {ret : Option FieldType} (as : List AV) {r : Option Nat} {F : Nat → Option (Int64 × AH)} (mm : ∀ a v h1, r = some a → F a = some (v, h1) → MM G X.2.1 y bytes maxL ret d' (vr (some a) :: as) h (some (vl v)) h1) (hd' : d' + 1 ≤ d) (cw : CW y bytes maxL ret as.length) {x : MethodName} {count : Nat} (q1 : Cond.methodLink own index x ∈ lw_all) (q2 : Cond.instanceMethod y ∈ lw_all) (cf : CWF q.1 x y)
    (hd : decode cc pc = .ok (.invokeinterface index count, 5)) (st : List AV) (hst : stk = as.reverse ++ vr r :: st) (h8 : (st.map ctN).sum ≤ 12) {f : Int64 → AH → Option τ} (hf : ((isO ci r h).bind fun a => b2 (F a) f) = some z) (kk : ∀ v h1, f v h1 = some z → V G X nL h0 Q h1 (pc + 5) lv (vl v :: st)) : V G X nL h0 Q h pc lv stk := by
  obtain ⟨a, ha, hg⟩ := ob hf
  obtain ⟨v, h1, hv, hz⟩ := ob2 hg
  cases r with
  | none => cases ha
  | some a0 =>
    simp only [isO] at ha
    split at ha
    · rename_i hKa
      cases ha
      exact v_cF ok hq hKa (mm _ v h1 rfl hv) hd' cw q1 q2 cf hd hst h8 (kk v h1 hz)
    · cases ha
theorem v_cUl (ok : Ok G X own cc nL d h0) {ci index : Nat} (q : vw_C) (hq : clT[ci]? = some q) {y : MethodName} {bytes : ByteArray} {maxL d' : Nat} {ret : Option FieldType} (as : List AV) {r : Option Nat} {F : Nat → Option (Int64 × AH)} (mm : ∀ a v h1, r = some a → F a = some (v, h1) → MM G X.2.1 y bytes maxL ret d' (vr (some a) :: as) h (some (vl v)) h1) (hd' : d' + 1 ≤ d) (cw : CW y bytes maxL ret as.length) {x : MethodName} (q1 : Cond.methodLink own index x ∈ lw_all) (q2 : Cond.instanceMethod y ∈ lw_all) (cf : CWU q.1 x y)
    (hd : decode cc pc = .ok (.invokevirtual index, 3)) (st : List AV) (hst : stk = as.reverse ++ vr r :: st) (h8 : (st.map ctN).sum ≤ 12) {f : Int64 → AH → Option τ} (hf : ((isO ci r h).bind fun a => b2 (F a) f) = some z) (kk : ∀ v h1, f v h1 = some z → V G X nL h0 Q h1 (pc + 3) lv (vl v :: st)) : V G X nL h0 Q h pc lv stk := by
  obtain ⟨a, ha, hg⟩ := ob hf
  obtain ⟨v, h1, hv, hz⟩ := ob2 hg
  cases r with
  | none => cases ha
  | some a0 =>
    simp only [isO] at ha
    split at ha
    · rename_i hKa
      cases ha
      exact v_cU ok hq hKa (mm _ v h1 rfl hv) hd' cw q1 q2 cf hd hst h8 (kk v h1 hz)
    · cases ha
theorem v_cSNl (ok : Ok G X own cc nL d h0) {index : Nat} {y : MethodName} {bytes : ByteArray} {maxL d' : Nat} {ret : Option FieldType} (as : List AV) {F : Option (Int64 × AH)} (mm : ∀ v h1, F = some (v, h1) → MM G X.2.1 y bytes maxL ret d' as h (some (vl v)) h1) (hd' : d' + 1 ≤ d) (cw : CW y bytes maxL ret as.length) {host : String} (q1 : Cond.methodLinkNest own index y host ∈ lw_tbl) (q2 : Cond.static y ∈ lw_all)
    (hd : decode cc pc = .ok (.invokestatic index, 3)) (st : List AV) (hst : stk = as.reverse ++ st) (h8 : (st.map ctN).sum ≤ 12) {f : Int64 → AH → Option τ} (hf : (b2 F f) = some z) (kk : ∀ v h1, f v h1 = some z → V G X nL h0 Q h1 (pc + 3) lv (vl v :: st)) : V G X nL h0 Q h pc lv stk := by
  have hg := hf
  obtain ⟨v, h1, hv, hz⟩ := ob2 hg
  exact v_cSN ok (mm v h1 hv) hd' cw q1 q2 hd hst h8 (kk v h1 hz)
theorem v_cVNr (ok : Ok G X own cc nL d h0) {ci index : Nat} (q : vw_C) (hq : clT[ci]? = some q) {y : MethodName} {bytes : ByteArray} {maxL d' : Nat} {ret : Option FieldType} (as : List AV) {r : Option Nat} {F : Nat → Option (Option Nat × AH)} (mm : ∀ a v h1, r = some a → F a = some (v, h1) → MM G X.2.1 y bytes maxL ret d' (vr (some a) :: as) h (some (vr v)) h1) (hd' : d' + 1 ≤ d) (cw : CW y bytes maxL ret as.length) {host : String} (q1 : Cond.methodLinkNest own index y host ∈ lw_tbl) (q2 : Cond.instanceMethod y ∈ lw_all) (q3 : Cond.selects q.1 y y ∈ lw_all)
    (hd : decode cc pc = .ok (.invokevirtual index, 3)) (st : List AV) (hst : stk = as.reverse ++ vr r :: st) (h8 : (st.map ctN).sum ≤ 12) {f : Option Nat → AH → Option τ} (hf : ((isO ci r h).bind fun a => b2 (F a) f) = some z) (kk : ∀ v h1, f v h1 = some z → V G X nL h0 Q h1 (pc + 3) lv (vr v :: st)) : V G X nL h0 Q h pc lv stk := by
  obtain ⟨a, ha, hg⟩ := ob hf
  obtain ⟨v, h1, hv, hz⟩ := ob2 hg
  cases r with
  | none => cases ha
  | some a0 =>
    simp only [isO] at ha
    split at ha
    · rename_i hKa
      cases ha
      exact v_cVN ok hq hKa (mm _ v h1 rfl hv) hd' cw q1 q2 q3 hd hst h8 (kk v h1 hz)
    · cases ha
theorem v_cFr (ok : Ok G X own cc nL d h0) {ci index : Nat} (q : vw_C) (hq : clT[ci]? = some q) {y : MethodName} {bytes : ByteArray} {maxL d' : Nat} {ret : Option FieldType} (as : List AV) {r : Option Nat} {F : Nat → Option (Option Nat × AH)} (mm : ∀ a v h1, r = some a → F a = some (v, h1) → MM G X.2.1 y bytes maxL ret d' (vr (some a) :: as) h (some (vr v)) h1) (hd' : d' + 1 ≤ d) (cw : CW y bytes maxL ret as.length) {x : MethodName} {count : Nat} (q1 : Cond.methodLink own index x ∈ lw_all) (q2 : Cond.instanceMethod y ∈ lw_all) (cf : CWF q.1 x y)
    (hd : decode cc pc = .ok (.invokeinterface index count, 5)) (st : List AV) (hst : stk = as.reverse ++ vr r :: st) (h8 : (st.map ctN).sum ≤ 12) {f : Option Nat → AH → Option τ} (hf : ((isO ci r h).bind fun a => b2 (F a) f) = some z) (kk : ∀ v h1, f v h1 = some z → V G X nL h0 Q h1 (pc + 5) lv (vr v :: st)) : V G X nL h0 Q h pc lv stk := by
  obtain ⟨a, ha, hg⟩ := ob hf
  obtain ⟨v, h1, hv, hz⟩ := ob2 hg
  cases r with
  | none => cases ha
  | some a0 =>
    simp only [isO] at ha
    split at ha
    · rename_i hKa
      cases ha
      exact v_cF ok hq hKa (mm _ v h1 rfl hv) hd' cw q1 q2 cf hd hst h8 (kk v h1 hz)
    · cases ha
theorem v_cUr (ok : Ok G X own cc nL d h0) {ci index : Nat} (q : vw_C) (hq : clT[ci]? = some q) {y : MethodName} {bytes : ByteArray} {maxL d' : Nat} {ret : Option FieldType} (as : List AV) {r : Option Nat} {F : Nat → Option (Option Nat × AH)} (mm : ∀ a v h1, r = some a → F a = some (v, h1) → MM G X.2.1 y bytes maxL ret d' (vr (some a) :: as) h (some (vr v)) h1) (hd' : d' + 1 ≤ d) (cw : CW y bytes maxL ret as.length) {x : MethodName} (q1 : Cond.methodLink own index x ∈ lw_all) (q2 : Cond.instanceMethod y ∈ lw_all) (cf : CWU q.1 x y)
    (hd : decode cc pc = .ok (.invokevirtual index, 3)) (st : List AV) (hst : stk = as.reverse ++ vr r :: st) (h8 : (st.map ctN).sum ≤ 12) {f : Option Nat → AH → Option τ} (hf : ((isO ci r h).bind fun a => b2 (F a) f) = some z) (kk : ∀ v h1, f v h1 = some z → V G X nL h0 Q h1 (pc + 3) lv (vr v :: st)) : V G X nL h0 Q h pc lv stk := by
  obtain ⟨a, ha, hg⟩ := ob hf
  obtain ⟨v, h1, hv, hz⟩ := ob2 hg
  cases r with
  | none => cases ha
  | some a0 =>
    simp only [isO] at ha
    split at ha
    · rename_i hKa
      cases ha
      exact v_cU ok hq hKa (mm _ v h1 rfl hv) hd' cw q1 q2 cf hd hst h8 (kk v h1 hz)
    · cases ha
theorem v_cSNr (ok : Ok G X own cc nL d h0) {index : Nat} {y : MethodName} {bytes : ByteArray} {maxL d' : Nat} {ret : Option FieldType} (as : List AV) {F : Option (Option Nat × AH)} (mm : ∀ v h1, F = some (v, h1) → MM G X.2.1 y bytes maxL ret d' as h (some (vr v)) h1) (hd' : d' + 1 ≤ d) (cw : CW y bytes maxL ret as.length) {host : String} (q1 : Cond.methodLinkNest own index y host ∈ lw_tbl) (q2 : Cond.static y ∈ lw_all)
    (hd : decode cc pc = .ok (.invokestatic index, 3)) (st : List AV) (hst : stk = as.reverse ++ st) (h8 : (st.map ctN).sum ≤ 12) {f : Option Nat → AH → Option τ} (hf : (b2 F f) = some z) (kk : ∀ v h1, f v h1 = some z → V G X nL h0 Q h1 (pc + 3) lv (vr v :: st)) : V G X nL h0 Q h pc lv stk := by
  have hg := hf
  obtain ⟨v, h1, hv, hz⟩ := ob2 hg
  exact v_cSN ok (mm v h1 hv) hd' cw q1 q2 hd hst h8 (kk v h1 hz)
theorem v_cVNv (ok : Ok G X own cc nL d h0) {ci index : Nat} (q : vw_C) (hq : clT[ci]? = some q) {y : MethodName} {bytes : ByteArray} {maxL d' : Nat} {ret : Option FieldType} (as : List AV) {r : Option Nat} {F : Nat → Option (AH)} (mm : ∀ a h1, r = some a → F a = some h1 → MM G X.2.1 y bytes maxL ret d' (vr (some a) :: as) h (none) h1) (hd' : d' + 1 ≤ d) (cw : CW y bytes maxL ret as.length) {host : String} (q1 : Cond.methodLinkNest own index y host ∈ lw_tbl) (q2 : Cond.instanceMethod y ∈ lw_all) (q3 : Cond.selects q.1 y y ∈ lw_all)
    (hd : decode cc pc = .ok (.invokevirtual index, 3)) (st : List AV) (hst : stk = as.reverse ++ vr r :: st) (h8 : (st.map ctN).sum ≤ 12) {f : AH → Option τ} (hf : ((isO ci r h).bind fun a => (F a).bind f) = some z) (kk : ∀ h1, f h1 = some z → V G X nL h0 Q h1 (pc + 3) lv (st)) : V G X nL h0 Q h pc lv stk := by
  obtain ⟨a, ha, hg⟩ := ob hf
  obtain ⟨h1, hv, hz⟩ := ob hg
  cases r with
  | none => cases ha
  | some a0 =>
    simp only [isO] at ha
    split at ha
    · rename_i hKa
      cases ha
      exact v_cVN ok hq hKa (mm _ h1 rfl hv) hd' cw q1 q2 q3 hd hst h8 (kk h1 hz)
    · cases ha
theorem v_cFv (ok : Ok G X own cc nL d h0) {ci index : Nat} (q : vw_C) (hq : clT[ci]? = some q) {y : MethodName} {bytes : ByteArray} {maxL d' : Nat} {ret : Option FieldType} (as : List AV) {r : Option Nat} {F : Nat → Option (AH)} (mm : ∀ a h1, r = some a → F a = some h1 → MM G X.2.1 y bytes maxL ret d' (vr (some a) :: as) h (none) h1) (hd' : d' + 1 ≤ d) (cw : CW y bytes maxL ret as.length) {x : MethodName} {count : Nat} (q1 : Cond.methodLink own index x ∈ lw_all) (q2 : Cond.instanceMethod y ∈ lw_all) (cf : CWF q.1 x y)
    (hd : decode cc pc = .ok (.invokeinterface index count, 5)) (st : List AV) (hst : stk = as.reverse ++ vr r :: st) (h8 : (st.map ctN).sum ≤ 12) {f : AH → Option τ} (hf : ((isO ci r h).bind fun a => (F a).bind f) = some z) (kk : ∀ h1, f h1 = some z → V G X nL h0 Q h1 (pc + 5) lv (st)) : V G X nL h0 Q h pc lv stk := by
  obtain ⟨a, ha, hg⟩ := ob hf
  obtain ⟨h1, hv, hz⟩ := ob hg
  cases r with
  | none => cases ha
  | some a0 =>
    simp only [isO] at ha
    split at ha
    · rename_i hKa
      cases ha
      exact v_cF ok hq hKa (mm _ h1 rfl hv) hd' cw q1 q2 cf hd hst h8 (kk h1 hz)
    · cases ha
theorem v_cUv (ok : Ok G X own cc nL d h0) {ci index : Nat} (q : vw_C) (hq : clT[ci]? = some q) {y : MethodName} {bytes : ByteArray} {maxL d' : Nat} {ret : Option FieldType} (as : List AV) {r : Option Nat} {F : Nat → Option (AH)} (mm : ∀ a h1, r = some a → F a = some h1 → MM G X.2.1 y bytes maxL ret d' (vr (some a) :: as) h (none) h1) (hd' : d' + 1 ≤ d) (cw : CW y bytes maxL ret as.length) {x : MethodName} (q1 : Cond.methodLink own index x ∈ lw_all) (q2 : Cond.instanceMethod y ∈ lw_all) (cf : CWU q.1 x y)
    (hd : decode cc pc = .ok (.invokevirtual index, 3)) (st : List AV) (hst : stk = as.reverse ++ vr r :: st) (h8 : (st.map ctN).sum ≤ 12) {f : AH → Option τ} (hf : ((isO ci r h).bind fun a => (F a).bind f) = some z) (kk : ∀ h1, f h1 = some z → V G X nL h0 Q h1 (pc + 3) lv (st)) : V G X nL h0 Q h pc lv stk := by
  obtain ⟨a, ha, hg⟩ := ob hf
  obtain ⟨h1, hv, hz⟩ := ob hg
  cases r with
  | none => cases ha
  | some a0 =>
    simp only [isO] at ha
    split at ha
    · rename_i hKa
      cases ha
      exact v_cU ok hq hKa (mm _ h1 rfl hv) hd' cw q1 q2 cf hd hst h8 (kk h1 hz)
    · cases ha
theorem v_cSNv (ok : Ok G X own cc nL d h0) {index : Nat} {y : MethodName} {bytes : ByteArray} {maxL d' : Nat} {ret : Option FieldType} (as : List AV) {F : Option (AH)} (mm : ∀ h1, F = some h1 → MM G X.2.1 y bytes maxL ret d' as h (none) h1) (hd' : d' + 1 ≤ d) (cw : CW y bytes maxL ret as.length) {host : String} (q1 : Cond.methodLinkNest own index y host ∈ lw_tbl) (q2 : Cond.static y ∈ lw_all)
    (hd : decode cc pc = .ok (.invokestatic index, 3)) (st : List AV) (hst : stk = as.reverse ++ st) (h8 : (st.map ctN).sum ≤ 12) {f : AH → Option τ} (hf : (F.bind f) = some z) (kk : ∀ h1, f h1 = some z → V G X nL h0 Q h1 (pc + 3) lv (st)) : V G X nL h0 Q h pc lv stk := by
  have hg := hf
  obtain ⟨h1, hv, hz⟩ := ob hg
  exact v_cSN ok (mm h1 hv) hd' cw q1 q2 hd hst h8 (kk h1 hz)
theorem v_cINv (ok : Ok G X own cc nL d h0) {index : Nat} {y : MethodName} {bytes : ByteArray} {maxL d' : Nat} (as : List AV) {r : Option Nat} (hy1 : y.name = "<init>") {F : Nat → Option AH} (mm : ∀ a h1, r = some a → F a = some h1 → MM G X.2.1 y bytes maxL none d' (vr (some a) :: as) h none h1) (hd' : d' + 1 ≤ d) (cw : CW y bytes maxL none as.length) {host : String} (q1 : Cond.methodLinkNest own index y host ∈ lw_tbl) (q2 : Cond.instanceMethod y ∈ lw_all)
    (hd : decode cc pc = .ok (.invokespecial index, 3)) (st : List AV) (hst : stk = as.reverse ++ vr r :: st) (h8 : (st.map ctN).sum ≤ 12) {f : AH → Option τ} (hf : ((nn r).bind fun a => (F a).bind f) = some z) (kk : ∀ h1, f h1 = some z → V G X nL h0 Q h1 (pc + 3) lv st) : V G X nL h0 Q h pc lv stk := by
  obtain ⟨a, ha, hg⟩ := ob hf
  obtain ⟨h1, hv, hz⟩ := ob hg
  cases r with
  | none => cases ha
  | some a0 =>
    cases ha
    exact v_cIN ok hy1 (mm _ h1 rfl hv) hd' cw q1 q2 hd hst h8 (kk h1 hz)
end VRows5
