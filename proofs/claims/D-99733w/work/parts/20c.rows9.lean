set_option maxRecDepth 100000
/-! ===== multianewarray, two dimensions of int ===== -/
theorem aoA_moved {A B : Array Value} {t : FieldType} {u U : State} (hvm : u.vm.Alike U.vm) (h : (Cond.arrayOver (.array t)).before A u = true) : (Cond.arrayOver (.array t)).before B U = true := by
  obtain ⟨comp, c, k, h1, h2, h3, h4, h5⟩ := arrayOverA_spec h
  obtain ⟨k', hk', he⟩ := hvm.2.2 _ _ h3
  have hi : (U.vm.classes.findIdx? fun (x : Class) => match x.kind with | .array component _ => component == comp | _ => false) = some c := by
    rw [hvm.findIdx?_eq _ (fun _ => rfl)]; exact h2
  have hkind : k'.kind = .array comp (.array t) := by rw [he]; exact h4
  have f1 : U.vm.findClass (FieldType.array t).toString = some comp := by rw [hvm.findClass]; exact h1
  have f2 : U.vm.findClass ("[" ++ (FieldType.array t).toString) = some c := by rw [hvm.findClass]; exact h5
  simp only [Cond.before, Cond.holds, Cond.value, f1, Option.bind_some, beq_iff_eq]
  rw [Option.bind_eq_some_iff]
  refine ⟨c, (hvm.findIdx?_eq _ (fun _ => rfl)).trans h2, ?_⟩
  simp [hk', hkind, f2]
def mu (n m : Nat) (h : AH) : Nat → AH
  | 0 => mk 106 n n h
  | i + 1 => wR (hn h) i (some (hn h + 1 + i)) (mk 100 m m (mu n m h i))
theorem mu_facts (n m : Nat) (h : AH) : ∀ i, hn (mu n m h i) = hn h + 1 + i ∧ hs (mu n m h i) = hs h + n + i * m ∧ hK (mu n m h i) (hn h) = (106, n)
  | 0 => ⟨rfl, by show hs h + n = _; rw [Nat.zero_mul]; rfl, upA_eq⟩
  | i + 1 => by
    obtain ⟨a, b, c⟩ := mu_facts n m h i
    refine ⟨?_, ?_, ?_⟩
    · show hn (mu n m h i) + 1 = _
      omega
    · show hs (mu n m h i) + m = _
      rw [b, Nat.succ_mul]; omega
    · show upA (hK (mu n m h i)) (hn (mu n m h i)) (100, m) (hn h) = _
      rw [upA_ne (by omega)]; exact c
theorem mu_abs {G : GT} {h : AH} (hG : Glob G) {U : State} {cA comp : ClassId} {n m : Nat} (hA : Abs G h U.heap) (h1 : hn h + 1 + n ≤ CMX) (h2 : hs h + n + n * m ≤ SMX) (o1 : ∀ N h0 i, (g_s G).isArrayOf (Jvm.Free.Multi.outerC cA N h0 i) (.array .int)) (o2 : ∀ M dv, (g_s G).isArrayOf (Jvm.Free.Multi.innerC comp M dv) .int) (e1 : cA = g_A G 106) (e2 : comp = g_A G 100) :
    ∀ i, i ≤ n → Abs G (mu n m h i) (Jvm.Free.Multi.fill U cA comp n m (.int 0) i).heap
  | 0, _ => by
    refine hA.push (c' := Jvm.Free.Multi.outerC cA n U.heap.size 0) hG (by omega) (by omega) ?_ ?_ ?_ ⟨(fun z => by cases z), (fun q z => by cases z), fun _ => rfl, ?_, ?_⟩
    · simp [Jvm.Free.Multi.fill]
    · simp [Jvm.Free.Multi.fill]
    · intro q hq
      exact State.heap_pushCell_of_lt _ _ hq
    · show ∀ q, clT[(upA (hK h) (hn h) (106, n) (hn h)).1]? = some q → _
      rw [upA_eq]
      intro q hq
      have := clT_lt hq
      omega
    · have hkk : hK (mk 106 n n h) (hn h) = (106, n) := upA_eq
      rw [hkk]
      intro _
      refine ⟨⟨o1 _ _ _, fun _ => e1⟩, SzOk.ex (by simp [Jvm.Free.Multi.outerC]), fun j hj => ?_⟩
      have hR0 : hR (mk 106 n n h) (hn h) j = none := congrFun upA_eq j
      show _ = some (va_rf ((hR (mk 106 n n h) (hn h) j).map (rho G)))
      rw [hR0]
      have hj : j < n := hj
      simp [Jvm.Free.Multi.outerC, hj, va_rf]
  | i + 1, hi => by
    have ih := mu_abs hG hA h1 h2 o1 o2 e1 e2 i (by omega)
    obtain ⟨f1, f2, f3, f4⟩ := Jvm.Free.Multi.fill_facts U cA comp n m (.int 0) i
    obtain ⟨m1, m2, m3⟩ := mu_facts n m h i
    have hmul : i * m + m ≤ n * m := by
      have := Nat.mul_le_mul_right m (show i + 1 ≤ n from hi)
      rw [Nat.succ_mul] at this; exact this
    have hNC : NC ≤ hn h := hA.2.1.1
    have hsz : U.heap.size = g_B G + (hn h - NC) := hA.1
    have P : Abs G (mk 100 m m (mu n m h i)) ((Jvm.Free.Multi.fill U cA comp n m (.int 0) i).pushCell (Jvm.Free.Multi.innerC comp m (.int 0))).heap := by
      refine ih.push (c' := Jvm.Free.Multi.innerC comp m (.int 0)) hG (by omega) (by omega) ?_ ?_ ?_ ⟨(fun z => by cases z), (fun q z => by cases z), fun _ => rfl, ?_, ?_⟩
      · exact State.heap_pushCell_size _ _
      · simp
      · intro q hq
        exact State.heap_pushCell_of_lt _ _ hq
      · show ∀ q, clT[(upA (hK (mu n m h i)) (hn (mu n m h i)) (100, m) (hn (mu n m h i))).1]? = some q → _
        rw [upA_eq]
        intro q hq
        have := clT_lt hq
        omega
      · have hkk : hK (mk 100 m m (mu n m h i)) (hn (mu n m h i)) = (100, m) := upA_eq
        rw [hkk]
        intro _
        refine ⟨⟨o2 _ _, fun _ => e2⟩, SzOk.ex (by simp [Jvm.Free.Multi.innerC]), fun j hj => ?_⟩
        have hR0 : hI (mk 100 m m (mu n m h i)) (hn (mu n m h i)) j = 0 := congrFun upA_eq j
        show _ = some (Value.int (hI (mk 100 m m (mu n m h i)) (hn (mu n m h i)) j))
        rw [hR0]
        have hj : j < m := hj
        simp [Jvm.Free.Multi.innerC, hj]
    have hr : rho G (hn h) = U.heap.size := by rw [rho_ge hNC, hsz]
    have hk : hK (mk 100 m m (mu n m h i)) (hn h) = (106, n) := by
      show upA (hK (mu n m h i)) (hn (mu n m h i)) (100, m) (hn h) = _
      rw [upA_ne (by omega)]; exact m3
    have hlt0 : U.heap.size < (Jvm.Free.Multi.fill U cA comp n m (.int 0) i).heap.size := by rw [f1]; omega
    have hcell : ((Jvm.Free.Multi.fill U cA comp n m (.int 0) i).pushCell (Jvm.Free.Multi.innerC comp m (.int 0))).heap[U.heap.size]? = some (Jvm.Free.Multi.outerC cA n U.heap.size i) := by rw [State.heap_pushCell_of_lt (h := hlt0)]; exact f2
    obtain ⟨cell, c1, c2⟩ := P.2.2.2.2 (hn h) (by rw [hk]; show 106 ≠ 999; decide)
    rw [hr, hcell] at c1
    cases c1
    refine P.ast (a := hn h) (i := i) (v := .ref (U.heap.size + 1 + i)) hG hNC (by rw [hk]; show 100 ≤ 106; decide) (by rw [hk]; exact hi) c2 rfl rfl rfl (fun x j hx => ⟨rfl, rfl, up2_ne hx⟩) ?_ ?_ ?_ ?_
    · rw [hk]
      show va_rf ((up2 (hR (mk 100 m m (mu n m h i))) (hn h) i (some (hn h + 1 + i)) (hn h) i).map (rho G)) = _
      rw [up2_eq]
      show Value.ref (rho G (hn h + 1 + i)) = _
      rw [rho_ge (by omega), show g_B G + (hn h + 1 + i - NC) = U.heap.size + 1 + i from by omega]
    · rw [hr]
      exact State.heap_setCell_self hcell
    · simp [Jvm.Free.Multi.fill, State.setCell]
    · intro q hq
      rw [hr] at hq
      exact State.heap_setCell_other (Ne.symm hq)
section VRows9
variable {G : GT} {X : CX} {nL d : Nat} {h0 h : AH} {Q : State → Prop} {pc : Nat} {lv : List (Nat × AV)} {st stk : List AV} {own : String} {cc : ByteArray} {τ : Type} {z : τ}
def newM (n m : Int32) (h : AH) : Option (Option Nat × AH) := if n < 0 ∨ m < 0 then none else if hn h + 1 + n.toNatClampNeg ≤ CMX ∧ (hs h + n.toNatClampNeg + n.toNatClampNeg * m.toNatClampNeg ≤ SMX ∧ m.toNatClampNeg ≤ SMX) then some (some (hn h), mu n.toNatClampNeg m.toNatClampNeg h n.toNatClampNeg) else none
theorem v_multi (ok : Ok G X own cc nL d h0) {index : Nat} (hl : Cond.classLink own index "[[I" ∈ lw_all) (hq : Cond.arrayOver (.array .int) ∈ lw_tbl) (hq2 : Cond.arrayClass .int ∈ lw_all) {n m : Int32} (hd : decode cc pc = .ok (.multianewarray index 2, 4)) {f : Option Nat → AH → Option τ} (hf : b2 (newM n m h) f = some z) (kk : ∀ r h', f r h' = some z → V G X nL h0 Q h' (pc + 4) lv (vr r :: st)) : V G X nL h0 Q h pc lv (vi m :: vi n :: st) := by
  by_cases h1 : n < 0 ∨ m < 0
  · rw [newM, if_pos h1] at hf; cases hf
  rw [newM, if_neg h1] at hf
  by_cases h2 : hn h + 1 + n.toNatClampNeg ≤ CMX ∧ (hs h + n.toNatClampNeg + n.toNatClampNeg * m.toNatClampNeg ≤ SMX ∧ m.toNatClampNeg ≤ SMX)
  · rw [if_pos h2] at hf
    intro H locs ls a b c e T hT Xs
    have hroom := ok.2.2.2.2.2.2.2
    have hS : SMX = 6471184 := rfl
    have hal := ok.2.2.2.2.1.alike
    have hov : ∀ A : Array Value, (Cond.arrayOver (.array .int)).before A X.2.2.2.2.1 = true := by
      obtain ⟨A0, ht⟩ := ok.2.2.2.2.2.2.1.1
      intro A
      exact aoA_moved hal (ht _ hq)
    obtain ⟨vm₁, cA, comp, -, f1, f2, f3, f4, X1, stp⟩ := Xs.multianewarray2F ok.1 ok.2.2.2.1 (ty := .int) (index := index) (gw ok hl) (hov _) (gw ok hq2) (g := F0 X.2.2.2.2.2.1 pc ls ((vi m :: vi n :: st).map (cv G))) rfl (by rw [ok.2.1]; exact hd) (n := n) (k := m) (rest := st.map (cv G)) rfl (fun z => h1 (Or.inl z)) (fun z => h1 (Or.inr z)) (by omega) (by show m.toNatClampNeg * 4 ≤ _; omega) (by omega) rfl rfl
      (Nat.le_trans (by show _ ≤ CMX - hn h0; omega) hroom.2.1) (Nat.le_trans (by show _ ≤ SMX - hs h0; omega) hroom.2.2.1)
    have hA' : cA = g_A G 106 := by
      obtain ⟨_, _, k1, -⟩ := gAK ok (t := 106) (by omega) (by omega)
      exact Option.some.inj (f1.symm.trans k1)
    have hC' : comp = g_A G 100 := by
      obtain ⟨_, _, k1, -⟩ := gAK ok (t := 100) (by omega) (by omega)
      exact Option.some.inj (f2.symm.trans k1)
    subst hT
    have hab : Abs G h (T.setVm vm₁).heap := a
    have AB := mu_abs ok.2.2.2.2.2.2.1 hab h2.1 h2.2.1 (fun N h0 i => State.isArrayOf_alike hal.symm (f3 N h0 i).1) (fun M dv => State.isArrayOf_alike hal.symm (f4 M dv).1) hA' hC' n.toNatClampNeg (Nat.le_refl _)
    obtain ⟨m1, m2, -⟩ := mu_facts n.toNatClampNeg m.toNatClampNeg h n.toNatClampNeg
    have k2 := kk _ _ hf _ locs ls AB b c ⟨by rw [m1]; omega, by rw [m2]; omega⟩ _ rfl
    rw [m1, m2, show hn h + 1 + n.toNatClampNeg - hn h0 = hn h - hn h0 + 1 + n.toNatClampNeg from by omega, show hs h + n.toNatClampNeg + n.toNatClampNeg * m.toNatClampNeg - hs h0 = hs h - hs h0 + n.toNatClampNeg + n.toNatClampNeg * m.toNatClampNeg from by omega] at k2
    obtain ⟨t, s1, s2⟩ := k2 X1
    refine ⟨t, stp t ?_, s2⟩
    have hr : cv G (vr (some (hn h))) = .ref T.heap.size := by show va_rf (some (rho G (hn h))) = _; rw [rho_ge a.2.1.1, a.1]; rfl
    rw [List.map_cons, hr] at s1
    exact s1
  · rw [if_neg h2] at hf; cases hf
end VRows9
