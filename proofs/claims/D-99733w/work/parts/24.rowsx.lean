set_option maxRecDepth 100000
abbrev cxc (X : CX) : Code := X.2.2.2.2.2.2.2.2.2
def rx {α : Type} (f : α → AV) (r : α ⊕ Nat) : Option AV ⊕ Nat := match r with
  | .inl v => .inl (some (f v))
  | .inr a => .inr a
def rxv (r : Unit ⊕ Nat) : Option AV ⊕ Nat := match r with
  | .inl _ => .inl none
  | .inr a => .inr a
def bX {α β : Type} (x : Option ((α ⊕ Nat) × AH)) (f : α → AH → Option β) (g : Nat → AH → Option β) : Option β := x.bind fun p => match p.1 with
  | .inl v => f v p.2
  | .inr a => g a p.2
theorem obX {α β : Type} {x : Option ((α ⊕ Nat) × AH)} {f : α → AH → Option β} {g : Nat → AH → Option β} {z : β} (h : bX x f g = some z) : (∃ v h1, x = some (.inl v, h1) ∧ f v h1 = some z) ∨ ∃ a h1, x = some (.inr a, h1) ∧ g a h1 = some z := by
  obtain ⟨⟨r, h1⟩, e1, e2⟩ := ob h
  cases r with
  | inl v => exact Or.inl ⟨v, h1, e1, e2⟩
  | inr a => exact Or.inr ⟨a, h1, e1, e2⟩
def QcX (G : GT) (h : AH) (rv : Option AV ⊕ Nat) (h' : AH) : Array Value → State → Outcome → State → Prop := fun _ _ o t => ∃ v, rv = .inl v ∧ o = .returned (v.map (cv G)) ∧ Abs G h' t.heap ∧ hn h ≤ hn h' ∧ hs h ≤ hs h'
def XcX (G : GT) (h : AH) (rv : Option AV ⊕ Nat) (h' : AH) : Addr → String → State → State → Prop := fun q E _ t => ∃ a, rv = .inr a ∧ q = rho G a ∧ E = "TurnedBoards$Fault" ∧ (hK h' a).1 = 3 ∧ NC ≤ a ∧ Abs G h' t.heap ∧ hn h ≤ hn h' ∧ hs h ≤ hs h'
def MMX (G : GT) (l : Launch) (y : MethodName) (cc : ByteArray) (nL : Nat) (ret : Option FieldType) (d : Nat) (as : List AV) (h : AH) (rv : Option AV ⊕ Nat) (h' : AH) : Prop :=
  ax_Met l y [Cond.code y cc nL ret] (rmOf d h) (va_Pc (as.map (cv G)) (fun U => (g_s G).WarmedH U.vm ∧ Abs G h U.heap)) (QcX G h rv h') (XcX G h rv h') (hn h' - hn h) (hs h' - hs h) (fun q => g_B G ≤ q)
def QMX (G : GT) (X : CX) (h0 : AH) (rv : Option AV ⊕ Nat) (h' : AH) : State → Prop := ax_MQ X.2.2.2.2.2.2.2.1 (QcX G h0 rv h') (XcX G h0 rv h') X.2.2.2.2.2.2.1 X.2.2.2.2.1 (hn h' - hn h0) (hs h' - hs h0) (fun q => g_B G ≤ q)
theorem mmx_of {G : GT} {l : Launch} {y : MethodName} {cc : ByteArray} {nL : Nat} {ret : Option FieldType} {d : Nat} {as : List AV} {h : AH} {rv : Option AV ⊕ Nat} {h' : AH} (hG : Glob G) (hy : plainName y.cls = true) (hsz : lsz as ≤ nL)
    (body : ∀ X : CX, X.2.1 = l → Ok G X y.cls cc nL d h → X.2.2.2.2.2.2.2.2.1.sig.returnType = ret → (∀ x ∈ (cxc X).exceptionTable.toList, False) → V G X nL h (QMX G X h rv h') h 0 (largs 0 as) []) : MMX G l y cc nL ret d as h rv h' := by
  refine ax_ofW (cc := cc) (maxL := nL) (ret := ret) hy rfl ?_
  intro p e s m args below meth c s₁ B hml hno hv
  obtain ⟨rfl, hW, hA⟩ := hv
  have hl := lv_entry (as.map (cv G)) (n := nL) (by rw [lsz_eq]; exact hsz)
  rw [lg_entry_eq]
  generalize (lg_sl (as.map (cv G)) ++ List.replicate (nL - (lg_sl (as.map (cv G))).length) Slot.unset).toArray = ls at hl ⊢
  have k := body (p, l, e, rmOf d h, s, m, (as.map (cv G)).toArray, below, meth, c) rfl ⟨B.exec, B.bytes, hml, findClass_of_methodNamed B.named, hW, B.notSynchronized, hG, ⟨Nat.le_refl _, Nat.le_refl _, Nat.le_refl _, Nat.le_refl _⟩⟩ B.returns hno
    s.heap [] ls hA (by rw [← largs_eq]; exact hl) (fun q hq => by cases hq) ⟨Nat.le_refl _, Nat.le_refl _⟩
  rw [Nat.sub_self, Nat.sub_self] at k
  exact k
section VRowsX
variable {G : GT} {X : CX} {nL d : Nat} {h0 h : AH} {Q : State → Prop} {pc : Nat} {lv : List (Nat × AV)} {st stk : List AV} {own : String} {cc : ByteArray} {τ : Type} {z : τ}
/-- a cell a is thrown over this frame -/
def VX (G : GT) (X : CX) (nL : Nat) (h0 : AH) (Q : State → Prop) (h : AH) (pc : Nat) (lv : List (Nat × AV)) (a : Nat) : Prop :=
  ∀ (H : Heap) (locs : List Loc) (ls : Array Slot) (rest : List Value), Abs G h H → lv_has ls nL (lv.map (cvp G)) → (∀ q ∈ locs, g_B G ≤ q.base) → hn h0 ≤ hn h ∧ hs h0 ≤ hs h →
    vx_W X.1 X.2.1 X.2.2.1 X.2.2.2.1 X.2.2.2.2.1 X.2.2.2.2.2.1 X.2.2.2.2.2.2.1 X.2.2.2.2.2.2.2.1 X.2.2.2.2.2.2.2.2.1 X.2.2.2.2.2.2.2.2.2 H locs (hn h - hn h0) (hs h - hs h0) Q (F0 X.2.2.2.2.2.1 pc ls rest) (rho G a)
theorem fault_cell (ok : Ok G X own cc nL d h0) {H : Heap} (A : Abs G h H) {a : Nat} (hk : (hK h a).1 = 3) (ha : NC ≤ a) : ∃ ce, H[rho G a]? = some ce ∧ ce.vm = .none ∧ X.2.2.2.2.1.vm.findClass "TurnedBoards$Fault" = some ce.cls := by
  obtain ⟨cell, c1, c2, c3, c4, c5, -⟩ := A.obj (ci := 3) (q := (RX3, TX3, 8)) rfl hk
  exact ⟨cell, c1, c4 ha, by rw [c5]; exact (gKn ok (ci := 3) (q := (RX3, TX3, 8)) rfl).2.1⟩
theorem VX.out (ok : Ok G X own cc nL d h0) (hx : ∀ x ∈ (cxc X).exceptionTable.toList, False) {a : Nat} (hk : (hK h a).1 = 3) (ha : NC ≤ a) (hQ : Q = QMX G X h0 (.inr a) h) : VX G X nL h0 Q h pc lv a := by
  intro H locs ls rest A b c e
  subst hQ
  obtain ⟨ce, g1, g2, g3⟩ := fault_cell ok A hk ha
  exact ax_out (E := "TurnedBoards$Fault") (fun x hx' => absurd (hx x hx') id) ok.2.2.2.2.2.1 g1 g2 g3 (fun t ht _ => ⟨a, rfl, rfl, rfl, hk, ha, by rw [ht]; exact A, e⟩) c (Nat.le_refl _) (Nat.le_refl _)
def isF (r : Option Nat) (h : AH) : Option Nat := match r with
  | some a => if (hK h a).1 = 3 ∧ NC ≤ a then some a else none
  | none => none
theorem v_athrow (ok : Ok G X own cc nL d h0) {r : Option Nat} (hd : decode cc pc = .ok (.athrow, 1)) {f : Nat → Option τ} (hf : (isF r h).bind f = some z) (kx : ∀ a, (hK h a).1 = 3 → NC ≤ a → f a = some z → VX G X nL h0 Q h pc lv a) : V G X nL h0 Q h pc lv (vr r :: st) := by
  intro H locs ls A b c e
  cases r with
  | none => cases hf
  | some a =>
    simp only [isF] at hf
    split at hf
    · rename_i hk
      exact vx_athrow ok.1 ok.2.1 hd (kx a hk.1 hk.2 hf H locs ls _ A b c e)
    · cases hf
theorem v_ldcwS (ok : Ok G X own cc nL d h0) {index a0 : Nat} {tx : String} (hs : (own, index, tx, a0) ∈ srT) (ha : a0 < NC) (hd : decode cc pc = .ok (.ldc_w index, 3)) (k : V G X nL h0 Q h (pc + 3) lv (vr (some a0) :: st)) : V G X nL h0 Q h pc lv st := by
  intro H locs ls a b c e
  have hz := (ok.2.2.2.2.2.2.1.2.2.2.2.2.1 _ hs).warm ok.2.2.2.2.1
  have k2 := k H locs ls a b c e
  have hr : cv G (vr (some a0)) = .ref (g_ad G a0) := by show va_rf (some (rho G a0)) = _; rw [rho, if_pos ha]; rfl
  rw [List.map_cons, hr] at k2
  intro T hT S
  obtain ⟨t, a1, b1⟩ := k2 T hT S
  exact ⟨t, S.ldcStringW ok.1 ok.2.2.2.1 (text := tx) (a := g_ad G a0) hz.1 hz.2 (g := F0 X.2.2.2.2.2.1 pc ls (st.map (cv G))) rfl (by rw [ok.2.1]; exact hd) t a1, b1⟩
theorem v_iretX (ok : Ok G X own cc nL d h0) {v : Int32} (hr : X.2.2.2.2.2.2.2.2.1.sig.returnType = some .int) (hQ : Q = QMX G X h0 (.inl (some (vi v))) h) (hd : decode cc pc = .ok (.ireturn, 1)) : V G X nL h0 Q h pc lv [vi v] := by
  intro H locs ls a b c e
  subst hQ
  exact ax_ret (W.iret ok.1 ok.2.1 hr (fun t ht _ => ⟨_, rfl, rfl, by rw [ht]; exact a, e⟩) c hd ok.2.2.2.2.2.1)
theorem v_zretLX (ok : Ok G X own cc nL d h0) {v : Int32} {ty : FieldType} (hr : X.2.2.2.2.2.2.2.2.1.sig.returnType = some ty) (hty : ty = .boolean ∨ ty = .byte) (hC : v = 0 ∨ v = 1) (hQ : Q = QMX G X h0 (.inl (some (vi v))) h) (hd : decode cc pc = .ok (.ireturn, 1)) : V G X nL h0 Q h pc lv [vi v] := by
  intro H locs ls a b c e
  subst hQ
  exact ax_ret (W.zret ok.1 ok.2.1 hr (by rcases hty with rfl | rfl <;> rcases hC with rfl | rfl <;> rfl) (fun t ht _ => ⟨_, rfl, rfl, by rw [ht]; exact a, e⟩) c hd ok.2.2.2.2.2.1)
theorem v_zretX (ok : Ok G X own cc nL d h0) {v : Int32} {ty : FieldType} (hr : X.2.2.2.2.2.2.2.2.1.sig.returnType = some ty) (hty : ty = .boolean ∨ ty = .byte) {f : Int32 → AH → Option τ} (hf : b2 (rz v h) f = some z) (hQ : f v h = some z → Q = QMX G X h0 (.inl (some (vi v))) h) (hd : decode cc pc = .ok (.ireturn, 1)) : V G X nL h0 Q h pc lv [vi v] := by
  by_cases hC : v = 0 ∨ v = 1
  · rw [rz, if_pos hC] at hf
    exact v_zretLX ok hr hty hC (hQ hf) hd
  · rw [rz, if_neg hC] at hf; cases hf
theorem v_vretX (ok : Ok G X own cc nL d h0) (hr : X.2.2.2.2.2.2.2.2.1.sig.returnType = none) (hQ : Q = QMX G X h0 (.inl none) h) (hd : decode cc pc = .ok (.return_, 1)) : V G X nL h0 Q h pc lv [] := by
  intro H locs ls a b c e
  subst hQ
  exact ax_ret (W.vret ok.1 ok.2.1 hr (fun t ht _ => ⟨_, rfl, rfl, by rw [ht]; exact a, e⟩) c hd ok.2.2.2.2.2.1)
theorem v_aretX (ok : Ok G X own cc nL d h0) {r : Option Nat} {rt : FieldType} (hr : X.2.2.2.2.2.2.2.2.1.sig.returnType = some rt) (hrt : (∃ n, rt = .object n) ∨ ∃ t, rt = .array t) (hQ : Q = QMX G X h0 (.inl (some (vr r))) h) (hd : decode cc pc = .ok (.areturn, 1)) : V G X nL h0 Q h pc lv [vr r] := by
  intro H locs ls a b c e
  subst hQ
  exact ax_ret (W.aret ok.1 ok.2.1 hr hrt (by cases r with | none => exact Or.inl rfl | some q => exact Or.inr ⟨_, rfl⟩) (fun t ht _ => ⟨_, rfl, rfl, by rw [ht]; exact a, e⟩) c hd ok.2.2.2.2.2.1)
theorem backX_mm (ok : Ok G X own cc nL d h0) {y : MethodName} {bytes : ByteArray} {maxL d' n len : Nat} {ret : Option FieldType} {as : List AV} {rv : Option AV ⊕ Nat} {h1 : AH} (mm : MMX G X.2.1 y bytes maxL ret d' as h rv h1) (hd' : d' + 1 ≤ d) (cw : CW y bytes maxL ret n) :
    vx_Back X.2.1 X.2.2.2.1 X.1 X.2.2.1 X.2.2.2.2.2.2.2.1 X.2.2.2.2.1 X.2.2.2.2.2.2.1 y len 12 (fun A a => A.cells + (rmOf d' h).cells ≤ X.2.2.2.1.cells ∧ A.slots + (rmOf d' h).slots ≤ X.2.2.2.1.slots ∧ va_Pc (as.map (cv G)) (fun U => (g_s G).WarmedH U.vm ∧ Abs G h U.heap) a A.U) (PostOf (QcX G h rv h1) (hn h1 - hn h) (hs h1 - hs h) (fun q => g_B G ≤ q)) (ax_Post (XcX G h rv h1) (hn h1 - hn h) (hs h1 - hs h) (fun q => g_B G ≤ q)) := by
  have hroom := ok.2.2.2.2.2.2.2
  refine ax_back (bytes := bytes) (maxL := maxL) (ret := ret) mm (fun a U g mk hp => hp) (Nat.le_trans hd' hroom.1) (Nat.le_trans (by show 12 + (maxL + 11) + 64 * d' ≤ 64 * d; have := cw.2.2.2.2; omega) hroom.2.2.2) ?_ List.mem_cons_self ?_
  · intro w hw a' U hW
    rcases List.mem_singleton.mp hw with rfl
    exact gwB ok.2.2.2.2.2.2.1 (State.WarmedH.trans ok.2.2.2.2.1 hW) cw.1
  · intro a' U hW
    exact gwB ok.2.2.2.2.2.2.1 (State.WarmedH.trans ok.2.2.2.2.1 hW) cw.2.1
/-- a virtual call that may throw -/
theorem v_cX (ok : Ok G X own cc nL d h0) {ci index : Nat} {q : vw_C} (hq : clT[ci]? = some q) {y : MethodName} {bytes : ByteArray} {maxL d' : Nat} {ret : Option FieldType} {as : List AV} {a : Nat} (hKa : (hK h a).1 = ci) {rv : Option AV ⊕ Nat} {h1 : AH} (mm : MMX G X.2.1 y bytes maxL ret d' (vr (some a) :: as) h rv h1) (hd' : d' + 1 ≤ d) (cw : CW y bytes maxL ret as.length) (q1 : Cond.methodLink own index y ∈ lw_all) (q2 : Cond.instanceMethod y ∈ lw_all) (q3 : Cond.selects q.1 y y ∈ lw_all)
    (hd : decode cc pc = .ok (.invokevirtual index, 3)) (hst : stk = as.reverse ++ vr (some a) :: st) (h8 : (st.map ctN).sum ≤ 12) (kk : ∀ v, rv = .inl v → V G X nL h0 Q h1 (pc + 3) lv (v.toList ++ st)) (kx : ∀ b, rv = .inr b → (hK h1 b).1 = 3 → NC ≤ b → VX G X nL h0 Q h1 pc lv b) : V G X nL h0 Q h pc lv stk := by
  intro H locs ls A b c e T hT S
  obtain ⟨cell, c1, c2, c3, -, c5, -⟩ := A.obj hq hKa
  have hstk : stk.map (cv G) = (as.map (cv G)).reverse ++ .ref (rho G a) :: st.map (cv G) := stk_eq G (st := vr (some a) :: st) hst
  rcases vx_callV S ok.1 (C := q.1) (bytes := bytes) (maxL := maxL) (ret := ret) ok.2.2.2.1 (gw ok q1) (gw ok q2) (gw ok q3) (gw ok cw.1) cw.2.2.1 (backX_mm ok mm hd' cw) (by rw [hT]; exact c1) (by cases hz : cell.vm with | statics x => exact absurd hz (c3 x) | _ => rfl) (by rw [c5]; exact (gKn ok hq).2.1) (g := F0 X.2.2.2.2.2.1 pc ls (stk.map (cv G))) rfl (b.1.trans ok.2.2.1.symm) (argsL := as.map (cv G)) (rest := st.map (cv G)) (fun sig hs => by rw [cw.len hs, List.length_map]) hstk (by show 2 * 0 + _ ≤ 12; rw [ctN_eq, Nat.mul_zero, Nat.zero_add]; exact h8) (by rw [ok.2.1]; exact hd)
    (fun vm₁ hW₁ => ⟨(room_mm ok e A).1, (room_mm ok e A).2, rfl, State.WarmedH.trans ok.2.2.2.2.1 hW₁, by show Abs G h T.heap; rw [hT]; exact A⟩) with ⟨v, vm₁, B, hW₁, X', hp, hstep⟩ | ⟨qa, vm₁, B, hW₁, X', hp, hstep⟩
  · obtain ⟨g', mk, t, L, e1, e2, ⟨v', hv', ho, hA', m1, m2⟩, h1', hL, h2, h3⟩ := hp
    exact v_cont (a := #[]) (rv := v') (h1 := h1) e b c X' ⟨g', mk, t, L, e1, e2, ⟨ho, hA', m1, m2⟩, h1', hL, h2, h3⟩ hstep (kk v' hv')
  · obtain ⟨U', l2, c2', s2⟩ := B
    obtain ⟨g', mk, t, L, E, ce, e1, e2, ⟨a9, hrv, hqa, hE, hk9, hn9, hA', m1, m2⟩, hce, hcv, hcl, h1', hL, h2, h3⟩ := hp
    dsimp only [Pt.U, Pt.locs, Pt.cells, Pt.slots] at X' e1 e2 h1' h2 h3 hstep
    subst h1'; subst h2; subst h3; subst hqa
    have k2 := kx a9 hrv hk9 hn9 t.heap (locs ++ L) ls (st.map (cv G)) hA' b (fun q hq => by
      rcases List.mem_append.mp hq with z | z
      · exact c q z
      · exact hL q z) ⟨Nat.le_trans e.1 m1, Nat.le_trans e.2 m2⟩
    have i1 : hn h1 - hn h0 = hn h - hn h0 + (hn h1 - hn h) := by omega
    have i2 : hs h1 - hs h0 = hs h - hs h0 + (hs h1 - hs h) := by omega
    rw [i1, i2] at k2
    obtain ⟨t2, a1, b1⟩ := k2 U' e1 X'
    exact ⟨t2, hstep.trans a1, b1⟩
theorem v_cXi (ok : Ok G X own cc nL d h0) {ci index : Nat} (q : vw_C) (hq : clT[ci]? = some q) {y : MethodName} {bytes : ByteArray} {maxL d' : Nat} {ret : Option FieldType} (as : List AV) {r : Option Nat} {F : Nat → Option ((Int32 ⊕ Nat) × AH)} (mm : ∀ a w h1, r = some a → F a = some (w, h1) → MMX G X.2.1 y bytes maxL ret d' (vr (some a) :: as) h (rx vi w) h1) (hd' : d' + 1 ≤ d) (cw : CW y bytes maxL ret as.length) (q1 : Cond.methodLink own index y ∈ lw_all) (q2 : Cond.instanceMethod y ∈ lw_all) (q3 : Cond.selects q.1 y y ∈ lw_all)
    (hd : decode cc pc = .ok (.invokevirtual index, 3)) (st : List AV) (hst : stk = as.reverse ++ vr r :: st) (h8 : (st.map ctN).sum ≤ 12) {f : Int32 → AH → Option τ} {g : Nat → AH → Option τ} (hf : ((isO ci r h).bind fun a => bX (F a) f g) = some z) (kx : ∀ b h1, (hK h1 b).1 = 3 → NC ≤ b → g b h1 = some z → VX G X nL h0 Q h1 pc lv b) (kk : ∀ v h1, f v h1 = some z → V G X nL h0 Q h1 (pc + 3) lv (vi v :: st)) : V G X nL h0 Q h pc lv stk := by
  obtain ⟨a, ha, hg⟩ := ob hf
  cases r with
  | none => cases ha
  | some a0 =>
    simp only [isO] at ha
    split at ha
    · rename_i hKa
      cases ha
      rcases obX hg with ⟨v, h1, hv, hz⟩ | ⟨b, h1, hv, hz⟩
      · exact v_cX ok hq hKa (mm _ _ h1 rfl hv) hd' cw q1 q2 q3 hd hst h8 (fun v' e => by cases e; exact kk v h1 hz) (fun b e => by cases e)
      · exact v_cX ok hq hKa (mm _ _ h1 rfl hv) hd' cw q1 q2 q3 hd hst h8 (fun v' e => by cases e) (fun b' e h3 h4 => by cases e; exact kx b h1 h3 h4 hz)
    · cases ha
theorem v_cXr (ok : Ok G X own cc nL d h0) {ci index : Nat} (q : vw_C) (hq : clT[ci]? = some q) {y : MethodName} {bytes : ByteArray} {maxL d' : Nat} {ret : Option FieldType} (as : List AV) {r : Option Nat} {F : Nat → Option ((Option Nat ⊕ Nat) × AH)} (mm : ∀ a w h1, r = some a → F a = some (w, h1) → MMX G X.2.1 y bytes maxL ret d' (vr (some a) :: as) h (rx vr w) h1) (hd' : d' + 1 ≤ d) (cw : CW y bytes maxL ret as.length) (q1 : Cond.methodLink own index y ∈ lw_all) (q2 : Cond.instanceMethod y ∈ lw_all) (q3 : Cond.selects q.1 y y ∈ lw_all)
    (hd : decode cc pc = .ok (.invokevirtual index, 3)) (st : List AV) (hst : stk = as.reverse ++ vr r :: st) (h8 : (st.map ctN).sum ≤ 12) {f : Option Nat → AH → Option τ} {g : Nat → AH → Option τ} (hf : ((isO ci r h).bind fun a => bX (F a) f g) = some z) (kx : ∀ b h1, (hK h1 b).1 = 3 → NC ≤ b → g b h1 = some z → VX G X nL h0 Q h1 pc lv b) (kk : ∀ v h1, f v h1 = some z → V G X nL h0 Q h1 (pc + 3) lv (vr v :: st)) : V G X nL h0 Q h pc lv stk := by
  obtain ⟨a, ha, hg⟩ := ob hf
  cases r with
  | none => cases ha
  | some a0 =>
    simp only [isO] at ha
    split at ha
    · rename_i hKa
      cases ha
      rcases obX hg with ⟨v, h1, hv, hz⟩ | ⟨b, h1, hv, hz⟩
      · exact v_cX ok hq hKa (mm _ _ h1 rfl hv) hd' cw q1 q2 q3 hd hst h8 (fun v' e => by cases e; exact kk v h1 hz) (fun b e => by cases e)
      · exact v_cX ok hq hKa (mm _ _ h1 rfl hv) hd' cw q1 q2 q3 hd hst h8 (fun v' e => by cases e) (fun b' e h3 h4 => by cases e; exact kx b h1 h3 h4 hz)
    · cases ha
theorem v_cXv (ok : Ok G X own cc nL d h0) {ci index : Nat} (q : vw_C) (hq : clT[ci]? = some q) {y : MethodName} {bytes : ByteArray} {maxL d' : Nat} {ret : Option FieldType} (as : List AV) {r : Option Nat} {F : Nat → Option ((Unit ⊕ Nat) × AH)} (mm : ∀ a w h1, r = some a → F a = some (w, h1) → MMX G X.2.1 y bytes maxL ret d' (vr (some a) :: as) h (rxv w) h1) (hd' : d' + 1 ≤ d) (cw : CW y bytes maxL ret as.length) (q1 : Cond.methodLink own index y ∈ lw_all) (q2 : Cond.instanceMethod y ∈ lw_all) (q3 : Cond.selects q.1 y y ∈ lw_all)
    (hd : decode cc pc = .ok (.invokevirtual index, 3)) (st : List AV) (hst : stk = as.reverse ++ vr r :: st) (h8 : (st.map ctN).sum ≤ 12) {f : Unit → AH → Option τ} {g : Nat → AH → Option τ} (hf : ((isO ci r h).bind fun a => bX (F a) f g) = some z) (kx : ∀ b h1, (hK h1 b).1 = 3 → NC ≤ b → g b h1 = some z → VX G X nL h0 Q h1 pc lv b) (kk : ∀ v h1, f v h1 = some z → V G X nL h0 Q h1 (pc + 3) lv (st)) : V G X nL h0 Q h pc lv stk := by
  obtain ⟨a, ha, hg⟩ := ob hf
  cases r with
  | none => cases ha
  | some a0 =>
    simp only [isO] at ha
    split at ha
    · rename_i hKa
      cases ha
      rcases obX hg with ⟨v, h1, hv, hz⟩ | ⟨b, h1, hv, hz⟩
      · exact v_cX ok hq hKa (mm _ _ h1 rfl hv) hd' cw q1 q2 q3 hd hst h8 (fun v' e => by cases e; exact kk v h1 hz) (fun b e => by cases e)
      · exact v_cX ok hq hKa (mm _ _ h1 rfl hv) hd' cw q1 q2 q3 hd hst h8 (fun v' e => by cases e) (fun b' e h3 h4 => by cases e; exact kx b h1 h3 h4 hz)
    · cases ha
/-- caught here -/
theorem VX.catch (ok : Ok G X own cc nL d h0) {b0 b1 hp ct : Nat} (htab : (cxc X).exceptionTable.toList = tableOf [(b0, b1, hp, ct)]) (hcov : covers ⟨b0, b1, hp, ct⟩ pc = true) (hct : ct ≠ 0) (q1 : Cond.classLink own ct "TurnedBoards$Fault" ∈ lw_all) (q2 : Cond.castable "TurnedBoards$Fault" "TurnedBoards$Fault" ∈ lw_tbl) {a : Nat} (hk : (hK h a).1 = 3) (ha : NC ≤ a) (k : V G X nL h0 Q h hp lv [vr (some a)]) : VX G X nL h0 Q h pc lv a := by
  intro H locs ls rest A b c e
  obtain ⟨ce, g1, g2, g3⟩ := fault_cell ok A hk ha
  exact vx_catch (E := "TurnedBoards$Fault") (name := "TurnedBoards$Fault") ok.2.2.2.1 [] ⟨b0, b1, hp, ct⟩ [] (by rw [htab]; rfl) (fun z hz => by cases hz) hcov hct (gw ok q1) (va_Nw.use rfl (va_Nw.warmC ok.2.2.2.2.1 (gt0 ok.2.2.2.2.2.2.1 q2 rfl))) g1 g2 g3 (k H locs ls A b c e)
end VRowsX
/-- the contract of a method with a table of its own, that doesn't throw -/
def MMW (G : GT) (l : Launch) (y : MethodName) (cc : ByteArray) (nL : Nat) (ret : Option FieldType) (hh : List (Nat × Nat × Nat × Nat)) (d : Nat) (as : List AV) (h : AH) (rv : Option AV) (h' : AH) : Prop :=
  ax_Met l y [Cond.codeWith y cc nL ret hh] (rmOf d h) (va_Pc (as.map (cv G)) (fun U => (g_s G).WarmedH U.vm ∧ Abs G h U.heap)) (QcX G h (.inl rv) h') (XcX G h (.inl rv) h') (hn h' - hn h) (hs h' - hs h) (fun q => g_B G ≤ q)
theorem mmw_of {G : GT} {l : Launch} {y : MethodName} {cc : ByteArray} {nL : Nat} {ret : Option FieldType} {hh : List (Nat × Nat × Nat × Nat)} {d : Nat} {as : List AV} {h : AH} {rv : Option AV} {h' : AH} (hG : Glob G) (hy : plainName y.cls = true) (hsz : lsz as ≤ nL)
    (body : ∀ X : CX, X.2.1 = l → Ok G X y.cls cc nL d h → X.2.2.2.2.2.2.2.2.1.sig.returnType = ret → (cxc X).exceptionTable.toList = tableOf hh → V G X nL h (QMX G X h (.inl rv) h') h 0 (largs 0 as) []) : MMW G l y cc nL ret hh d as h rv h' := by
  refine ax_ofWH (cc := cc) (maxL := nL) (ret := ret) hy rfl ?_
  intro p e s m args below meth c s₁ B hml hv
  obtain ⟨rfl, hW, hA⟩ := hv
  have hl := lv_entry (as.map (cv G)) (n := nL) (by rw [lsz_eq]; exact hsz)
  rw [lg_entry_eq]
  generalize (lg_sl (as.map (cv G)) ++ List.replicate (nL - (lg_sl (as.map (cv G))).length) Slot.unset).toArray = ls at hl ⊢
  have k := body (p, l, e, rmOf d h, s, m, (as.map (cv G)).toArray, below, meth, c) rfl ⟨B.exec, B.bytes, hml, findClass_of_methodNamed B.named, hW, B.notSynchronized, hG, ⟨Nat.le_refl _, Nat.le_refl _, Nat.le_refl _, Nat.le_refl _⟩⟩ B.returns (ax_table (x := y) B (atoms_spec (ws := [Cond.codeWith y cc nL ret hh]) B.pre _ List.mem_cons_self))
    s.heap [] ls hA (by rw [← largs_eq]; exact hl) (fun q hq => by cases hq) ⟨Nat.le_refl _, Nat.le_refl _⟩
  rw [Nat.sub_self, Nat.sub_self] at k
  exact k
def CWH (y : MethodName) (bytes : ByteArray) (maxL : Nat) (ret : Option FieldType) (hh : List (Nat × Nat × Nat × Nat)) (n : Nat) : Prop := Cond.codeWith y bytes maxL ret hh ∈ lw_all ∧ Cond.initialized y.cls ∈ lw_all ∧ (y.cls ≠ "java/lang/invoke/MethodHandle" ∧ y.cls ≠ "java/lang/invoke/VarHandle") ∧ (parseMethodDescriptor y.desc).map (fun d => d.parameters.length) = some n ∧ maxL ≤ 41
section VRowsW
variable {G : GT} {X : CX} {nL d : Nat} {h0 h : AH} {Q : State → Prop} {pc : Nat} {lv : List (Nat × AV)} {st stk : List AV} {own : String} {cc : ByteArray} {τ : Type} {z : τ}
theorem v_cW (ok : Ok G X own cc nL d h0) {ci index : Nat} {q : vw_C} (hq : clT[ci]? = some q) {y : MethodName} {bytes : ByteArray} {maxL d' : Nat} {ret : Option FieldType} {hh : List (Nat × Nat × Nat × Nat)} {as : List AV} {a : Nat} (hKa : (hK h a).1 = ci) {rv : Option AV} {h1 : AH} (mm : MMW G X.2.1 y bytes maxL ret hh d' (vr (some a) :: as) h rv h1) (hd' : d' + 1 ≤ d) (cw : CWH y bytes maxL ret hh as.length) (q1 : Cond.methodLink own index y ∈ lw_all) (q2 : Cond.instanceMethod y ∈ lw_all) (q3 : Cond.selects q.1 y y ∈ lw_all)
    (hd : decode cc pc = .ok (.invokevirtual index, 3)) (hst : stk = as.reverse ++ vr (some a) :: st) (h8 : (st.map ctN).sum ≤ 12) (kk : V G X nL h0 Q h1 (pc + 3) lv (rv.toList ++ st)) : V G X nL h0 Q h pc lv stk := by
  intro H locs ls A b c e T hT S
  obtain ⟨cell, c1, c2, c3, -, c5, -⟩ := A.obj hq hKa
  have hroom := ok.2.2.2.2.2.2.2
  have hstk : stk.map (cv G) = (as.map (cv G)).reverse ++ .ref (rho G a) :: st.map (cv G) := stk_eq G (st := vr (some a) :: st) hst
  have hb : vx_Back X.2.1 X.2.2.2.1 X.1 X.2.2.1 X.2.2.2.2.2.2.2.1 X.2.2.2.2.1 X.2.2.2.2.2.2.1 y 3 12 (fun A a' => A.cells + (rmOf d' h).cells ≤ X.2.2.2.1.cells ∧ A.slots + (rmOf d' h).slots ≤ X.2.2.2.1.slots ∧ va_Pc ((vr (some a) :: as).map (cv G)) (fun U => (g_s G).WarmedH U.vm ∧ Abs G h U.heap) a' A.U) (PostOf (QcX G h (.inl rv) h1) (hn h1 - hn h) (hs h1 - hs h) (fun q => g_B G ≤ q)) (ax_Post (XcX G h (.inl rv) h1) (hn h1 - hn h) (hs h1 - hs h) (fun q => g_B G ≤ q)) := by
    refine ax_backW (bytes := bytes) (maxL := maxL) (ret := ret) (hh := hh) mm (fun a U g mk hp => hp) (Nat.le_trans hd' hroom.1) (Nat.le_trans (by show 12 + (maxL + 11) + 64 * d' ≤ 64 * d; have := cw.2.2.2.2; omega) hroom.2.2.2) ?_ List.mem_cons_self ?_
    · intro w hw a' U hW
      rcases List.mem_singleton.mp hw with rfl
      exact gwB ok.2.2.2.2.2.2.1 (State.WarmedH.trans ok.2.2.2.2.1 hW) cw.1
    · intro a' U hW
      exact gwB ok.2.2.2.2.2.2.1 (State.WarmedH.trans ok.2.2.2.2.1 hW) cw.2.1
  rcases vx_callVX S ok.1 (C := q.1) (bytes := bytes) (maxL := maxL) (ret := ret) (hh := hh) ok.2.2.2.1 (gw ok q1) (gw ok q2) (gw ok q3) (gw ok cw.1) cw.2.2.1 hb (by rw [hT]; exact c1) (by cases hz : cell.vm with | statics x => exact absurd hz (c3 x) | _ => rfl) (by rw [c5]; exact (gKn ok hq).2.1) (g := F0 X.2.2.2.2.2.1 pc ls (stk.map (cv G))) rfl (b.1.trans ok.2.2.1.symm) (argsL := as.map (cv G)) (rest := st.map (cv G)) (fun sig hs => by have := cw.2.2.2.1; rw [hs] at this; rw [List.length_map]; exact (Option.some.inj this).symm) hstk (by show 2 * 0 + _ ≤ 12; rw [ctN_eq, Nat.mul_zero, Nat.zero_add]; exact h8) (by rw [ok.2.1]; exact hd)
    (fun vm₁ hW₁ => ⟨(room_mm ok e A).1, (room_mm ok e A).2, rfl, State.WarmedH.trans ok.2.2.2.2.1 hW₁, by show Abs G h T.heap; rw [hT]; exact A⟩) with ⟨v, vm₁, B, hW₁, X', hp, hstep⟩ | ⟨qa, vm₁, B, hW₁, X', hp, hstep⟩
  · obtain ⟨g', mk, t, L, e1, e2, ⟨v', hv', ho, hA', m1, m2⟩, h1', hL, h2, h3⟩ := hp
    cases hv'
    exact v_cont (a := #[]) (rv := rv) (h1 := h1) e b c X' ⟨g', mk, t, L, e1, e2, ⟨ho, hA', m1, m2⟩, h1', hL, h2, h3⟩ hstep kk
  · obtain ⟨g', mk, t, L, E, ce, e1, e2, ⟨a9, hrv, -⟩, -⟩ := hp
    cases hrv
theorem v_cWi (ok : Ok G X own cc nL d h0) {ci index : Nat} (q : vw_C) (hq : clT[ci]? = some q) {y : MethodName} {bytes : ByteArray} {maxL d' : Nat} {ret : Option FieldType} {hh : List (Nat × Nat × Nat × Nat)} (as : List AV) {r : Option Nat} {F : Nat → Option (Int32 × AH)} (mm : ∀ a v h1, r = some a → F a = some (v, h1) → MMW G X.2.1 y bytes maxL ret hh d' (vr (some a) :: as) h (some (vi v)) h1) (hd' : d' + 1 ≤ d) (cw : CWH y bytes maxL ret hh as.length) (q1 : Cond.methodLink own index y ∈ lw_all) (q2 : Cond.instanceMethod y ∈ lw_all) (q3 : Cond.selects q.1 y y ∈ lw_all)
    (hd : decode cc pc = .ok (.invokevirtual index, 3)) (st : List AV) (hst : stk = as.reverse ++ vr r :: st) (h8 : (st.map ctN).sum ≤ 12) {f : Int32 → AH → Option τ} (hf : ((isO ci r h).bind fun a => b2 (F a) f) = some z) (kk : ∀ v h1, f v h1 = some z → V G X nL h0 Q h1 (pc + 3) lv (vi v :: st)) : V G X nL h0 Q h pc lv stk := by
  obtain ⟨a, ha, hg⟩ := ob hf
  obtain ⟨v, h1, hv, hz⟩ := ob2 hg
  cases r with
  | none => cases ha
  | some a0 =>
    simp only [isO] at ha
    split at ha
    · rename_i hKa
      cases ha
      exact v_cW ok hq hKa (mm _ v h1 rfl hv) hd' cw q1 q2 q3 hd hst h8 (kk v h1 hz)
    · cases ha
theorem v_cWl (ok : Ok G X own cc nL d h0) {ci index : Nat} (q : vw_C) (hq : clT[ci]? = some q) {y : MethodName} {bytes : ByteArray} {maxL d' : Nat} {ret : Option FieldType} {hh : List (Nat × Nat × Nat × Nat)} (as : List AV) {r : Option Nat} {F : Nat → Option (Int64 × AH)} (mm : ∀ a v h1, r = some a → F a = some (v, h1) → MMW G X.2.1 y bytes maxL ret hh d' (vr (some a) :: as) h (some (vl v)) h1) (hd' : d' + 1 ≤ d) (cw : CWH y bytes maxL ret hh as.length) (q1 : Cond.methodLink own index y ∈ lw_all) (q2 : Cond.instanceMethod y ∈ lw_all) (q3 : Cond.selects q.1 y y ∈ lw_all)
    (hd : decode cc pc = .ok (.invokevirtual index, 3)) (st : List AV) (hst : stk = as.reverse ++ vr r :: st) (h8 : (st.map ctN).sum ≤ 12) {f : Int64 → AH → Option τ} (hf : ((isO ci r h).bind fun a => b2 (F a) f) = some z) (kk : ∀ v h1, f v h1 = some z → V G X nL h0 Q h1 (pc + 3) lv (vl v :: st)) : V G X nL h0 Q h pc lv stk := by
  obtain ⟨a, ha, hg⟩ := ob hf
  obtain ⟨v, h1, hv, hz⟩ := ob2 hg
  cases r with
  | none => cases ha
  | some a0 =>
    simp only [isO] at ha
    split at ha
    · rename_i hKa
      cases ha
      exact v_cW ok hq hKa (mm _ v h1 rfl hv) hd' cw q1 q2 q3 hd hst h8 (kk v h1 hz)
    · cases ha
theorem v_lretX (ok : Ok G X own cc nL d h0) {v : Int64} (hr : X.2.2.2.2.2.2.2.2.1.sig.returnType = some .long) (hQ : Q = QMX G X h0 (.inl (some (vl v))) h) (hd : decode cc pc = .ok (.lreturn, 1)) : V G X nL h0 Q h pc lv [vl v] := by
  intro H locs ls a b c e
  subst hQ
  exact ax_ret (W.lret ok.1 ok.2.1 hr (fun t ht _ => ⟨_, rfl, rfl, by rw [ht]; exact a, e⟩) c hd ok.2.2.2.2.2.1)
end VRowsW
abbrev PaT : Type := Nat → AH → Option ((Option Nat ⊕ Nat) × AH)
def DPA (G : GT) (l : Launch) (e : Nat) (pa : PaT) : Prop := ∀ a h w h', pa a h = some (w, h') → MMX G l yX2_atom cX2_atom 3 (some (.object "TurnedBoards$Value")) e [vr (some a)] h (rx vr w) h'
def DPF (G : GT) (l : Launch) (e : Nat) (pf : PaT) : Prop := ∀ a h w h', pf a h = some (w, h') → MMX G l yX2_fact cX2_fact 3 (some (.object "TurnedBoards$Test")) e [vr (some a)] h (rx vr w) h'
