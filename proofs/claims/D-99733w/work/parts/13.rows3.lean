set_option maxRecDepth 100000
/-- a contract pays a call: the room that it asks is there -/
theorem ah_back {l : Launch} {R : Room} {p : Program} {e : Env} {below : List Frame} {s : State} {sargs : Array Value} {y : MethodName} {len W : Nat} {ws : List Cond} {rm : Room} {Pc : Array Value → State → Prop} {Qc : Array Value → State → Outcome → State → Prop} {mc ms : Nat} {free : Addr → Prop} {bytes : ByteArray} {maxL : Nat} {ret : Option FieldType}
    (hM : Met l y ws rm Pc Qc mc ms free) (hblind : FrameBlind Pc) (hframes : rm.frames + 1 ≤ R.frames) (hlocals : W + (maxL + 11) + rm.locals ≤ R.locals)
    (hws : ∀ w ∈ ws, ∀ a' U, s.WarmedH U.vm → w.before a' U = true) (hcode : Cond.code y bytes maxL ret ∈ ws) (hinit : ∀ a' U, s.WarmedH U.vm → (Cond.initialized y.cls).before a' U = true) :
    Back l R p e below s sargs y len W (fun A a => A.cells + rm.cells ≤ R.cells ∧ A.slots + rm.slots ≤ R.slots ∧ Pc a A.U) (PostOf Qc mc ms free) := by
  refine Back.of_free (S := headSpec ws rm) (P := Pc) (K := fun _ _ _ _ _ => True) (Q := fun a st o t => Qc a st o t ∧ ∃ L, FrameEnd st o t L mc ms ∧ ∀ q ∈ L, free q.base) (bytes := bytes) (maxL := maxL) (ret := ret)
    (E := fun a st o t L k n => k = mc ∧ n = ms ∧ ∀ q ∈ L, free q.base) hM hframes hlocals ?_ ?_ (fun _ _ _ _ _ _ _ _ _ => trivial) ?_ ?_
  · intro m meth c A a X hp
    exact ⟨atoms_intro fun w hw => hws w hw _ _ X.warmed, hws _ hcode _ _ X.warmed, hinit _ _ X.warmed, hp.1, hp.2.1⟩
  · intro m meth c A a g mk X hp
    exact hblind _ _ _ _ hp.2.2
  · intro a st o t ⟨hq, L, hF, hL⟩
    exact ⟨L, mc, ms, hF, rfl, rfl, hL⟩
  · intro m meth c A a g mk v t L k n X hp hq hF ⟨e1, e2, hL⟩
    subst e1; subst e2
    exact ⟨g, mk, t, L, rfl, rfl, hq.1, rfl, hL, rfl, rfl⟩
section VRows3
variable {G : GT} {X : CX} {nL d : Nat} {h0 h : AH} {Q : State → Prop} {pc : Nat} {lv : List (Nat × AV)} {st stk : List AV} {own : String} {cc : ByteArray} {τ : Type} {z : τ}
def ctN (v : AV) : Nat := cond (cat2 v) 2 1
theorem ctN_eq (G : GT) : ∀ st : List AV, ((st.map (cv G)).map fun v => v.category).sum = (st.map ctN).sum
  | [] => rfl
  | v :: t => by
    rw [List.map_cons, List.map_cons, List.sum_cons, ctN_eq G t, List.map_cons, List.sum_cons, cat_cv, ctN]
    cases cat2 v <;> rfl
/-- the words of a method that is called: code, class, and its number of arguments -/
def CW (y : MethodName) (bytes : ByteArray) (maxL : Nat) (ret : Option FieldType) (n : Nat) : Prop := Cond.code y bytes maxL ret ∈ lw_all ∧ Cond.initialized y.cls ∈ lw_all ∧ (y.cls ≠ "java/lang/invoke/MethodHandle" ∧ y.cls ≠ "java/lang/invoke/VarHandle") ∧ (parseMethodDescriptor y.desc).map (fun d => d.parameters.length) = some n ∧ maxL ≤ 41
theorem CW.len {y : MethodName} {bytes : ByteArray} {maxL : Nat} {ret : Option FieldType} {n : Nat} (h : CW y bytes maxL ret n) {sig : MethodDescriptor} (hs : parseMethodDescriptor y.desc = some sig) : sig.parameters.length = n := by
  have := h.2.2.2.1
  rw [hs] at this
  exact Option.some.inj this
theorem back_mm (ok : Ok G X own cc nL d h0) {y : MethodName} {bytes : ByteArray} {maxL d' n : Nat} {len : Nat} {ret : Option FieldType} {as : List AV} {rv : Option AV} {h1 : AH} (mm : MM G X.2.1 y bytes maxL ret d' as h rv h1) (hd' : d' + 1 ≤ d) (cw : CW y bytes maxL ret n) :
    Back X.2.1 X.2.2.2.1 X.1 X.2.2.1 X.2.2.2.2.2.2.2.1 X.2.2.2.2.1 X.2.2.2.2.2.2.1 y len 12 (fun A a => A.cells + (rmOf d' h).cells ≤ X.2.2.2.1.cells ∧ A.slots + (rmOf d' h).slots ≤ X.2.2.2.1.slots ∧ va_Pc (as.map (cv G)) (fun U => (g_s G).WarmedH U.vm ∧ Abs G h U.heap) a A.U) (PostOf (fun _ _ o t => o = .returned (rv.map (cv G)) ∧ Abs G h1 t.heap ∧ hn h ≤ hn h1 ∧ hs h ≤ hs h1) (hn h1 - hn h) (hs h1 - hs h) (fun q => g_B G ≤ q)) := by
  have hroom := ok.2.2.2.2.2.2.2
  refine ah_back (bytes := bytes) (maxL := maxL) (ret := ret) mm (fun a U g mk hp => hp) (Nat.le_trans hd' hroom.1) (Nat.le_trans (by show 12 + (maxL + 11) + 64 * d' ≤ 64 * d; have := cw.2.2.2.2; omega) hroom.2.2.2) ?_ List.mem_cons_self ?_
  · intro w hw a' U hW
    rcases List.mem_singleton.mp hw with rfl
    exact gwB ok.2.2.2.2.2.2.1 (State.WarmedH.trans ok.2.2.2.2.1 hW) cw.1
  · intro a' U hW
    exact gwB ok.2.2.2.2.2.2.1 (State.WarmedH.trans ok.2.2.2.2.1 hW) cw.2.1
/-- behind a call: the rest of the walk -/
theorem v_cont {len : Nat} {locs : List Loc} {ls : Array Slot} {T : State} {vm₁ : Vm} {a : Array Value} {rv : Option AV} {h1 : AH} {v : Option Value} {B : Pt} (e : hn h0 ≤ hn h ∧ hs h0 ≤ hs h) (b : lv_has ls nL (lv.map (cvp G))) (c : ∀ q ∈ locs, g_B G ≤ q.base)
    (X' : Stand X.1 X.2.1 X.2.2.1 X.2.2.2.1 X.2.2.2.2.1 X.2.2.2.2.2.1 X.2.2.2.2.2.2.1 X.2.2.2.2.2.2.2.1 X.2.2.2.2.2.2.2.2.1 X.2.2.2.2.2.2.2.2.2 B.U B.locs B.cells B.slots)
    (hp : PostOf (fun _ _ o t => o = .returned (rv.map (cv G)) ∧ Abs G h1 t.heap ∧ hn h ≤ hn h1 ∧ hs h ≤ hs h1) (hn h1 - hn h) (hs h1 - hs h) (fun q => g_B G ≤ q) ⟨T.setVm vm₁, locs, hn h - hn h0, hs h - hs h0⟩ a v B)
    (hstep : ∀ target, Steps X.1.tables X.2.2.1 X.2.2.2.2.2.2.2.1 (B.U.setTop (F0 X.2.2.2.2.2.1 (pc + len) ls (v.toList ++ st.map (cv G)))) target → Steps X.1.tables X.2.2.1 X.2.2.2.2.2.2.2.1 (T.setTop (F0 X.2.2.2.2.2.1 pc ls (stk.map (cv G)))) target)
    (kk : V G X nL h0 Q h1 (pc + len) lv (rv.toList ++ st)) : ∃ t, Steps X.1.tables X.2.2.1 X.2.2.2.2.2.2.2.1 (T.setTop (F0 X.2.2.2.2.2.1 pc ls (stk.map (cv G)))) t ∧ Q t := by
  obtain ⟨U', l2, c2, s2⟩ := B
  obtain ⟨g', mk, t, L, e1, e2, ⟨hq, hA1, m1, m2⟩, h1', hL, h2, h3⟩ := hp
  dsimp only [Pt.U, Pt.locs, Pt.cells, Pt.slots] at X' e1 e2 h1' h2 h3 hstep
  subst h1'; subst h2; subst h3
  have hv : v = rv.map (cv G) := Outcome.returned.inj hq
  have k2 := kk t.heap (locs ++ L) ls hA1 b (fun q hq => by
    rcases List.mem_append.mp hq with z | z
    · exact c q z
    · exact hL q z) ⟨Nat.le_trans e.1 m1, Nat.le_trans e.2 m2⟩
  have i1 : hn h1 - hn h0 = hn h - hn h0 + (hn h1 - hn h) := by omega
  have i2 : hs h1 - hs h0 = hs h - hs h0 + (hs h1 - hs h) := by omega
  rw [i1, i2] at k2
  obtain ⟨t2, a1, b1⟩ := k2 U' e1 X'
  have hs : v.toList ++ st.map (cv G) = (rv.toList ++ st).map (cv G) := by rw [hv]; cases rv <;> rfl
  exact ⟨t2, hstep t2 (by rw [hs]; exact a1), b1⟩
theorem room_mm (ok : Ok G X own cc nL d h0) {d' : Nat} (e : hn h0 ≤ hn h ∧ hs h0 ≤ hs h) {H : Heap} (a : Abs G h H) : (hn h - hn h0) + (rmOf d' h).cells ≤ X.2.2.2.1.cells ∧ (hs h - hs h0) + (rmOf d' h).slots ≤ X.2.2.2.1.slots := by
  have hroom := ok.2.2.2.2.2.2.2
  have := a.2.1
  exact ⟨Nat.le_trans (by show (hn h - hn h0) + (CMX - hn h) ≤ CMX - hn h0; omega) hroom.2.1, Nat.le_trans (by show (hs h - hs h0) + (SMX - hs h) ≤ SMX - hs h0; omega) hroom.2.2.1⟩
theorem stk_eq (G : GT) {as : List AV} (hst : stk = as.reverse ++ st) : stk.map (cv G) = (as.map (cv G)).reverse ++ st.map (cv G) := by rw [hst, List.map_append, List.map_reverse]
/-- a virtual call, of a receiver of the class ci -/
theorem v_cV (ok : Ok G X own cc nL d h0) {ci index : Nat} {q : vw_C} (hq : clT[ci]? = some q) {y : MethodName} {bytes : ByteArray} {maxL d' : Nat} {ret : Option FieldType} {as : List AV} {a : Nat} (hKa : (hK h a).1 = ci) {rv : Option AV} {h1 : AH} (mm : MM G X.2.1 y bytes maxL ret d' (vr (some a) :: as) h rv h1) (hd' : d' + 1 ≤ d) (cw : CW y bytes maxL ret as.length) (q1 : Cond.methodLink own index y ∈ lw_all) (q2 : Cond.instanceMethod y ∈ lw_all) (q3 : Cond.selects q.1 y y ∈ lw_all)
    (hd : decode cc pc = .ok (.invokevirtual index, 3)) (hst : stk = as.reverse ++ vr (some a) :: st) (h8 : (st.map ctN).sum ≤ 12) (kk : V G X nL h0 Q h1 (pc + 3) lv (rv.toList ++ st)) : V G X nL h0 Q h pc lv stk := by
  intro H locs ls A b c e T hT S
  obtain ⟨cell, c1, c2, c3, -, c5, -⟩ := A.obj hq hKa
  have hstk : stk.map (cv G) = (as.map (cv G)).reverse ++ .ref (rho G a) :: st.map (cv G) := stk_eq G (st := vr (some a) :: st) hst
  obtain ⟨v, vm₁, B, hW₁, X', hp, hstep⟩ := callV S ok.1 (C := q.1) (bytes := bytes) (maxL := maxL) (ret := ret) ok.2.2.2.1 (gw ok q1) (gw ok q2) (gw ok q3) (gw ok cw.1) cw.2.2.1 (back_mm ok mm hd' cw) (by rw [hT]; exact c1) (by cases hz : cell.vm with | statics x => exact absurd hz (c3 x) | _ => rfl) (by rw [c5]; exact (gKn ok hq).2.1) (g := F0 X.2.2.2.2.2.1 pc ls (stk.map (cv G))) rfl (b.1.trans ok.2.2.1.symm) (argsL := as.map (cv G)) (rest := st.map (cv G)) (fun sig hs => by rw [cw.len hs, List.length_map]) hstk (by show 2 * 0 + _ ≤ 12; rw [ctN_eq, Nat.mul_zero, Nat.zero_add]; exact h8) (by rw [ok.2.1]; exact hd)
    (fun vm₁ hW₁ => ⟨(room_mm ok e A).1, (room_mm ok e A).2, rfl, State.WarmedH.trans ok.2.2.2.2.1 hW₁, by show Abs G h T.heap; rw [hT]; exact A⟩)
  exact v_cont e b c X' hp hstep kk
/-- a static call -/
theorem v_cS (ok : Ok G X own cc nL d h0) {index : Nat} {y : MethodName} {bytes : ByteArray} {maxL d' : Nat} {ret : Option FieldType} {as : List AV} {rv : Option AV} {h1 : AH} (mm : MM G X.2.1 y bytes maxL ret d' as h rv h1) (hd' : d' + 1 ≤ d) (cw : CW y bytes maxL ret as.length) (q1 : Cond.methodLink own index y ∈ lw_all) (q2 : Cond.static y ∈ lw_all)
    (hd : decode cc pc = .ok (.invokestatic index, 3)) (hst : stk = as.reverse ++ st) (h8 : (st.map ctN).sum ≤ 12) (kk : V G X nL h0 Q h1 (pc + 3) lv (rv.toList ++ st)) : V G X nL h0 Q h pc lv stk := by
  intro H locs ls A b c e T hT S
  have hstk : stk.map (cv G) = (as.map (cv G)).reverse ++ st.map (cv G) := stk_eq G hst
  obtain ⟨v, vm₁, B, hW₁, X', hp, hstep⟩ := callS S ok.1 (bytes := bytes) (maxL := maxL) (ret := ret) ok.2.2.2.1 (gw ok q1) (gw ok q2) (gw ok cw.2.1) (gw ok cw.1) cw.2.2.1 (back_mm ok mm hd' cw) (g := F0 X.2.2.2.2.2.1 pc ls (stk.map (cv G))) rfl (b.1.trans ok.2.2.1.symm) (argsL := as.map (cv G)) (rest := st.map (cv G)) (fun sig hs => by rw [cw.len hs, List.length_map]) hstk (by show 2 * 0 + _ ≤ 12; rw [ctN_eq, Nat.mul_zero, Nat.zero_add]; exact h8) (by rw [ok.2.1]; exact hd)
    (fun vm₁ hW₁ => ⟨(room_mm ok e A).1, (room_mm ok e A).2, rfl, State.WarmedH.trans ok.2.2.2.2.1 hW₁, by show Abs G h T.heap; rw [hT]; exact A⟩)
  exact v_cont e b c X' hp hstep kk
/-- a constructor's call -/
theorem v_cI (ok : Ok G X own cc nL d h0) {index : Nat} {y : MethodName} {bytes : ByteArray} {maxL d' : Nat} {as : List AV} {a : Nat} {h1 : AH} (hy1 : y.name = "<init>") (mm : MM G X.2.1 y bytes maxL none d' (vr (some a) :: as) h none h1) (hd' : d' + 1 ≤ d) (cw : CW y bytes maxL none as.length) (q1 : Cond.methodLink own index y ∈ lw_all) (q2 : Cond.instanceMethod y ∈ lw_all)
    (hd : decode cc pc = .ok (.invokespecial index, 3)) (hst : stk = as.reverse ++ vr (some a) :: st) (h8 : (st.map ctN).sum ≤ 12) (kk : V G X nL h0 Q h1 (pc + 3) lv st) : V G X nL h0 Q h pc lv stk := by
  intro H locs ls A b c e T hT S
  have hstk : stk.map (cv G) = (as.map (cv G)).reverse ++ .ref (rho G a) :: st.map (cv G) := stk_eq G (st := vr (some a) :: st) hst
  obtain ⟨v, vm₁, B, hW₁, X', hp, hstep⟩ := callI S ok.1 (bytes := bytes) (maxL := maxL) ok.2.2.2.1 hy1 (gw ok q1) (gw ok q2) (gw ok cw.1) cw.2.2.1 (back_mm ok mm hd' cw) (g := F0 X.2.2.2.2.2.1 pc ls (stk.map (cv G))) rfl (b.1.trans ok.2.2.1.symm) (a := rho G a) (argsL := as.map (cv G)) (rest := st.map (cv G)) (fun sig hs => by rw [cw.len hs, List.length_map]) hstk (by show 2 * 0 + _ ≤ 12; rw [ctN_eq, Nat.mul_zero, Nat.zero_add]; exact h8) (by rw [ok.2.1]; exact hd)
    (fun vm₁ hW₁ => ⟨(room_mm ok e A).1, (room_mm ok e A).2, rfl, State.WarmedH.trans ok.2.2.2.2.1 hW₁, by show Abs G h T.heap; rw [hT]; exact A⟩)
  exact v_cont e b c X' hp hstep kk
/-- Object.<init> -/
theorem v_objInit (ok : Ok G X own cc nL d h0) {index : Nat} {r : Option Nat} (q1 : Cond.methodLink own index Lib.objectInit ∈ lw_all) (q2 : Cond.instanceMethod Lib.objectInit ∈ lw_all) (q3 : Cond.code Lib.objectInit ⟨#[0xb1]⟩ 1 none ∈ lw_all) (hd1 : 1 ≤ d) (h8 : (st.map ctN).sum ≤ 12) (hd : decode cc pc = .ok (.invokespecial index, 3)) {f : Nat → Option τ} (hf : (nn r).bind f = some z) (kk : ∀ a, f a = some z → V G X nL h0 Q h (pc + 3) lv st) : V G X nL h0 Q h pc lv (vr r :: st) := by
  cases r with
  | none => cases hf
  | some a0 =>
    intro H locs ls A b c e
    have hroom := ok.2.2.2.2.2.2.2
    refine W.objInit ok.1 ok.2.1 ok.2.2.2.1 (gw ok q1) (gw ok q2) (gw ok q3) rfl (b.1.trans ok.2.2.1.symm) rfl hd (Nat.le_trans hd1 hroom.1) ?_ (kk a0 hf H locs ls A b c e)
    refine Nat.le_trans ?_ hroom.2.2.2
    show 2 * 0 + _ + 12 ≤ 64 * d
    rw [ctN_eq]
    omega
/-! the same, with the function's own step -/
theorem v_cVi (ok : Ok G X own cc nL d h0) {ci index : Nat} (q : vw_C) (hq : clT[ci]? = some q) {y : MethodName} {bytes : ByteArray} {maxL d' : Nat} {ret : Option FieldType} (as : List AV) {r : Option Nat} {F : Nat → Option (Int32 × AH)} (mm : ∀ a v h1, r = some a → F a = some (v, h1) → MM G X.2.1 y bytes maxL ret d' (vr (some a) :: as) h (some (vi v)) h1) (hd' : d' + 1 ≤ d) (cw : CW y bytes maxL ret as.length) (q1 : Cond.methodLink own index y ∈ lw_all) (q2 : Cond.instanceMethod y ∈ lw_all) (q3 : Cond.selects q.1 y y ∈ lw_all)
    (hd : decode cc pc = .ok (.invokevirtual index, 3)) (st : List AV) (hst : stk = as.reverse ++ vr r :: st) (h8 : (st.map ctN).sum ≤ 12) {f : Int32 → AH → Option τ} (hf : ((isO ci r h).bind fun a => b2 (F a) f) = some z) (kk : ∀ v h1, f v h1 = some z → V G X nL h0 Q h1 (pc + 3) lv (vi v :: st)) : V G X nL h0 Q h pc lv stk := by
  obtain ⟨a, ha, hg⟩ := ob hf
  obtain ⟨v, h1, hv, hz⟩ := ob2 hg
  cases r with
  | none => cases ha
  | some a0 =>
    simp only [isO] at ha
    split at ha
    · rename_i hKa
      cases ha
      exact v_cV ok hq hKa (mm _ v h1 rfl hv) hd' cw q1 q2 q3 hd hst h8 (kk v h1 hz)
    · cases ha
theorem v_cSi (ok : Ok G X own cc nL d h0) {index : Nat} {y : MethodName} {bytes : ByteArray} {maxL d' : Nat} {ret : Option FieldType} (as : List AV) {F : Option (Int32 × AH)} (mm : ∀ v h1, F = some (v, h1) → MM G X.2.1 y bytes maxL ret d' as h (some (vi v)) h1) (hd' : d' + 1 ≤ d) (cw : CW y bytes maxL ret as.length) (q1 : Cond.methodLink own index y ∈ lw_all) (q2 : Cond.static y ∈ lw_all)
    (hd : decode cc pc = .ok (.invokestatic index, 3)) (st : List AV) (hst : stk = as.reverse ++ st) (h8 : (st.map ctN).sum ≤ 12) {f : Int32 → AH → Option τ} (hf : (b2 F f) = some z) (kk : ∀ v h1, f v h1 = some z → V G X nL h0 Q h1 (pc + 3) lv (vi v :: st)) : V G X nL h0 Q h pc lv stk := by
  obtain ⟨v, h1, hv, hf⟩ := ob2 hf
  exact v_cS ok (mm v h1 hv) hd' cw q1 q2 hd hst h8 (kk v h1 hf)
theorem v_cVl (ok : Ok G X own cc nL d h0) {ci index : Nat} (q : vw_C) (hq : clT[ci]? = some q) {y : MethodName} {bytes : ByteArray} {maxL d' : Nat} {ret : Option FieldType} (as : List AV) {r : Option Nat} {F : Nat → Option (Int64 × AH)} (mm : ∀ a v h1, r = some a → F a = some (v, h1) → MM G X.2.1 y bytes maxL ret d' (vr (some a) :: as) h (some (vl v)) h1) (hd' : d' + 1 ≤ d) (cw : CW y bytes maxL ret as.length) (q1 : Cond.methodLink own index y ∈ lw_all) (q2 : Cond.instanceMethod y ∈ lw_all) (q3 : Cond.selects q.1 y y ∈ lw_all)
    (hd : decode cc pc = .ok (.invokevirtual index, 3)) (st : List AV) (hst : stk = as.reverse ++ vr r :: st) (h8 : (st.map ctN).sum ≤ 12) {f : Int64 → AH → Option τ} (hf : ((isO ci r h).bind fun a => b2 (F a) f) = some z) (kk : ∀ v h1, f v h1 = some z → V G X nL h0 Q h1 (pc + 3) lv (vl v :: st)) : V G X nL h0 Q h pc lv stk := by
  obtain ⟨a, ha, hg⟩ := ob hf
  obtain ⟨v, h1, hv, hz⟩ := ob2 hg
  cases r with
  | none => cases ha
  | some a0 =>
    simp only [isO] at ha
    split at ha
    · rename_i hKa
      cases ha
      exact v_cV ok hq hKa (mm _ v h1 rfl hv) hd' cw q1 q2 q3 hd hst h8 (kk v h1 hz)
    · cases ha
theorem v_cSl (ok : Ok G X own cc nL d h0) {index : Nat} {y : MethodName} {bytes : ByteArray} {maxL d' : Nat} {ret : Option FieldType} (as : List AV) {F : Option (Int64 × AH)} (mm : ∀ v h1, F = some (v, h1) → MM G X.2.1 y bytes maxL ret d' as h (some (vl v)) h1) (hd' : d' + 1 ≤ d) (cw : CW y bytes maxL ret as.length) (q1 : Cond.methodLink own index y ∈ lw_all) (q2 : Cond.static y ∈ lw_all)
    (hd : decode cc pc = .ok (.invokestatic index, 3)) (st : List AV) (hst : stk = as.reverse ++ st) (h8 : (st.map ctN).sum ≤ 12) {f : Int64 → AH → Option τ} (hf : (b2 F f) = some z) (kk : ∀ v h1, f v h1 = some z → V G X nL h0 Q h1 (pc + 3) lv (vl v :: st)) : V G X nL h0 Q h pc lv stk := by
  obtain ⟨v, h1, hv, hf⟩ := ob2 hf
  exact v_cS ok (mm v h1 hv) hd' cw q1 q2 hd hst h8 (kk v h1 hf)
theorem v_cVr (ok : Ok G X own cc nL d h0) {ci index : Nat} (q : vw_C) (hq : clT[ci]? = some q) {y : MethodName} {bytes : ByteArray} {maxL d' : Nat} {ret : Option FieldType} (as : List AV) {r : Option Nat} {F : Nat → Option (Option Nat × AH)} (mm : ∀ a v h1, r = some a → F a = some (v, h1) → MM G X.2.1 y bytes maxL ret d' (vr (some a) :: as) h (some (vr v)) h1) (hd' : d' + 1 ≤ d) (cw : CW y bytes maxL ret as.length) (q1 : Cond.methodLink own index y ∈ lw_all) (q2 : Cond.instanceMethod y ∈ lw_all) (q3 : Cond.selects q.1 y y ∈ lw_all)
    (hd : decode cc pc = .ok (.invokevirtual index, 3)) (st : List AV) (hst : stk = as.reverse ++ vr r :: st) (h8 : (st.map ctN).sum ≤ 12) {f : Option Nat → AH → Option τ} (hf : ((isO ci r h).bind fun a => b2 (F a) f) = some z) (kk : ∀ v h1, f v h1 = some z → V G X nL h0 Q h1 (pc + 3) lv (vr v :: st)) : V G X nL h0 Q h pc lv stk := by
  obtain ⟨a, ha, hg⟩ := ob hf
  obtain ⟨v, h1, hv, hz⟩ := ob2 hg
  cases r with
  | none => cases ha
  | some a0 =>
    simp only [isO] at ha
    split at ha
    · rename_i hKa
      cases ha
      exact v_cV ok hq hKa (mm _ v h1 rfl hv) hd' cw q1 q2 q3 hd hst h8 (kk v h1 hz)
    · cases ha
theorem v_cSr (ok : Ok G X own cc nL d h0) {index : Nat} {y : MethodName} {bytes : ByteArray} {maxL d' : Nat} {ret : Option FieldType} (as : List AV) {F : Option (Option Nat × AH)} (mm : ∀ v h1, F = some (v, h1) → MM G X.2.1 y bytes maxL ret d' as h (some (vr v)) h1) (hd' : d' + 1 ≤ d) (cw : CW y bytes maxL ret as.length) (q1 : Cond.methodLink own index y ∈ lw_all) (q2 : Cond.static y ∈ lw_all)
    (hd : decode cc pc = .ok (.invokestatic index, 3)) (st : List AV) (hst : stk = as.reverse ++ st) (h8 : (st.map ctN).sum ≤ 12) {f : Option Nat → AH → Option τ} (hf : (b2 F f) = some z) (kk : ∀ v h1, f v h1 = some z → V G X nL h0 Q h1 (pc + 3) lv (vr v :: st)) : V G X nL h0 Q h pc lv stk := by
  obtain ⟨v, h1, hv, hf⟩ := ob2 hf
  exact v_cS ok (mm v h1 hv) hd' cw q1 q2 hd hst h8 (kk v h1 hf)
theorem v_cVv (ok : Ok G X own cc nL d h0) {ci index : Nat} (q : vw_C) (hq : clT[ci]? = some q) {y : MethodName} {bytes : ByteArray} {maxL d' : Nat} {ret : Option FieldType} (as : List AV) {r : Option Nat} {F : Nat → Option AH} (mm : ∀ a h1, r = some a → F a = some h1 → MM G X.2.1 y bytes maxL ret d' (vr (some a) :: as) h none h1) (hd' : d' + 1 ≤ d) (cw : CW y bytes maxL ret as.length) (q1 : Cond.methodLink own index y ∈ lw_all) (q2 : Cond.instanceMethod y ∈ lw_all) (q3 : Cond.selects q.1 y y ∈ lw_all)
    (hd : decode cc pc = .ok (.invokevirtual index, 3)) (st : List AV) (hst : stk = as.reverse ++ vr r :: st) (h8 : (st.map ctN).sum ≤ 12) {f : AH → Option τ} (hf : ((isO ci r h).bind fun a => (F a).bind f) = some z) (kk : ∀ h1, f h1 = some z → V G X nL h0 Q h1 (pc + 3) lv st) : V G X nL h0 Q h pc lv stk := by
  obtain ⟨a, ha, hg⟩ := ob hf
  obtain ⟨h1, hv, hz⟩ := ob hg
  cases r with
  | none => cases ha
  | some a0 =>
    simp only [isO] at ha
    split at ha
    · rename_i hKa
      cases ha
      exact v_cV ok hq hKa (mm _ h1 rfl hv) hd' cw q1 q2 q3 hd hst h8 (kk h1 hz)
    · cases ha
theorem v_cSv (ok : Ok G X own cc nL d h0) {index : Nat} {y : MethodName} {bytes : ByteArray} {maxL d' : Nat} {ret : Option FieldType} (as : List AV) {F : Option AH} (mm : ∀ h1, F = some h1 → MM G X.2.1 y bytes maxL ret d' as h none h1) (hd' : d' + 1 ≤ d) (cw : CW y bytes maxL ret as.length) (q1 : Cond.methodLink own index y ∈ lw_all) (q2 : Cond.static y ∈ lw_all)
    (hd : decode cc pc = .ok (.invokestatic index, 3)) (st : List AV) (hst : stk = as.reverse ++ st) (h8 : (st.map ctN).sum ≤ 12) {f : AH → Option τ} (hf : (F.bind f) = some z) (kk : ∀ h1, f h1 = some z → V G X nL h0 Q h1 (pc + 3) lv st) : V G X nL h0 Q h pc lv stk := by
  obtain ⟨h1, hv, hf⟩ := ob hf
  exact v_cS ok (mm h1 hv) hd' cw q1 q2 hd hst h8 (kk h1 hf)
theorem v_cIv (ok : Ok G X own cc nL d h0) {index : Nat} {y : MethodName} {bytes : ByteArray} {maxL d' : Nat} (as : List AV) {r : Option Nat} (hy1 : y.name = "<init>") {F : Nat → Option AH} (mm : ∀ a h1, r = some a → F a = some h1 → MM G X.2.1 y bytes maxL none d' (vr (some a) :: as) h none h1) (hd' : d' + 1 ≤ d) (cw : CW y bytes maxL none as.length) (q1 : Cond.methodLink own index y ∈ lw_all) (q2 : Cond.instanceMethod y ∈ lw_all)
    (hd : decode cc pc = .ok (.invokespecial index, 3)) (st : List AV) (hst : stk = as.reverse ++ vr r :: st) (h8 : (st.map ctN).sum ≤ 12) {f : AH → Option τ} (hf : ((nn r).bind fun a => (F a).bind f) = some z) (kk : ∀ h1, f h1 = some z → V G X nL h0 Q h1 (pc + 3) lv st) : V G X nL h0 Q h pc lv stk := by
  obtain ⟨a, ha, hg⟩ := ob hf
  obtain ⟨h1, hv, hz⟩ := ob hg
  cases r with
  | none => cases ha
  | some a0 =>
    cases ha
    exact v_cI ok hy1 (mm _ h1 rfl hv) hd' cw q1 q2 hd hst h8 (kk h1 hz)
end VRows3
