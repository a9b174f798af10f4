set_option maxRecDepth 100000
/-- a private method y of a class that isn't an interface is selected for any class C that has instances -/
theorem sel_priv {s : State} {args : Array Value} {C : String} {y y' : MethodName} {n : Nat} (hy : y.cls ≠ "java/lang/invoke/MethodHandle" ∧ y.cls ≠ "java/lang/invoke/VarHandle") (hins : (Cond.instantiable C n).before args s = true) (hpriv : (Cond.privateMethod y).before args s = true) (hinst : (Cond.instanceMethod y).before args s = true) (hother : (Cond.selects C y' y').before args s = true) (hc' : y'.cls = y.cls) : (Cond.selects C y y).before args s = true := by
  obtain ⟨c, k, hc, hk, -, -, -, -⟩ := Cond.instantiable_spec hins
  obtain ⟨mk, methM, hnamed, hmethM, -, -⟩ := Cond.instanceMethod_spec hinst
  have hfound : s.methodFound? y.cls y.name y.desc = some mk := State.methodFound?_of_named hnamed hy
  have hsel : selectMethod {} s.vm c mk = .method mk := selectMethod_private hmethM (Cond.privateMethod_at hpriv mk methM hnamed hmethM)
  obtain ⟨c2, r2, m2, q1, q2, q3, q4, kP, hkP, hkPi⟩ := Cond.selects_spec hother
  have e1 : m2.cls = mk.cls := Option.some.inj ((findClass_of_methodNamed q3).symm.trans (by rw [hc']; exact findClass_of_methodNamed hnamed))
  have hkP' : s.vm.classes[mk.cls]? = some kP := by rw [← e1]; exact hkP
  simp only [Cond.before, Cond.holds, Cond.value, hc, hfound, hnamed, hsel, hkP']
  simp; exact hkPi
section VRows7
variable {G : GT} {X : CX} {nL d : Nat} {h0 h : AH} {Q : State → Prop} {pc : Nat} {lv : List (Nat × AV)} {st stk : List AV} {own : String} {cc : ByteArray} {τ : Type} {z : τ}
theorem gselP (ok : Ok G X own cc nL d h0) {A : Array Value} {C : String} {y y' : MethodName} {n : Nat} (hy : y.cls ≠ "java/lang/invoke/MethodHandle" ∧ y.cls ≠ "java/lang/invoke/VarHandle") (q1 : Cond.instantiable C n ∈ lw_all) (q2 : Cond.privateMethod y ∈ lw_tbl) (q3 : Cond.instanceMethod y ∈ lw_all) (q4 : Cond.selects C y' y' ∈ lw_all) (hc : y'.cls = y.cls) : (Cond.selects C y y).before A X.2.2.2.2.1 = true := by
  obtain ⟨A0, ht⟩ := ok.2.2.2.2.2.2.1.1
  have h1 := sel_priv hy (ht _ (lw_all_tbl q1)) (ht _ q2) (ht _ (lw_all_tbl q3)) (ht _ (lw_all_tbl q4)) hc
  exact word_at ok.2.2.2.2.1 (good_of_word (show goodWord (Cond.selects C y y) = true from rfl)) h1
/-- a virtual call, the selection given -/
theorem v_cVs (ok : Ok G X own cc nL d h0) {ci index : Nat} {q : vw_C} (hq : clT[ci]? = some q) {y : MethodName} {bytes : ByteArray} {maxL d' : Nat} {ret : Option FieldType} {as : List AV} {a : Nat} (hKa : (hK h a).1 = ci) {rv : Option AV} {h1 : AH} (mm : MM G X.2.1 y bytes maxL ret d' (vr (some a) :: as) h rv h1) (hd' : d' + 1 ≤ d) (cw : CW y bytes maxL ret as.length) (q1 : Cond.methodLink own index y ∈ lw_all) (q2 : Cond.instanceMethod y ∈ lw_all) (hsel : (Cond.selects q.1 y y).before X.2.2.2.2.2.2.1 X.2.2.2.2.1 = true)
    (hd : decode cc pc = .ok (.invokevirtual index, 3)) (hst : stk = as.reverse ++ vr (some a) :: st) (h8 : (st.map ctN).sum ≤ 12) (kk : V G X nL h0 Q h1 (pc + 3) lv (rv.toList ++ st)) : V G X nL h0 Q h pc lv stk := by
  intro H locs ls A b c e T hT S
  obtain ⟨cell, c1, c2, c3, -, c5, -⟩ := A.obj hq hKa
  have hstk : stk.map (cv G) = (as.map (cv G)).reverse ++ .ref (rho G a) :: st.map (cv G) := stk_eq G (st := vr (some a) :: st) hst
  obtain ⟨v, vm₁, B, hW₁, X', hp, hstep⟩ := callV S ok.1 (C := q.1) (bytes := bytes) (maxL := maxL) (ret := ret) ok.2.2.2.1 (gw ok q1) (gw ok q2) hsel (gw ok cw.1) cw.2.2.1 (back_mm ok mm hd' cw) (by rw [hT]; exact c1) (by cases hz : cell.vm with | statics x => exact absurd hz (c3 x) | _ => rfl) (by rw [c5]; exact (gKn ok hq).2.1) (g := F0 X.2.2.2.2.2.1 pc ls (stk.map (cv G))) rfl (b.1.trans ok.2.2.1.symm) (argsL := as.map (cv G)) (rest := st.map (cv G)) (fun sig hs => by rw [cw.len hs, List.length_map]) hstk (by show 2 * 0 + _ ≤ 12; rw [ctN_eq, Nat.mul_zero, Nat.zero_add]; exact h8) (by rw [ok.2.1]; exact hd)
    (fun vm₁ hW₁ => ⟨(room_mm ok e A).1, (room_mm ok e A).2, rfl, State.WarmedH.trans ok.2.2.2.2.1 hW₁, by show Abs G h T.heap; rw [hT]; exact A⟩)
  exact v_cont e b c X' hp hstep kk
/-- a super call -/
theorem v_cP (ok : Ok G X own cc nL d h0) {ci index : Nat} {q : vw_C} (hq : clT[ci]? = some q) {y : MethodName} {bytes : ByteArray} {maxL d' : Nat} {ret : Option FieldType} {as : List AV} {a : Nat} (hKa : (hK h a).1 = ci) {rv : Option AV} {h1 : AH} (mm : MM G X.2.1 y bytes maxL ret d' (vr (some a) :: as) h rv h1) (hd' : d' + 1 ≤ d) (cw : CW y bytes maxL ret as.length) (q1 : Cond.methodLink own index y ∈ lw_all) (q2 : Cond.instanceMethod y ∈ lw_all) (q3 : Cond.sameMethod y.cls y.cls y.name y.desc ∈ lw_all) (q4 : Cond.superclass own y.cls ∈ lw_all) (hno : y.name ≠ "<init>")
    (hd : decode cc pc = .ok (.invokespecial index, 3)) (hst : stk = as.reverse ++ vr (some a) :: st) (h8 : (st.map ctN).sum ≤ 12) (kk : V G X nL h0 Q h1 (pc + 3) lv (rv.toList ++ st)) : V G X nL h0 Q h pc lv stk := by
  intro H locs ls A b c e T hT S
  obtain ⟨cell, c1, c2, c3, -, c5, -⟩ := A.obj hq hKa
  have hstk : stk.map (cv G) = (as.map (cv G)).reverse ++ .ref (rho G a) :: st.map (cv G) := stk_eq G (st := vr (some a) :: st) hst
  obtain ⟨hS, hfc, kC, hkC, hkind⟩ := gKn ok hq
  obtain ⟨v, vm₁, B, hW₁, X', hp, hstep⟩ := va_callSU S ok.1 (bytes := bytes) (maxL := maxL) (ret := ret) ok.2.2.2.1 (gw ok q1) (gw ok q3) (gw ok q4) (gw ok q2) (gw ok cw.1) hno (back_mm ok mm hd' cw) (kB := kC) (by rw [hT]; exact c1) (by cases hz : cell.vm with | statics x => exact absurd hz (c3 x) | _ => rfl) (by rw [c5]; exact hkC) (g := F0 X.2.2.2.2.2.1 pc ls (stk.map (cv G))) rfl (b.1.trans ok.2.2.1.symm) (argsL := as.map (cv G)) (rest := st.map (cv G)) (fun sig hs => by rw [cw.len hs, List.length_map]) hstk (by show 2 * 0 + _ ≤ 12; rw [ctN_eq, Nat.mul_zero, Nat.zero_add]; exact h8) (by rw [ok.2.1]; exact hd)
    (fun vm₁ hW₁ => ⟨(room_mm ok e A).1, (room_mm ok e A).2, rfl, State.WarmedH.trans ok.2.2.2.2.1 hW₁, by show Abs G h T.heap; rw [hT]; exact A⟩)
  exact v_cont e b c X' hp hstep kk
theorem v_cVsi (ok : Ok G X own cc nL d h0) {ci index : Nat} (q : vw_C) (hq : clT[ci]? = some q) {y : MethodName} {bytes : ByteArray} {maxL d' : Nat} {ret : Option FieldType} (as : List AV) {r : Option Nat} {F : Nat → Option (Int32 × AH)} (mm : ∀ a v h1, r = some a → F a = some (v, h1) → MM G X.2.1 y bytes maxL ret d' (vr (some a) :: as) h (some (vi v)) h1) (hd' : d' + 1 ≤ d) (cw : CW y bytes maxL ret as.length) (q1 : Cond.methodLink own index y ∈ lw_all) (q2 : Cond.instanceMethod y ∈ lw_all) (hsel : (Cond.selects q.1 y y).before X.2.2.2.2.2.2.1 X.2.2.2.2.1 = true)
    (hd : decode cc pc = .ok (.invokevirtual index, 3)) (st : List AV) (hst : stk = as.reverse ++ vr r :: st) (h8 : (st.map ctN).sum ≤ 12) {f : Int32 → AH → Option τ} (hf : ((isO ci r h).bind fun a => b2 (F a) f) = some z) (kk : ∀ v h1, f v h1 = some z → V G X nL h0 Q h1 (pc + 3) lv (vi v :: st)) : V G X nL h0 Q h pc lv stk := by
  obtain ⟨a, ha, hg⟩ := ob hf
  obtain ⟨v, h1, hv, hz⟩ := ob2 hg
  cases r with
  | none => cases ha
  | some a0 =>
    simp only [isO] at ha
    split at ha
    · rename_i hKa
      cases ha
      exact v_cVs ok hq hKa (mm _ v h1 rfl hv) hd' cw q1 q2 hsel hd hst h8 (kk v h1 hz)
    · cases ha
theorem v_cPi (ok : Ok G X own cc nL d h0) {ci index : Nat} (q : vw_C) (hq : clT[ci]? = some q) {y : MethodName} {bytes : ByteArray} {maxL d' : Nat} {ret : Option FieldType} (as : List AV) {r : Option Nat} {F : Nat → Option (Int32 × AH)} (mm : ∀ a v h1, r = some a → F a = some (v, h1) → MM G X.2.1 y bytes maxL ret d' (vr (some a) :: as) h (some (vi v)) h1) (hd' : d' + 1 ≤ d) (cw : CW y bytes maxL ret as.length) (q1 : Cond.methodLink own index y ∈ lw_all) (q2 : Cond.instanceMethod y ∈ lw_all) (q3 : Cond.sameMethod y.cls y.cls y.name y.desc ∈ lw_all) (q4 : Cond.superclass own y.cls ∈ lw_all) (hno : y.name ≠ "<init>")
    (hd : decode cc pc = .ok (.invokespecial index, 3)) (st : List AV) (hst : stk = as.reverse ++ vr r :: st) (h8 : (st.map ctN).sum ≤ 12) {f : Int32 → AH → Option τ} (hf : ((isO ci r h).bind fun a => b2 (F a) f) = some z) (kk : ∀ v h1, f v h1 = some z → V G X nL h0 Q h1 (pc + 3) lv (vi v :: st)) : V G X nL h0 Q h pc lv stk := by
  obtain ⟨a, ha, hg⟩ := ob hf
  obtain ⟨v, h1, hv, hz⟩ := ob2 hg
  cases r with
  | none => cases ha
  | some a0 =>
    simp only [isO] at ha
    split at ha
    · rename_i hKa
      cases ha
      exact v_cP ok hq hKa (mm _ v h1 rfl hv) hd' cw q1 q2 q3 q4 hno hd hst h8 (kk v h1 hz)
    · cases ha
theorem v_cVsl (ok : Ok G X own cc nL d h0) {ci index : Nat} (q : vw_C) (hq : clT[ci]? = some q) {y : MethodName} {bytes : ByteArray} {maxL d' : Nat} {ret : Option FieldType} (as : List AV) {r : Option Nat} {F : Nat → Option (Int64 × AH)} (mm : ∀ a v h1, r = some a → F a = some (v, h1) → MM G X.2.1 y bytes maxL ret d' (vr (some a) :: as) h (some (vl v)) h1) (hd' : d' + 1 ≤ d) (cw : CW y bytes maxL ret as.length) (q1 : Cond.methodLink own index y ∈ lw_all) (q2 : Cond.instanceMethod y ∈ lw_all) (hsel : (Cond.selects q.1 y y).before X.2.2.2.2.2.2.1 X.2.2.2.2.1 = true)
    (hd : decode cc pc = .ok (.invokevirtual index, 3)) (st : List AV) (hst : stk = as.reverse ++ vr r :: st) (h8 : (st.map ctN).sum ≤ 12) {f : Int64 → AH → Option τ} (hf : ((isO ci r h).bind fun a => b2 (F a) f) = some z) (kk : ∀ v h1, f v h1 = some z → V G X nL h0 Q h1 (pc + 3) lv (vl v :: st)) : V G X nL h0 Q h pc lv stk := by
  obtain ⟨a, ha, hg⟩ := ob hf
  obtain ⟨v, h1, hv, hz⟩ := ob2 hg
  cases r with
  | none => cases ha
  | some a0 =>
    simp only [isO] at ha
    split at ha
    · rename_i hKa
      cases ha
      exact v_cVs ok hq hKa (mm _ v h1 rfl hv) hd' cw q1 q2 hsel hd hst h8 (kk v h1 hz)
    · cases ha
theorem v_cPl (ok : Ok G X own cc nL d h0) {ci index : Nat} (q : vw_C) (hq : clT[ci]? = some q) {y : MethodName} {bytes : ByteArray} {maxL d' : Nat} {ret : Option FieldType} (as : List AV) {r : Option Nat} {F : Nat → Option (Int64 × AH)} (mm : ∀ a v h1, r = some a → F a = some (v, h1) → MM G X.2.1 y bytes maxL ret d' (vr (some a) :: as) h (some (vl v)) h1) (hd' : d' + 1 ≤ d) (cw : CW y bytes maxL ret as.length) (q1 : Cond.methodLink own index y ∈ lw_all) (q2 : Cond.instanceMethod y ∈ lw_all) (q3 : Cond.sameMethod y.cls y.cls y.name y.desc ∈ lw_all) (q4 : Cond.superclass own y.cls ∈ lw_all) (hno : y.name ≠ "<init>")
    (hd : decode cc pc = .ok (.invokespecial index, 3)) (st : List AV) (hst : stk = as.reverse ++ vr r :: st) (h8 : (st.map ctN).sum ≤ 12) {f : Int64 → AH → Option τ} (hf : ((isO ci r h).bind fun a => b2 (F a) f) = some z) (kk : ∀ v h1, f v h1 = some z → V G X nL h0 Q h1 (pc + 3) lv (vl v :: st)) : V G X nL h0 Q h pc lv stk := by
  obtain ⟨a, ha, hg⟩ := ob hf
  obtain ⟨v, h1, hv, hz⟩ := ob2 hg
  cases r with
  | none => cases ha
  | some a0 =>
    simp only [isO] at ha
    split at ha
    · rename_i hKa
      cases ha
      exact v_cP ok hq hKa (mm _ v h1 rfl hv) hd' cw q1 q2 q3 q4 hno hd hst h8 (kk v h1 hz)
    · cases ha
theorem v_cVsr (ok : Ok G X own cc nL d h0) {ci index : Nat} (q : vw_C) (hq : clT[ci]? = some q) {y : MethodName} {bytes : ByteArray} {maxL d' : Nat} {ret : Option FieldType} (as : List AV) {r : Option Nat} {F : Nat → Option (Option Nat × AH)} (mm : ∀ a v h1, r = some a → F a = some (v, h1) → MM G X.2.1 y bytes maxL ret d' (vr (some a) :: as) h (some (vr v)) h1) (hd' : d' + 1 ≤ d) (cw : CW y bytes maxL ret as.length) (q1 : Cond.methodLink own index y ∈ lw_all) (q2 : Cond.instanceMethod y ∈ lw_all) (hsel : (Cond.selects q.1 y y).before X.2.2.2.2.2.2.1 X.2.2.2.2.1 = true)
    (hd : decode cc pc = .ok (.invokevirtual index, 3)) (st : List AV) (hst : stk = as.reverse ++ vr r :: st) (h8 : (st.map ctN).sum ≤ 12) {f : Option Nat → AH → Option τ} (hf : ((isO ci r h).bind fun a => b2 (F a) f) = some z) (kk : ∀ v h1, f v h1 = some z → V G X nL h0 Q h1 (pc + 3) lv (vr v :: st)) : V G X nL h0 Q h pc lv stk := by
  obtain ⟨a, ha, hg⟩ := ob hf
  obtain ⟨v, h1, hv, hz⟩ := ob2 hg
  cases r with
  | none => cases ha
  | some a0 =>
    simp only [isO] at ha
    split at ha
    · rename_i hKa
      cases ha
      exact v_cVs ok hq hKa (mm _ v h1 rfl hv) hd' cw q1 q2 hsel hd hst h8 (kk v h1 hz)
    · cases ha
theorem v_cPr (ok : Ok G X own cc nL d h0) {ci index : Nat} (q : vw_C) (hq : clT[ci]? = some q) {y : MethodName} {bytes : ByteArray} {maxL d' : Nat} {ret : Option FieldType} (as : List AV) {r : Option Nat} {F : Nat → Option (Option Nat × AH)} (mm : ∀ a v h1, r = some a → F a = some (v, h1) → MM G X.2.1 y bytes maxL ret d' (vr (some a) :: as) h (some (vr v)) h1) (hd' : d' + 1 ≤ d) (cw : CW y bytes maxL ret as.length) (q1 : Cond.methodLink own index y ∈ lw_all) (q2 : Cond.instanceMethod y ∈ lw_all) (q3 : Cond.sameMethod y.cls y.cls y.name y.desc ∈ lw_all) (q4 : Cond.superclass own y.cls ∈ lw_all) (hno : y.name ≠ "<init>")
    (hd : decode cc pc = .ok (.invokespecial index, 3)) (st : List AV) (hst : stk = as.reverse ++ vr r :: st) (h8 : (st.map ctN).sum ≤ 12) {f : Option Nat → AH → Option τ} (hf : ((isO ci r h).bind fun a => b2 (F a) f) = some z) (kk : ∀ v h1, f v h1 = some z → V G X nL h0 Q h1 (pc + 3) lv (vr v :: st)) : V G X nL h0 Q h pc lv stk := by
  obtain ⟨a, ha, hg⟩ := ob hf
  obtain ⟨v, h1, hv, hz⟩ := ob2 hg
  cases r with
  | none => cases ha
  | some a0 =>
    simp only [isO] at ha
    split at ha
    · rename_i hKa
      cases ha
      exact v_cP ok hq hKa (mm _ v h1 rfl hv) hd' cw q1 q2 q3 q4 hno hd hst h8 (kk v h1 hz)
    · cases ha
theorem v_cVsv (ok : Ok G X own cc nL d h0) {ci index : Nat} (q : vw_C) (hq : clT[ci]? = some q) {y : MethodName} {bytes : ByteArray} {maxL d' : Nat} {ret : Option FieldType} (as : List AV) {r : Option Nat} {F : Nat → Option (AH)} (mm : ∀ a h1, r = some a → F a = some h1 → MM G X.2.1 y bytes maxL ret d' (vr (some a) :: as) h (none) h1) (hd' : d' + 1 ≤ d) (cw : CW y bytes maxL ret as.length) (q1 : Cond.methodLink own index y ∈ lw_all) (q2 : Cond.instanceMethod y ∈ lw_all) (hsel : (Cond.selects q.1 y y).before X.2.2.2.2.2.2.1 X.2.2.2.2.1 = true)
    (hd : decode cc pc = .ok (.invokevirtual index, 3)) (st : List AV) (hst : stk = as.reverse ++ vr r :: st) (h8 : (st.map ctN).sum ≤ 12) {f : AH → Option τ} (hf : ((isO ci r h).bind fun a => (F a).bind f) = some z) (kk : ∀ h1, f h1 = some z → V G X nL h0 Q h1 (pc + 3) lv (st)) : V G X nL h0 Q h pc lv stk := by
  obtain ⟨a, ha, hg⟩ := ob hf
  obtain ⟨h1, hv, hz⟩ := ob hg
  cases r with
  | none => cases ha
  | some a0 =>
    simp only [isO] at ha
    split at ha
    · rename_i hKa
      cases ha
      exact v_cVs ok hq hKa (mm _ h1 rfl hv) hd' cw q1 q2 hsel hd hst h8 (kk h1 hz)
    · cases ha
theorem v_cPv (ok : Ok G X own cc nL d h0) {ci index : Nat} (q : vw_C) (hq : clT[ci]? = some q) {y : MethodName} {bytes : ByteArray} {maxL d' : Nat} {ret : Option FieldType} (as : List AV) {r : Option Nat} {F : Nat → Option (AH)} (mm : ∀ a h1, r = some a → F a = some h1 → MM G X.2.1 y bytes maxL ret d' (vr (some a) :: as) h (none) h1) (hd' : d' + 1 ≤ d) (cw : CW y bytes maxL ret as.length) (q1 : Cond.methodLink own index y ∈ lw_all) (q2 : Cond.instanceMethod y ∈ lw_all) (q3 : Cond.sameMethod y.cls y.cls y.name y.desc ∈ lw_all) (q4 : Cond.superclass own y.cls ∈ lw_all) (hno : y.name ≠ "<init>")
    (hd : decode cc pc = .ok (.invokespecial index, 3)) (st : List AV) (hst : stk = as.reverse ++ vr r :: st) (h8 : (st.map ctN).sum ≤ 12) {f : AH → Option τ} (hf : ((isO ci r h).bind fun a => (F a).bind f) = some z) (kk : ∀ h1, f h1 = some z → V G X nL h0 Q h1 (pc + 3) lv (st)) : V G X nL h0 Q h pc lv stk := by
  obtain ⟨a, ha, hg⟩ := ob hf
  obtain ⟨h1, hv, hz⟩ := ob hg
  cases r with
  | none => cases ha
  | some a0 =>
    simp only [isO] at ha
    split at ha
    · rename_i hKa
      cases ha
      exact v_cP ok hq hKa (mm _ h1 rfl hv) hd' cw q1 q2 q3 q4 hno hd hst h8 (kk h1 hz)
    · cases ha
end VRows7
