set_option maxRecDepth 100000
/-! ===== the class: a step back ===== -/
def PUD (a k : Nat) : Prop := (a = 128 ∧ k = 13) ∨ PCP 148 a k
theorem McP_PUD : McP PUD := fun a k z => by unfold PUD PCP at z; unfold Mc PRT; omega
section CUndo
variable {va : VaT} {th : ThT} {Q : Nat → Prop} {h : AH} {sp : Nat} {s : SH} {f : RW}
theorem C_undo (F : WFS s) (B : CB va th Q h sp s) (C : CNW s h f) {U : List RW} (T : CUN h s U) {r : Nat → Int32} (R : CRF h r) :
    Ev (X0_undo 128 h) (fun z => (U = [] → z.1 = 0 ∧ z.2 = wI 147 4 (r 4 + 1) h) ∧ ∀ g V, U = g :: V → z.1 = 1 ∧ FC PUD h z.2 ∧ CNW s z.2 g ∧ CUN z.2 s V) := by
  have h4 := F.2.2.2.2.1
  have K := B.1
  obtain ⟨hl, p, c1, ⟨c2, c3⟩, c4, c5⟩ := T
  rw [X0_undo, ci_128 K, Option.bind_some, c1]
  cases U with
  | nil =>
    have rf : X0_refuses 128 4 h = some (-1, wI 147 4 (r 4 + 1) h) := (C_refuses B R (k := 4) (by decide)).1
    rw [if_pos (show nI ([] : List RW).length = 0 from rfl), co_128 K, Option.bind_some, b2_of rf, if_pos (by decide), Ev_some]
    exact ⟨fun _ => ⟨rfl, rfl⟩, fun g V e => (nomatch e)⟩
  | cons g V =>
    have hl : V.length + 1 ≤ 20 := hl
    have c1 : hI h 128 13 = nI (V.length + 1) := c1
    have nz : ¬ nI (g :: V).length = 0 := fun z => by
      have := (n_eq (a := V.length + 1) (b := 0) (by omega) (by decide)).mp z
      omega
    have m1 : nI (g :: V).length - 1 = nI V.length := nS1 (show 1 ≤ V.length + 1 by omega)
    obtain ⟨a5, b5⟩ := c5 V.length (by show V.length < V.length + 1; omega)
    have e5 : (g :: V).getD ((g :: V).length - 1 - V.length) (fun _ => 0) = g := by
      rw [show (g :: V).length - 1 - V.length = 0 by rw [List.length_cons]; omega]; rfl
    simp only [e5] at a5 b5
    have pn := (c2 V.length (by omega)).1
    have F1 : FC PUD h (wI 128 13 (nI V.length) h) := (FC.refl _ h).wI (by unfold PUD; omega)
    have F1' : FC (fun a k => a = 128 ∧ k = 13) h (wI 128 13 (nI V.length) h) := (FC.refl _ h).wI ⟨rfl, rfl⟩
    have K1 : CKK (hK (wI 128 13 (nI V.length) h)) (hR (wI 128 13 (nI V.length) h)) := K
    have e13 : hI (wI 128 13 (nI V.length) h) 128 13 = nI V.length := rfl
    have xn : xR 107 (some 267) (nI V.length) (wI 128 13 (nI V.length) h) = some (some (268 + 54 * p V.length)) := by
      rw [xR_e (ck_267 K1) (show V.length < 20 by omega) (by decide)]; exact congrArg some (c2 V.length (by omega)).2
    have a6 := a5.fc F1' h4 b5 (fun a k z => by omega)
    have S6 : STK (wI 128 13 (nI V.length) h) 148 := C.1.1
    obtain ⟨-, q, R0, -⟩ := C.1
    rw [if_neg nz, Option.bind_some, m1, cp_128 K, Option.bind_some, cg_128_9 K1, Option.bind_some, cg_128_12 K1, Option.bind_some, ci_128 K1, Option.bind_some, e13, xn, Option.bind_some, S6.o, Option.bind_some, Ev_b2]
    refine ev_mono (C_copy a6 h4 b5 S6 (q := q) R0 (by omega)) ?_
    rintro ⟨y, H⟩ ⟨rfl, F2, C2⟩
    simp only at F2 C2
    rw [Ev_some]
    refine ⟨fun e => (nomatch e), fun g' V' e => ?_⟩
    obtain ⟨rfl, rfl⟩ := List.cons.inj e
    have F3 : FC PUD (wI 128 13 (nI V.length) h) H := F2.mono (fun a k z => Or.inr z)
    have F4 := F1.trans F3
    refine ⟨rfl, F4, ⟨C2, C.2.1.fc F4 (fun a k z => by unfold PUD PCP; omega), ?_⟩, by omega, p, (F2.i (by unfold PCP; omega)).trans e13, ⟨fun i hi => ⟨(c2 i hi).1, (F4.r (by unfold PUD PCP; omega)).trans (c2 i hi).2⟩, c3⟩, fun j hj => ?_, fun i hi => ?_⟩
    · obtain ⟨q2, R2⟩ := C.2.2
      exact ⟨q2, R2.fc F4 (fun k => by unfold PUD PCP; omega)⟩
    · obtain ⟨T2, q2, R2⟩ := c4 j hj
      exact ⟨T2.fc F4 (fun a k z => by unfold PUD PCP; omega), q2, R2.fc F4 (fun k => by unfold PUD PCP; omega)⟩
    · obtain ⟨x5, y5⟩ := c5 i (by show i < V.length + 1; omega)
      have ei : (g :: V).getD ((g :: V).length - 1 - i) (fun _ => 0) = V.getD (V.length - 1 - i) (fun _ => 0) := by
        rw [show (g :: V).length - 1 - i = (V.length - 1 - i) + 1 by rw [List.length_cons]; omega]; rfl
      simp only [ei] at x5 y5
      have pi := (c2 i (by omega)).1
      exact ⟨x5.fc F4 h4 y5 (fun a k z => by unfold PUD PCP; omega), y5⟩
end CUndo
