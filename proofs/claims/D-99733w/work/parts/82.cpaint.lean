set_option maxRecDepth 100000
/-! ===== the class: a stroke ===== -/
section CPaint
variable {va : VaT} {th : ThT} {Q : Nat → Prop} {h : AH} {sp : Nat} {s : SH} {f : RW}
theorem C_refuse2 (B : CB va th Q h sp s) {r : Nat → Int32} (R : CRF h r) : X0_stroke_58 128 h = some (0, wI 147 2 (r 2 + 1) h) ∧ X0_paint_17 128 h = some (0, wI 147 2 (r 2 + 1) h) := by
  have K := B.1
  have rf : X0_refuses 128 2 h = some (-1, wI 147 2 (r 2 + 1) h) := (C_refuses B R (k := 2) (by decide)).1
  constructor
  · rw [X0_stroke_58, co_128 K, Option.bind_some, b2_of rf, if_pos (by decide)]
  · rw [X0_paint_17, co_128 K, Option.bind_some, b2_of rf, if_pos (by decide)]
theorem C_stroke (F : WFS s) (hQ : ∀ a, Q a → Im a) (B : CB va th Q h sp s) (C : CNW s h f) (G : WFN s f) {U : List RW} (T : CUN h s U) {r : Nat → Int32} (R : CRF h r) (b p bit on : Int32) :
    Ev (X0_stroke 128 b p bit on h) (fun z => (okS s f b p bit on = true → z.1 = 1 ∧ FC PGO h z.2 ∧ CNW s z.2 (stR f (nt b) (nt p) (nt bit)) ∧ CUN z.2 s (kpU f U)) ∧ (okS s f b p bit on = false → z.1 = 0 ∧ z.2 = wI 147 2 (r 2 + 1) h)) := by
  have h4 := F.2.2.2.2.1
  have K := B.1
  have no : okS s f b p bit on = false → Ev (X0_stroke_58 128 h) (fun z => (okS s f b p bit on = true → z.1 = 1 ∧ FC PGO h z.2 ∧ CNW s z.2 (stR f (nt b) (nt p) (nt bit)) ∧ CUN z.2 s (kpU f U)) ∧ (okS s f b p bit on = false → z.1 = 0 ∧ z.2 = wI 147 2 (r 2 + 1) h)) := by
    intro e
    rw [(C_refuse2 B R).1, Ev_some]
    exact ⟨fun q => (by rw [e] at q; cases q), fun _ => ⟨rfl, rfl⟩⟩
  rw [X0_stroke, co_128 K, Option.bind_some, b2_of (C_isPlace F B C G b p)]
  cases e : isP s f b p with
  | false => rw [if_pos (show bI false = 0 from rfl)]; exact no (by rw [okS, e]; rfl)
  | true =>
    obtain ⟨b, p, rfl, rfl, h1, h2, h3, h5⟩ := isP_ex F G e
    rw [if_neg (by decide), C_is, b2_some, show (14 : Int32) = Int32.ofNat 14 from rfl, b_inC (by decide)]
    cases e2 : inR bit (14 + 1) with
    | false => rw [if_pos (show bI false = 0 from rfl)]; exact no (by rw [okS, e, e2]; rfl)
    | true =>
      obtain ⟨bit, hbit, rfl⟩ := inR_ex (by decide) e2
      rw [if_neg (by decide), C_is, b2_some, show X0_stroke_55 = X0_stroke_55 from rfl, show decide ((0 : Int32).toInt ≤ on.toInt ∧ on.toInt ≤ (1 : Int32).toInt) = inR on 2 from b_inC (m := 1) (by decide)]
      cases e3 : inR on 2 with
      | false => rw [if_pos (show bI false = 0 from rfl)]; exact no (by rw [okS, e, e2, e3]; rfl)
      | true =>
        obtain ⟨on, hon, rfl⟩ := inR_ex (by decide) e3
        have gk := (G.2.1 b h1).2.2.2 p h3
        have S := C.1.1
        have c3 := (C.1.b h1).2.2 p h3
        have b01 := bN_01 (f (3 + 8 * b + p)) bit
        have eo : okS s f (nI b) (nI p) (nI bit) (nI on) = !(bN (f (3 + 8 * b + p)) bit == on) := by rw [okS, e, e2, e3, nt_n (by omega), nt_n (by omega), nt_n (by omega), nt_n (by omega)]; rfl
        rw [if_neg (by decide), cg_128_9 K, Option.bind_some, S.g6, Option.bind_some, S.x3 h5, Option.bind_some, S.x4 h5 h3, Option.bind_some, c3, b2_of (X0_has_e gk hbit h)]
        have key : ∀ v, v = nI on → Ev (X0_stroke_55 128 (nI b) (nI p) (nI bit) (nI (bN (f (3 + 8 * b + p)) bit)) v h) (fun z => (okS s f (nI b) (nI p) (nI bit) (nI on) = true → z.1 = 1 ∧ FC PGO h z.2 ∧ CNW s z.2 (stR f (nt (nI b)) (nt (nI p)) (nt (nI bit))) ∧ CUN z.2 s (kpU f U)) ∧ (okS s f (nI b) (nI p) (nI bit) (nI on) = false → z.1 = 0 ∧ z.2 = wI 147 2 (r 2 + 1) h)) := by
          rintro v rfl
          rw [X0_stroke_55]
          by_cases q : bN (f (3 + 8 * b + p)) bit = on
          · rw [if_pos (by rw [q])]
            exact no (by rw [eo, q]; simp)
          · rw [if_neg (by rw [nE0 (by omega) (by omega)]; exact q), co_128 K, Option.bind_some]
            obtain ⟨H1, h1', F1, T1, C1⟩ := C_keeps F hQ B C G T
            have B1 := B.fc hQ F1 McP_PKP
            have K1 := B1.1
            have S1 := C1.1.1
            have c31 := (C1.1.b h1).2.2 p h3
            rw [h1', Option.bind_some, cg_128_9 K1, Option.bind_some, S1.g6, Option.bind_some, S1.x3 h5, Option.bind_some, S1.x4 h5 h3, Option.bind_some, S1.s4 h5 h3, Option.bind_some, c31, jbit1 hbit, n_xor, Ev_some]
            have F2 : FC (fun a k => a = 148 + 4 + b) H1 (wI (148 + 4 + b) p (nI (f (3 + 8 * b + p) ^^^ 2 ^ bit)) H1) := (FC.refl _ H1).wI rfl
            refine ⟨fun _ => ⟨rfl, (F1.mono (Q := PGO) (fun a k z => Or.inl z)).trans (F2.mono (Q := PGO) (fun a k z => by unfold PGO PST; omega)), ⟨?_, C1.2.1, C1.2.2⟩, T1.fc F2 h4 (fun a k z => by omega)⟩, fun z => (by rw [eo] at z; simp [q] at z)⟩
            rw [nt_n (by omega), nt_n (by omega), nt_n (by omega)]
            have g := C1.1.gly (v := f (3 + 8 * b + p) ^^^ 2 ^ bit) h4 G.2.2 h5 h3
            have es : (fun x => if x = 3 + 8 * b + p then f (3 + 8 * b + p) ^^^ 2 ^ bit else f x) = stR f b p bit := by
              funext k
              unfold stR
              by_cases ek : k = 3 + 8 * b + p
              · rw [if_pos ek, if_pos ek, ek]
              · rw [if_neg ek, if_neg ek]
            rw [es] at g
            exact g
        rcases (by omega : on = 0 ∨ on = 1) with rfl | rfl
        · rw [if_neg (show ¬ nI 0 = 1 by decide)]; exact key _ rfl
        · rw [if_pos (show nI 1 = 1 from rfl)]; exact key _ rfl
end CPaint
