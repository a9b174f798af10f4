set_option maxRecDepth 100000
/-! ===== the class: a board is painted ===== -/
section CPaint2
variable {va : VaT} {th : ThT} {Q : Nat → Prop} {h : AH} {sp st : Nat} {s : SH} {f : RW}
/-- painting: what is needed of the state is its frame alone -/
theorem C_paints0 (F : WFS s) (hQ : ∀ a, Q a → Im a) (B : CB va th Q h sp s) (S : STK h st) (hz : SZ st) {b w hd : Nat} (hb : b < 4) (hw : w < z_nw s) (hh : hd < 2) (hc : cp s w hd = true) :
    Ev (X5_paints st (nI b) (nI w) (nI hd) h) (fun H => FT (fun a k => (a = st + 1 ∧ k = b) ∨ (a = st + 2 ∧ k = b) ∨ a = st + 4 + b) h H ∧ hI H (st + 1) b = nI w ∧ hI H (st + 2) b = nI hd ∧ ∀ k, k < 6 → hI H (st + 4 + b) k = nI (if k < z_wl s w then gl s hd (z_wc s w k) else 0)) := by
  have zz := hz
  unfold SZ at zz
  have qn := F.1 hd hh
  have q8 := F.2.2.1
  obtain ⟨w1, w2, w3, -⟩ := F.2.2.2.1 w hw
  have cpi := (cp_iff qn).mp hc
  rw [X5_paints, S.g4, Option.bind_some, S.s1 hb, Option.bind_some, S.w.g5, Option.bind_some, S.w.s2 hb, Option.bind_some, X5_paints_17]
  have F1 : FT (fun a k => (a = st + 1 ∧ k = b) ∨ (a = st + 2 ∧ k = b) ∨ a = st + 4 + b) h (wI (st + 2) b (nI hd) (wI (st + 1) b (nI w) h)) := ((FT.refl _ h).wI (by omega)).wI (by omega)
  have e1 : hI (wI (st + 2) b (nI hd) (wI (st + 1) b (nI w) h)) (st + 1) b = nI w := by rw [p_II, if_neg (by omega), p_II, if_pos ⟨rfl, rfl⟩]
  have e2 : hI (wI (st + 2) b (nI hd) (wI (st + 1) b (nI w) h)) (st + 2) b = nI hd := by rw [p_II, if_pos ⟨rfl, rfl⟩]
  refine ev_for 6 (fun k z => z.1 = nI k ∧ FT (fun a k => (a = st + 1 ∧ k = b) ∨ (a = st + 2 ∧ k = b) ∨ a = st + 4 + b) h z.2 ∧ (hI z.2 (st + 1) b = nI w ∧ hI z.2 (st + 2) b = nI hd) ∧ ∀ k', k' < k → hI z.2 (st + 4 + b) k' = nI (if k' < z_wl s w then gl s hd (z_wc s w k') else 0)) ?_ ?_ 0 _ (by decide) ⟨rfl, F1, ⟨e1, e2⟩, fun k z => absurd z (Nat.not_lt_zero _)⟩
  · rintro k ⟨x, H⟩ hk ⟨hx, F2, ⟨d1, d2⟩, A2⟩
    simp only at hx F2 d1 d2 A2
    subst hx
    have S2 := S.ft F2
    have B2 : CB va th Q H sp s := B.ft hQ F2 (fun a k z => by unfold Mc; omega)
    have K2 := B2.1
    have fin : ∀ v : Nat, v = (if k < z_wl s w then gl s hd (z_wc s w k) else 0) → Ev (X5_paints_60 st (nI b) (nI w) (nI hd) (nI k) (some (st + 4 + b)) (nI k) (nI v) H) (fun o => ∃ H', o = .inl (nI (k + 1), H') ∧ FT (fun a k => (a = st + 1 ∧ k = b) ∨ (a = st + 2 ∧ k = b) ∨ a = st + 4 + b) h H' ∧ (hI H' (st + 1) b = nI w ∧ hI H' (st + 2) b = nI hd) ∧ ∀ k', k' < k + 1 → hI H' (st + 4 + b) k' = nI (if k' < z_wl s w then gl s hd (z_wc s w k') else 0)) := by
      rintro v rfl
      rw [X5_paints_60, S2.s4 hb hk, Option.bind_some, nA1, Ev_some]
      refine ⟨_, rfl, F2.wI (by omega), ⟨by rw [p_II, if_neg (by omega)]; exact d1, by rw [p_II, if_neg (by omega)]; exact d2⟩, fun k' z => ?_⟩
      rw [p_II]
      by_cases e : k' = k
      · rw [if_pos ⟨rfl, e⟩, e]
      · rw [if_neg (fun y => e y.2)]; exact A2 k' (by omega)
    simp (disch := first | assumption | ((repeat (first | with_reducible refine TKI ?_ | with_reducible refine TKL ?_ | with_reducible refine CKI ?_ | with_reducible refine CKL ?_)); assumption) | omega) only [X5_paints_17b, ↓Option.bind_some, ↓b2_some, ↓bX_l, ↓bX_r, Option.bind_some, Option.bind_none, b2_some, bX_l, bX_r, nn_e, if_true, if_false, reduceCtorEq, ↓reduceIte, Nat.reduceEqDiff, Nat.reduceLT, Nat.reduceLeDiff, Nat.reduceSubDiff, Nat.reduceAdd, Nat.reduceMul, nL0, nL1, nL2, hk, ↓bd_of S2.g6, ↓bd_of (S2.x3 hb), ↓bd_of S2.o, ↓b2_of (C_places F B2 S2 hb hw d1)]
    by_cases q : k < z_wl s w
    · rw [if_pos q, S2.g9, Option.bind_some, C_g0 B2, Option.bind_some, C_sp B2, Option.bind_some, b2_of (C_sglyph F B2.2.2.2 B2.2.1 hh hw q (cpi k q))]
      obtain ⟨_, e9, H', rfl, a9⟩ := fin _ (by rw [if_pos q])
      exact ⟨_, e9, rfl, a9⟩
    · rw [if_neg q]
      obtain ⟨_, e9, H', rfl, a9⟩ := fin 0 (by rw [if_neg q])
      exact ⟨_, e9, rfl, a9⟩
  · rintro ⟨x, H⟩ ⟨hx, F2, ⟨d1, d2⟩, A2⟩
    simp only at hx F2 d1 d2 A2
    subst hx
    simp (disch := first | assumption | ((repeat (first | with_reducible refine TKI ?_ | with_reducible refine TKL ?_ | with_reducible refine CKI ?_ | with_reducible refine CKL ?_)); assumption) | omega) only [X5_paints_17b, ↓Option.bind_some, ↓b2_some, ↓bX_l, ↓bX_r, Option.bind_some, Option.bind_none, b2_some, bX_l, bX_r, nn_e, if_true, if_false, reduceCtorEq, ↓reduceIte, Nat.reduceEqDiff, Nat.reduceLT, Nat.reduceLeDiff, Nat.reduceSubDiff, Nat.reduceAdd, Nat.reduceMul, nL0, nL1, nL2, Nat.lt_irrefl]
    rw [Ev_some]
    exact ⟨F2, d1, d2, A2⟩
theorem C_paints (F : WFS s) (hQ : ∀ a, Q a → Im a) (B : CB va th Q h sp s) (C : CST s h st f) (h40 : f 33 ≤ 40) (hz : SZ st) {b w hd : Nat} (hb : b < 4) (hw : w < z_nw s) (hh : hd < 2) (hc : cp s w hd = true) :
    Ev (X5_paints st (nI b) (nI w) (nI hd) h) (fun H => FT (fun a k => (a = st + 1 ∧ k = b) ∨ (a = st + 2 ∧ k = b) ∨ a = st + 4 + b) h H ∧ CST s H st (ptR s f b w hd)) := by
  have h4 := F.2.2.2.2.1
  refine ev_mono (C_paints0 F hQ B C.1 hz hb hw hh hc) ?_
  rintro H ⟨F2, d1, d2, d3⟩
  obtain ⟨S, p, P, ⟨v1, v2⟩, v3, v4⟩ := C
  have e33 : ptR s f b w hd 33 = f 33 := by unfold ptR; rw [if_neg (by omega), if_neg (by omega), if_neg (by omega)]
  refine ⟨F2, S.ft F2, p, P.fc F2.fc (fun k => by omega), ⟨?_, ?_⟩, fun b' hb' => ⟨?_, ?_, fun k hk => ?_⟩, fun i j hi hj => ?_⟩
  · rw [F2.i (by omega), v1]; unfold ptR; rw [if_neg (by omega), if_neg (by omega), if_neg (by omega)]
  · rw [F2.i (by omega), v2, e33]
  · by_cases e : b' = b
    · subst e; rw [d1]; unfold ptR; rw [if_neg (by omega), if_neg (by omega), if_pos rfl]
    · rw [F2.i (by omega), (v3 b' hb').1]; unfold ptR; rw [if_neg (by omega), if_neg (by omega), if_neg (by omega)]
  · by_cases e : b' = b
    · subst e; rw [d2]; unfold ptR; rw [if_neg (by omega), if_pos rfl]
    · rw [F2.i (by omega), (v3 b' hb').2.1]; unfold ptR; rw [if_neg (by omega), if_neg (by omega), if_neg (by omega)]
  · by_cases e : b' = b
    · subst e; rw [d3 k hk]; unfold ptR; rw [if_pos (show 3 + 8 * b' ≤ 3 + 8 * b' + k ∧ 3 + 8 * b' + k < 9 + 8 * b' by omega), show 3 + 8 * b' + k - (3 + 8 * b') = k by omega]
    · rw [F2.i (by omega), (v3 b' hb').2.2 k hk]; unfold ptR; rw [if_neg (by omega), if_neg (by omega), if_neg (by omega)]
  · rw [e33] at hi
    have := (P.1 i (by omega)).1
    rw [F2.i (by omega), v4 i j hi hj]; unfold ptR; rw [if_neg (by omega), if_neg (by omega), if_neg (by omega)]
theorem C_paint (F : WFS s) (hQ : ∀ a, Q a → Im a) (B : CB va th Q h sp s) (C : CNW s h f) (G : WFN s f) {U : List RW} (T : CUN h s U) {r : Nat → Int32} (R : CRF h r) (b w hd : Int32) :
    Ev (X0_paint 128 b w hd h) (fun z => (okP s b w hd = true → z.1 = 1 ∧ FC PGO h z.2 ∧ CNW s z.2 (ptR s f (nt b) (nt w) (nt hd)) ∧ CUN z.2 s (kpU f U)) ∧ (okP s b w hd = false → z.1 = 0 ∧ z.2 = wI 147 2 (r 2 + 1) h)) := by
  have h4 := F.2.2.2.2.1
  have h8 := F.2.2.1
  have K := B.1
  have no : okP s b w hd = false → Ev (X0_paint_17 128 h) (fun z => (okP s b w hd = true → z.1 = 1 ∧ FC PGO h z.2 ∧ CNW s z.2 (ptR s f (nt b) (nt w) (nt hd)) ∧ CUN z.2 s (kpU f U)) ∧ (okP s b w hd = false → z.1 = 0 ∧ z.2 = wI 147 2 (r 2 + 1) h)) := by
    intro e
    rw [(C_refuse2 B R).2, Ev_some]
    exact ⟨fun q => (by rw [e] at q; cases q), fun _ => ⟨rfl, rfl⟩⟩
  rw [X0_paint, co_128 K, Option.bind_some, b2_of (C_isBoard F B b)]
  cases e : inR b (z_nb s) with
  | false => rw [if_pos (show bI false = 0 from rfl)]; exact no (by rw [okP, e]; rfl)
  | true =>
    obtain ⟨b, h1, rfl⟩ := inR_ex (by omega) e
    rw [if_neg (by decide), co_128 K, Option.bind_some, b2_of (C_canPaint F B w hd)]
    cases e2 : (inR w (z_nw s) && (inR hd 2 && cp s (nt w) (nt hd))) with
    | false => rw [if_pos (show bI false = 0 from rfl)]; exact no (by rw [okP, e, e2]; rfl)
    | true =>
      have eo : okP s (nI b) w hd = true := by rw [okP, e, e2]; rfl
      rw [Bool.and_eq_true, Bool.and_eq_true] at e2
      obtain ⟨w, h2, rfl⟩ := inR_ex (by omega) e2.1
      obtain ⟨hd, h3, rfl⟩ := inR_ex (by decide) e2.2.1
      have hc := e2.2.2
      rw [nt_n (by omega), nt_n (by omega)] at hc
      rw [if_neg (show ¬ bI true = 0 by decide), co_128 K, Option.bind_some]
      obtain ⟨H1, h1', F1, T1, C1⟩ := C_keeps F hQ B C G T
      have B1 := B.fc hQ F1 McP_PKP
      have K1 := B1.1
      obtain ⟨H2, h2', F2, C2⟩ := C_paints F hQ B1 C1.1 G.2.2 (by unfold SZ; omega) (show b < 4 by omega) h2 h3 hc
      rw [h1', Option.bind_some, cg_128_9 K1, Option.bind_some, C1.1.1.o, Option.bind_some, h2', Option.bind_some, Ev_some]
      obtain ⟨q2, R2⟩ := C1.2.2
      refine ⟨fun _ => ⟨rfl, (F1.mono (Q := PGO) (fun a k z => Or.inl z)).trans (F2.fc.mono (Q := PGO) (fun a k z => by unfold PGO PST; omega)), ⟨?_, C1.2.1.ft F2, q2, R2.fc F2.fc (fun k => by omega)⟩, T1.fc F2.fc h4 (fun a k z => by omega)⟩, fun z => (by rw [eo] at z; cases z)⟩
      rw [nt_n (by omega), nt_n (by omega), nt_n (by omega)]
      exact C2
end CPaint2
