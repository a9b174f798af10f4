set_option maxRecDepth 100000
/-! ===== the class: a year, walked ===== -/
theorem McP_PC1 : McP PC1 := fun a k z => by unfold PC1 at z; unfold Mc PRT; omega
theorem McP_PPS {st : Nat} (hz : SZ st) : McP (PPS st) := fun a k z => by unfold PPS at z; unfold SZ at hz; unfold Mc PRT; omega
theorem McP_PAH {st : Nat} (hz : SZ st) : McP (PAH st) := fun a k z => by unfold PAH at z; unfold SZ at hz; unfold Mc PRT; omega
section CYear
variable {va : VaT} {th : ThT} {Q : Nat → Prop} {h : AH} {sp st : Nat} {s : SH} {f : RW}
theorem CST.b (C : CST s h st f) {b : Nat} (hb : b < z_nb s) : hI h (st + 1) b = nI (f (1 + 8 * b)) ∧ hI h (st + 2) b = nI (f (2 + 8 * b)) ∧ ∀ k, k < 6 → hI h (st + 4 + b) k = nI (f (3 + 8 * b + k)) := by
  obtain ⟨_, _, _, _, v3, _⟩ := C
  exact v3 b hb
theorem CST.y (C : CST s h st f) : hI h st 0 = nI (f 0) ∧ hI h st 1 = nI (f 33) := by
  obtain ⟨_, _, _, v1, _⟩ := C
  exact v1
theorem C_board77 (F : WFS s) (hQ : ∀ a, Q a → Im a) (B : CB va th Q h sp s) (G : WFN s f) (hz : SZ st) {sd : Nat → Nat → Nat} (hsd : ∀ b k, b < z_nb s → sd b k < 1000) {b : Nat} (hb : b < z_nb s) (C : CST s h st (cR s f sd b 0)) (D : ASD h st s f sd) :
    Ev (X5_passes_77 va th st (nI b) 1 0 h) (fun o => ∃ H, o = .inl (nI (b + 1), H) ∧ FC (PPS st) h H ∧ CST s H st (cR s f sd (b + 1) 0) ∧ hI H st 2 = hI h st 2 + nI (sB s f b)) := by
  have q4 := F.2.2.2.2.1
  have h6 := WFN_6 F G
  have h6b := h6 b hb
  have zz := hz
  unfold SZ at zz
  obtain ⟨g1, g2, -, g3⟩ := G.2.1 b hb
  have W : ∀ k, cR s f sd b k (1 + 8 * b) = f (1 + 8 * b) ∧ cR s f sd b k (2 + 8 * b) = f (2 + 8 * b) ∧ cR s f sd b k 0 = f 0 := fun k => by
    rw [cR_lo (by omega), cR_lo (by omega), cR_lo (by decide), pr_ng h6 q4 (by omega), pr_ng h6 q4 (i := 2 + 8 * b) (by omega), pr_ng h6 q4 (i := 0) (by omega)]
    exact ⟨rfl, rfl, rfl⟩
  rw [X5_passes_77]
  refine ev_for (z_wl s (f (1 + 8 * b))) (fun k z => z.1 = bI (alln (fun j => sdf s (rnR s f) b j == sd b j) k) ∧ z.2.1 = nI k ∧ FC (PPS st) h z.2.2 ∧ CST s z.2.2 st (cR s f sd b k) ∧ hI z.2.2 st 2 = hI h st 2 + nI (itr (fun k a => a + dl s f b k) k 0)) ?_ ?_ 0 _ (Nat.zero_le _) ⟨rfl, rfl, FC.refl _ _, C, by rw [itr]; exact (Int32.add_zero _).symm⟩
  · rintro k ⟨fl, x, H⟩ hk ⟨hf, hx, F2, C2, E2⟩
    simp only at hf hx F2 C2 E2
    subst hf hx
    have B2 := B.fc hQ F2 (McP_PPS hz)
    have S2 := C2.1
    obtain ⟨w1, w2, w3⟩ := W k
    obtain ⟨c1, c2, c3⟩ := C2.b hb
    obtain ⟨c0, -⟩ := C2.y
    rw [w1] at c1
    rw [w2] at c2
    rw [w3] at c0
    have at0 : cR s f sd b k (3 + 8 * b + k) = f (3 + 8 * b + k) := by rw [cR_lo (by omega)]; exact pr_at.resolve_right (by omega)
    have c3k := c3 k (by omega)
    rw [at0] at c3k
    have gk := g3 k (by omega)
    have hrn : rn s (f (3 + 8 * b + k)) k (f 0) < 32768 := rn_lt gk 15
    have rp := rn_pc s (f (3 + 8 * b + k)) k (f 0)
    have hb4 : b < 4 := by omega
    have hk6 : k < 6 := by omega
    simp (disch := first | assumption | ((repeat (first | with_reducible refine TKI ?_ | with_reducible refine TKL ?_ | with_reducible refine CKI ?_ | with_reducible refine CKL ?_)); assumption) | omega) only [X5_passes_77b, ↓Option.bind_some, ↓b2_some, ↓bX_l, ↓bX_r, Option.bind_some, Option.bind_none, b2_some, bX_l, bX_r, nn_e, if_true, if_false, reduceCtorEq, ↓reduceIte, Nat.reduceEqDiff, Nat.reduceLT, Nat.reduceLeDiff, Nat.reduceSubDiff, Nat.reduceAdd, Nat.reduceMul, nL0, nL1, nL2, ↓bd_of S2.o, ↓b2_of (C_places F B2 S2 hb4 g1 c1), hk, ↓bd_of S2.g6, ↓bd_of (S2.x3 hb4), ↓bd_of (S2.x4 hb4 hk6), c3k, Ev_b2]
    refine ev_mono (C_rainedOn F hQ B2 S2 hz gk hk6 G.1 c0) ?_
    rintro ⟨v, H3⟩ ⟨hv, F3⟩
    simp only at hv F3
    subst hv
    have B3 := B2.ft hQ F3 PC1_Mc
    have S3 := S2.ft F3
    have d3k : hI H3 (st + 4 + b) k = nI (f (3 + 8 * b + k)) := (F3.i (by unfold PC1; omega)).trans c3k
    have d2 : hI H3 st 2 = hI H st 2 := F3.i (by unfold PC1; omega)
    have bc1 : J16_bitCount (nI (f (3 + 8 * b + k)) &&& (nI (rn s (f (3 + 8 * b + k)) k (f 0)) ^^^ (-1))) H3 = some (nI (dl s f b k), H3) := by
      rw [n_an, C_bits (an_lt gk)]
      unfold dl
      rw [show pcN (f (3 + 8 * b + k)) - pcN (rn s (f (3 + 8 * b + k)) k (f 0)) = pcN (an (f (3 + 8 * b + k)) (rn s (f (3 + 8 * b + k)) k (f 0))) by omega]
    simp (disch := first | assumption | ((repeat (first | with_reducible refine TKI ?_ | with_reducible refine TKL ?_ | with_reducible refine CKI ?_ | with_reducible refine CKL ?_)); assumption) | omega) only [↓Option.bind_some, ↓b2_some, ↓bX_l, ↓bX_r, Option.bind_some, Option.bind_none, b2_some, bX_l, bX_r, nn_e, if_true, if_false, reduceCtorEq, ↓reduceIte, Nat.reduceEqDiff, Nat.reduceLT, Nat.reduceLeDiff, Nat.reduceSubDiff, Nat.reduceAdd, Nat.reduceMul, ↓bd_of (S3.gi 2), ↓bd_of S3.g6, ↓bd_of (S3.x3 hb4), ↓bd_of (S3.x4 hb4 hk6), d3k, ↓b2_of bc1, ↓bd_of (S3.pi 2 _), ↓bd_of S3.w.g6, ↓bd_of (S3.w.x3 hb4), ↓bd_of (S3.w.s4 hb4 hk6)]
    have F4 : FC (PPS st) H (wI (st + 4 + b) k (nI (rn s (f (3 + 8 * b + k)) k (f 0))) (wI st 2 (hI H3 st 2 + nI (dl s f b k)) H3)) := ((F3.fc.mono (fun a k z => by unfold PC1 at z; unfold PPS; omega)).wI (by unfold PPS; omega)).wI (by unfold PPS; omega)
    have F3' : FC (fun a k => PC1 a k ∨ (a = st ∧ k = 2)) H (wI st 2 (hI H3 st 2 + nI (dl s f b k)) H3) := (F3.fc.mono (fun a k z => Or.inl z)).wI (Or.inr ⟨rfl, rfl⟩)
    have h40 : cR s f sd b k 33 ≤ 40 := (cR_wf F G sd b k).2.2
    have C3 : CST s (wI st 2 (hI H3 st 2 + nI (dl s f b k)) H3) st (cR s f sd b k) := C2.fc F3' q4 h40 (fun a k z => by unfold PC1; omega)
    have C4 := C3.gly (v := rn s (f (3 + 8 * b + k)) k (f 0)) q4 h40 hb4 hk6
    have ec : (fun x => if x = 3 + 8 * b + k then rn s (f (3 + 8 * b + k)) k (f 0) else cR s f sd b k x) = cR s f sd b (k + 1) := by
      funext x
      unfold cR
      rw [pr_k hb hk h6b]
      simp only
      by_cases e : x = 3 + 8 * b + k
      · rw [if_pos e, if_pos (by omega), if_pos e]
      · rw [if_neg e, if_neg e]
    rw [ec] at C4
    have E4 : hI (wI (st + 4 + b) k (nI (rn s (f (3 + 8 * b + k)) k (f 0))) (wI st 2 (hI H3 st 2 + nI (dl s f b k)) H3)) st 2 = hI h st 2 + nI (itr (fun k a => a + dl s f b k) (k + 1) 0) := by
      rw [p_II, if_neg (by omega), p_II, if_pos ⟨rfl, rfl⟩, d2, E2, Int32.add_assoc, n_add]
      rfl
    generalize (wI (st + 4 + b) k (nI (rn s (f (3 + 8 * b + k)) k (f 0))) (wI st 2 (hI H3 st 2 + nI (dl s f b k)) H3)) = H4 at *
    have B4 := B2.fc hQ F4 (McP_PPS hz)
    have S4 := C4.1
    obtain ⟨w1', w2', w3'⟩ := W (k + 1)
    obtain ⟨c1', c2', c3'⟩ := C4.b hb
    rw [w1'] at c1'
    rw [w2'] at c2'
    have at1 : cR s f sd b (k + 1) (3 + 8 * b + k) = rn s (f (3 + 8 * b + k)) k (f 0) := by rw [← ec]; simp only; rw [if_pos trivial]
    have c3k' := c3' k hk6
    rw [at1] at c3k'
    cases ea : alln (fun j => sdf s (rnR s f) b j == sd b j) k with
    | false =>
      rw [if_pos (show bI false = 0 from rfl), Ev_some]
      exact ⟨by rw [alln, ea]; rfl, by rw [nA1], F2.trans F4, C4, E4⟩
    | true =>
      rw [if_neg (show ¬ bI true = 0 by decide), S4.o, Option.bind_some, Ev_b2]
      refine ev_mono (C_ssays F hQ B4 S4 (how := 0) hb4 g1 g2 (by decide) hk c1' c2' (by rw [plH0]; exact c3k') hrn) ?_
      rintro ⟨v, H5⟩ ⟨hv, F5⟩
      simp only at hv F5
      subst hv
      have S5 := S4.ft F5
      have a5 : hI H5 (st + 50 + b) k = nI (sd b k) := by rw [F5.i (by unfold PC1; omega), F4.i (by unfold PPS; omega), F2.i (by unfold PPS; omega)]; exact D b k hb hk
      have e5 : rd s (f (2 + 8 * b)) (tN 0 (rn s (f (3 + 8 * b + k)) k (f 0))) = sdf s (rnR s f) b k := by
        rw [tN_0 hrn]
        unfold sdf
        rw [rnR_at hb hk h6b, rnR_ng F G (i := 2 + 8 * b) (by omega)]
      have l5 : sdf s (rnR s f) b k < 1000 := sdf_lt F (WFN_rn F G _ _) hb
      have l6 := hsd b k hb
      have C5 : CST s H5 st (cR s f sd b (k + 1)) := C4.fc F5.fc q4 (cR_wf F G sd b (k + 1)).2.2 (fun a k z => by unfold PC1; omega)
      have E5 : hI H5 st 2 = hI h st 2 + nI (itr (fun k a => a + dl s f b k) (k + 1) 0) := (F5.i (by unfold PC1; omega)).trans E4
      have F6 : FC (PPS st) h H5 := (F2.trans F4).trans (F5.fc.mono (fun a k z => by unfold PC1 at z; unfold PPS; omega))
      simp (disch := first | assumption | ((repeat (first | with_reducible refine TKI ?_ | with_reducible refine TKL ?_ | with_reducible refine CKI ?_ | with_reducible refine CKL ?_)); assumption) | omega) only [↓Option.bind_some, ↓b2_some, ↓bX_l, ↓bX_r, Option.bind_some, Option.bind_none, b2_some, bX_l, bX_r, nn_e, if_true, if_false, reduceCtorEq, ↓reduceIte, Nat.reduceEqDiff, Nat.reduceLT, Nat.reduceLeDiff, Nat.reduceSubDiff, Nat.reduceAdd, Nat.reduceMul, ↓bd_of S5.g8, ↓bd_of (S5.x49 hb4), ↓bd_of (S5.x50 hb4 hk6), a5, e5, nE0, nA1]
      by_cases z : sdf s (rnR s f) b k = sd b k
      · rw [if_pos z, Ev_some]
        exact ⟨by rw [alln, ea, show (sdf s (rnR s f) b k == sd b k) = true by simpa using z]; rfl, rfl, F6, C5, E5⟩
      · rw [if_neg z, Ev_some]
        exact ⟨by rw [alln, ea, show (sdf s (rnR s f) b k == sd b k) = false by simpa using z]; rfl, rfl, F6, C5, E5⟩
  · rintro ⟨fl, x, H⟩ ⟨hf, hx, F2, C2, E2⟩
    simp only at hf hx F2 C2 E2
    subst hf hx
    have B2 := B.fc hQ F2 (McP_PPS hz)
    have S2 := C2.1
    obtain ⟨w1, w2, w3⟩ := W (z_wl s (f (1 + 8 * b)))
    obtain ⟨c1, c2, c3⟩ := C2.b hb
    rw [w1] at c1
    have hb4 : b < 4 := by omega
    have up := cR_up F G sd hb
    simp (disch := first | assumption | ((repeat (first | with_reducible refine TKI ?_ | with_reducible refine TKL ?_ | with_reducible refine CKI ?_ | with_reducible refine CKL ?_)); assumption) | omega) only [X5_passes_77b, ↓Option.bind_some, ↓b2_some, ↓bX_l, ↓bX_r, Option.bind_some, Option.bind_none, b2_some, bX_l, bX_r, nn_e, if_true, if_false, reduceCtorEq, ↓reduceIte, Nat.reduceEqDiff, Nat.reduceLT, Nat.reduceLeDiff, Nat.reduceSubDiff, Nat.reduceAdd, Nat.reduceMul, nL0, nL1, nL2, ↓bd_of S2.o, ↓b2_of (C_places F B2 S2 hb4 g1 c1), Nat.lt_irrefl, X5_passes_177, nA1]
    cases ea : alln (fun j => sdf s (rnR s f) b j == sd b j) (z_wl s (f (1 + 8 * b))) with
    | true =>
      rw [ea, if_pos rfl] at up
      rw [if_neg (show ¬ bI true = 0 by decide), Option.bind_some, Ev_some]
      exact ⟨H, rfl, F2, by rw [← up]; exact C2, E2⟩
    | false =>
      rw [ea, if_neg (by decide)] at up
      rw [if_pos (show bI false = 0 from rfl)]
      obtain ⟨H3, h3, F3, C3⟩ := C_tells F hQ B2 C2 (cR_wf F G sd b _) hz hb
      rw [w1, up] at C3
      rw [h3, Option.bind_some, Option.bind_some, Ev_some]
      refine ⟨H3, rfl, F2.trans (F3.mono (fun a k z => by unfold PTL at z; unfold PPS; omega)), C3, ?_⟩
      rw [F3.i (by unfold PTL; omega)]
      exact E2
end CYear
