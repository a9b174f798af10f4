set_option maxRecDepth 100000
/-! ===== mend, strokes, has: the twin's ===== -/
section Mend
variable {h : AH} {s : SH} {f : RW}
theorem or_lt {g bit : Nat} (hg : g < 32768) (hb : bit < 15) : g ||| 2 ^ bit < 32768 := Nat.or_lt_two_pow (n := 15) hg (Nat.pow_lt_pow_right (by decide) hb)
theorem T_mend (W : TKK (hK h) (hR h)) (F : WFS s) (S : TSH h s) (N : TNOW h f) (G : WFN s f) (x y k : Int32) : Ev (X7_mend 1349 x y k h) (fun z => z.1 = q_mend s f x y k ∧ FT PD2 h z.2) := by
  rw [X7_mend, tisO W, Option.bind_some, b2_of (T_isPlace W F S N G x y), q_mend]
  cases e : isP s f x y with
  | false => rw [if_pos (show bI false = 0 from rfl), Ev_some]; exact ⟨rfl, FT.refl _ _⟩
  | true =>
    obtain ⟨b, p, rfl, rfl, h1, h2, h3, h4⟩ := isP_ex F G e
    obtain ⟨g1, g2, -, g3⟩ := G.2.1 b h1
    have qn := F.1 _ g2
    have hr2 : inR (nI (f (2 + 8 * b))) 2 = true := inR_n g2 (by decide)
    rw [if_neg (by decide), if_pos rfl, nt_n (by omega), nt_n (by omega), tisO W, Option.bind_some, b2_of (T_handOf W N h4), tisO W, Option.bind_some, b2_of (T_isLetterOf W F S _ k), hr2, Bool.true_and, n_int (by omega), Int.toNat_natCast]
    cases e2 : inR k (z_nl s (f (2 + 8 * b))) with
    | false => rw [if_pos (show bI false = 0 from rfl), Ev_some]; exact ⟨rfl, FT.refl _ _⟩
    | true =>
      obtain ⟨k, hk, rfl⟩ := inR_ex (by omega) e2
      have l1 := F.2.1 _ k g2 hk
      rw [if_neg (by decide), if_pos rfl, nt_n (by omega)]
      generalize hhd : f (2 + 8 * b) = hd at *
      have tH := T_handOf W N h4
      rw [hhd] at tH
      have gp := g3 p h3
      generalize hg0 : f (3 + 8 * b + p) = g0 at *
      have tG := T_glyphAt W N h4 h3
      rw [hg0] at tG
      simp (disch := first | assumption | ((repeat (first | with_reducible refine TKI ?_ | with_reducible refine TKL ?_)); assumption) | omega) only [↓btgI, ↓btpI, ↓btgL, ↓btpL, ↓btisO, tgI, tpI, tgL, tpL, tisO, ↓Option.bind_some, ↓b2_some, ↓bX_l, ↓bX_r, Option.bind_some, Option.bind_none, b2_some, bX_l, bX_r, nn_e, if_true, if_false, reduceCtorEq, ↓reduceIte, Nat.reduceEqDiff, Nat.reduceLT, Nat.reduceLeDiff, Nat.reduceSubDiff, Nat.reduceAdd, Nat.reduceMul, ↓b2_of tH, ↓b2_of tG]
      rw [Ev_b2]
      refine ev_mono (T_readAs W F S g2 gp) ?_
      rintro ⟨v, H⟩ ⟨hv, F1⟩
      simp only at hv F1
      subst hv
      have W1 := F1.tk W
      have S1 := F1.tsh PD2_stn S
      have rl : ∀ g, rd s hd g ≤ 26 := fun g => rd_lt F g2 g _ (Nat.le_refl _)
      have rl0 := rl g0
      simp (disch := first | assumption | ((repeat (first | with_reducible refine TKI ?_ | with_reducible refine TKL ?_)); assumption) | omega) only [↓btgI, ↓btpI, ↓btgL, ↓btpL, ↓btisO, tgI, tpI, tgL, tpL, tisO, ↓Option.bind_some, ↓b2_some, ↓bX_l, ↓bX_r, Option.bind_some, Option.bind_none, b2_some, bX_l, bX_r, nn_e, if_true, if_false, reduceCtorEq, ↓reduceIte, Nat.reduceEqDiff, Nat.reduceLT, Nat.reduceLeDiff, Nat.reduceSubDiff, Nat.reduceAdd, Nat.reduceMul, ↓b2_of (T_nameOf W1 F S1 g2 hk), nE0]
      by_cases q : rd s hd g0 = z_lw s hd k
      · rw [if_pos q, if_pos q, Ev_some]; exact ⟨rfl, F1⟩
      · rw [if_neg q, if_neg q, X7_mend_65]
        refine ev_for 15 (fun bit st => ∃ g n, g < 32768 ∧ n ≤ bit ∧ st.1 = nI g ∧ st.2.1 = nI n ∧ st.2.2.1 = nI bit ∧ FT PD2 h st.2.2.2 ∧ mnd s hd (z_lw s hd k) (z_lg s hd k) 16 0 g0 0 = mnd s hd (z_lw s hd k) (z_lg s hd k) (16 - bit) bit g n) ?_ ?_ 0 _ (by decide) ⟨g0, 0, gp, Nat.le_refl _, rfl, rfl, rfl, F1, rfl⟩
        · rintro bit ⟨a, c, d, H2⟩ hb ⟨g, n, hg, hn, ha, hc, hd', F2, hm⟩
          simp only at ha hc hd' F2
          subst ha hc hd'
          have W2 := F2.tk W
          have S2 := F2.tsh PD2_stn S
          have og := or_lt hg hb
          have hstep : mnd s hd (z_lw s hd k) (z_lg s hd k) (16 - bit) bit g n = if bN g bit = 1 then mnd s hd (z_lw s hd k) (z_lg s hd k) (15 - bit) (bit + 1) g n else if bN (z_lg s hd k) bit = 0 then mnd s hd (z_lw s hd k) (z_lg s hd k) (15 - bit) (bit + 1) g n else if rd s hd (g ||| 2 ^ bit) = z_lw s hd k then nI (n + 1) else mnd s hd (z_lw s hd k) (z_lg s hd k) (15 - bit) (bit + 1) (g ||| 2 ^ bit) (n + 1) := by
            rw [show 16 - bit = (15 - bit) + 1 by omega, mnd, if_pos hb]
          have b1 := bN_01 g bit
          have b2 := bN_01 (z_lg s hd k) bit
          simp (disch := first | assumption | ((repeat (first | with_reducible refine TKI ?_ | with_reducible refine TKL ?_)); assumption) | omega) only [X7_mend_65b, ↓btgI, ↓btpI, ↓btgL, ↓btpL, ↓btisO, tgI, tpI, tgL, tpL, tisO, ↓Option.bind_some, ↓b2_some, ↓bX_l, ↓bX_r, Option.bind_some, Option.bind_none, b2_some, bX_l, bX_r, nn_e, if_true, if_false, reduceCtorEq, ↓reduceIte, Nat.reduceEqDiff, Nat.reduceLT, Nat.reduceLeDiff, Nat.reduceSubDiff, Nat.reduceAdd, Nat.reduceMul, nA1, nA2, nM1, nM2, n_add, n_mul, n_sub, nS1, nS2, nL0, nL1, nL2, nE0, nE1, nE2, nE3, bI_0, bI_1, bI_m, rz_b, rz_0, rz_1, hb, jbit hg hb]
          by_cases c1 : bN g bit = 1
          · rw [if_pos c1] at hstep
            rw [if_pos c1, Ev_some]
            exact ⟨g, n, hg, by omega, rfl, rfl, rfl, F2, hm.trans hstep⟩
          · rw [if_neg c1] at hstep
            rw [if_neg c1, b2_of (T_glyphOf W2 F S2 g2 hk)]
            simp (disch := first | assumption | ((repeat (first | with_reducible refine TKI ?_ | with_reducible refine TKL ?_)); assumption) | omega) only [↓btgI, ↓btpI, ↓btgL, ↓btpL, ↓btisO, tgI, tpI, tgL, tpL, tisO, ↓Option.bind_some, ↓b2_some, ↓bX_l, ↓bX_r, Option.bind_some, Option.bind_none, b2_some, bX_l, bX_r, nn_e, if_true, if_false, reduceCtorEq, ↓reduceIte, Nat.reduceEqDiff, Nat.reduceLT, Nat.reduceLeDiff, Nat.reduceSubDiff, Nat.reduceAdd, Nat.reduceMul, nA1, nA2, nM1, nM2, n_add, n_mul, n_sub, nS1, nS2, nL0, nL1, nL2, nE0, nE1, nE2, nE3, bI_0, bI_1, bI_m, rz_b, rz_0, rz_1, jbit l1.2.2 hb]
            by_cases c2 : bN (z_lg s hd k) bit = 0
            · rw [if_pos c2] at hstep
              rw [if_pos c2, Ev_some]
              exact ⟨g, n, hg, by omega, rfl, rfl, rfl, F2, hm.trans hstep⟩
            · rw [if_neg c2] at hstep
              rw [if_neg c2, jbit1 hb, n_or, Ev_b2]
              refine ev_mono (T_readAs W2 F S2 g2 og) ?_
              rintro ⟨v, H3⟩ ⟨hv, F3⟩
              simp only at hv F3
              subst hv
              have W3 := F3.tk W2
              have S3 := F3.tsh PD2_stn S2
              have rl1 := rl (g ||| 2 ^ bit)
              simp (disch := first | assumption | ((repeat (first | with_reducible refine TKI ?_ | with_reducible refine TKL ?_)); assumption) | omega) only [↓btgI, ↓btpI, ↓btgL, ↓btpL, ↓btisO, tgI, tpI, tgL, tpL, tisO, ↓Option.bind_some, ↓b2_some, ↓bX_l, ↓bX_r, Option.bind_some, Option.bind_none, b2_some, bX_l, bX_r, nn_e, if_true, if_false, reduceCtorEq, ↓reduceIte, Nat.reduceEqDiff, Nat.reduceLT, Nat.reduceLeDiff, Nat.reduceSubDiff, Nat.reduceAdd, Nat.reduceMul, ↓b2_of (T_nameOf W3 F S3 g2 hk), nE0, nA1]
              by_cases c3 : rd s hd (g ||| 2 ^ bit) = z_lw s hd k
              · rw [if_pos c3] at hstep
                rw [if_pos c3, Ev_some]
                exact ⟨(hm.trans hstep).symm, F2.trans F3⟩
              · rw [if_neg c3] at hstep
                rw [if_neg c3, Ev_some]
                exact ⟨g ||| 2 ^ bit, n + 1, og, by omega, rfl, rfl, rfl, F2.trans F3, hm.trans hstep⟩
        · rintro ⟨a, c, d, H2⟩ ⟨g, n, hg, hn, ha, hc, hd', F2, hm⟩
          simp only at ha hc hd' F2
          subst ha hc hd'
          simp (disch := first | assumption | ((repeat (first | with_reducible refine TKI ?_ | with_reducible refine TKL ?_)); assumption) | omega) only [X7_mend_65b, ↓Option.bind_some, ↓b2_some, ↓bX_l, ↓bX_r, Option.bind_some, Option.bind_none, b2_some, bX_l, bX_r, nn_e, if_true, if_false, reduceCtorEq, ↓reduceIte, Nat.reduceEqDiff, Nat.reduceLT, Nat.reduceLeDiff, Nat.reduceSubDiff, Nat.reduceAdd, Nat.reduceMul, nA1, nA2, nM1, nM2, n_add, n_mul, n_sub, nS1, nS2, nL0, nL1, nL2, nE0, nE1, nE2, nE3, bI_0, bI_1, bI_m, rz_b, rz_0, rz_1, Nat.lt_irrefl]
          rw [Ev_some]
          refine ⟨?_, F2⟩
          rw [hm]
          show -1 = mnd s hd _ _ 1 15 g n
          rw [mnd, if_neg (by omega)]
theorem T_strokeMany (W : TKK (hK h) (hR h)) (F : WFS s) (S : TSH h s) (N : TNOW h f) (G : WFN s f) : X7_strokeMany 1349 h = some (nI (q_strokes s f), h) := by
  have h4 := F.2.2.2.2.1
  rw [X7_strokeMany, X7_strokeMany_4, ← Ev_is]
  refine ev_for (z_nb s) (fun b st => st = (nI (itr (fun b a => itr (fun k a => a + pcN (f (3 + 8 * b + k))) 6 a) b 0), nI b, h)) ?_ ?_ 0 _ (Nat.zero_le _) rfl
  · rintro b _ hb rfl
    simp (disch := first | assumption | ((repeat (first | with_reducible refine TKI ?_ | with_reducible refine TKL ?_)); assumption) | omega) only [X7_strokeMany_4b, ↓btgI, ↓btpI, ↓btgL, ↓btpL, ↓btisO, tgI, tpI, tgL, tpL, tisO, ↓Option.bind_some, ↓b2_some, ↓bX_l, ↓bX_r, Option.bind_some, Option.bind_none, b2_some, bX_l, bX_r, nn_e, if_true, if_false, reduceCtorEq, ↓reduceIte, Nat.reduceEqDiff, Nat.reduceLT, Nat.reduceLeDiff, Nat.reduceSubDiff, Nat.reduceAdd, Nat.reduceMul, nA1, nA2, nM1, nM2, n_add, n_mul, n_sub, nS1, nS2, nL0, nL1, nL2, nE0, nE1, nE2, nE3, bI_0, bI_1, bI_m, rz_b, rz_0, rz_1, ↓b2_of (T_boardMany W S), hb]
    generalize ha : itr (fun b a => itr (fun k a => a + pcN (f (3 + 8 * b + k))) 6 a) b 0 = a
    have inner : X7_strokeMany_14 1349 (nI a) (nI b) 0 h = some (.inl (nI (itr (fun k a => a + pcN (f (3 + 8 * b + k))) 6 a), nI (b + 1), h)) := by
      rw [X7_strokeMany_14, ← Ev_is]
      refine ev_for 6 (fun k st => st = (nI (itr (fun k a => a + pcN (f (3 + 8 * b + k))) k a), nI k, h)) ?_ ?_ 0 _ (by decide) rfl
      · rintro k _ hk rfl
        have g3 := (G.2.1 b hb).2.2.2 k hk
        simp (disch := first | assumption | ((repeat (first | with_reducible refine TKI ?_ | with_reducible refine TKL ?_)); assumption) | omega) only [X7_strokeMany_14b, ↓btgI, ↓btpI, ↓btgL, ↓btpL, ↓btisO, tgI, tpI, tgL, tpL, tisO, ↓Option.bind_some, ↓b2_some, ↓bX_l, ↓bX_r, Option.bind_some, Option.bind_none, b2_some, bX_l, bX_r, nn_e, if_true, if_false, reduceCtorEq, ↓reduceIte, Nat.reduceEqDiff, Nat.reduceLT, Nat.reduceLeDiff, Nat.reduceSubDiff, Nat.reduceAdd, Nat.reduceMul, nA1, nA2, nM1, nM2, n_add, n_mul, n_sub, nS1, nS2, nL0, nL1, nL2, nE0, nE1, nE2, nE3, bI_0, bI_1, bI_m, rz_b, rz_0, rz_1, hk, ↓b2_of (T_glyphAt W N (show b < 4 by omega) hk), ↓b2_of (T_bits g3 h)]
        rw [Ev_some]
        rfl
      · rintro _ rfl
        simp (disch := first | assumption | ((repeat (first | with_reducible refine TKI ?_ | with_reducible refine TKL ?_)); assumption) | omega) only [X7_strokeMany_14b, ↓Option.bind_some, ↓b2_some, ↓bX_l, ↓bX_r, Option.bind_some, Option.bind_none, b2_some, bX_l, bX_r, nn_e, if_true, if_false, reduceCtorEq, ↓reduceIte, Nat.reduceEqDiff, Nat.reduceLT, Nat.reduceLeDiff, Nat.reduceSubDiff, Nat.reduceAdd, Nat.reduceMul, nA1, nA2, nM1, nM2, n_add, n_mul, n_sub, nS1, nS2, nL0, nL1, nL2, nE0, nE1, nE2, nE3, bI_0, bI_1, bI_m, rz_b, rz_0, rz_1, Nat.lt_irrefl]
        rw [Ev_some]
    rw [inner, Ev_some]
    show _ = (nI (itr (fun k a => a + pcN (f (3 + 8 * b + k))) 6 (itr (fun b a => itr (fun k a => a + pcN (f (3 + 8 * b + k))) 6 a) b 0)), _, _)
    rw [ha]
  · rintro _ rfl
    simp (disch := first | assumption | ((repeat (first | with_reducible refine TKI ?_ | with_reducible refine TKL ?_)); assumption) | omega) only [X7_strokeMany_4b, ↓btgI, ↓btpI, ↓btgL, ↓btpL, ↓btisO, tgI, tpI, tgL, tpL, tisO, ↓Option.bind_some, ↓b2_some, ↓bX_l, ↓bX_r, Option.bind_some, Option.bind_none, b2_some, bX_l, bX_r, nn_e, if_true, if_false, reduceCtorEq, ↓reduceIte, Nat.reduceEqDiff, Nat.reduceLT, Nat.reduceLeDiff, Nat.reduceSubDiff, Nat.reduceAdd, Nat.reduceMul, nA1, nA2, nM1, nM2, n_add, n_mul, n_sub, nS1, nS2, nL0, nL1, nL2, nE0, nE1, nE2, nE3, bI_0, bI_1, bI_m, rz_b, rz_0, rz_1, ↓b2_of (T_boardMany W S), Nat.lt_irrefl]
    rw [Ev_some]
    rfl
theorem T_has (W : TKK (hK h) (hR h)) (F : WFS s) (S : TSH h s) (N : TNOW h f) (G : WFN s f) {un : Nat} (hu : hI h 1349 78 = nI un) (x : Int32) : X7_has 1349 x h = some (q_has s f un x, h) := by
  have e0 : hI h 1389 0 = nI (f 0) := N 0 (by decide)
  have e33 : hI h 1389 33 = nI (f 33) := N 33 (by decide)
  have l0 := S.1 0 (by decide)
  have l1 := S.1 1 (by decide)
  unfold q_has
  by_cases c0 : x = 0
  · subst c0
    have : xI 100 (some 1381) (2 + 0) h = some (hI h 1381 2) := tx_1381 (n := 2) W (by decide)
    simp (disch := first | assumption | ((repeat (first | with_reducible refine TKI ?_ | with_reducible refine TKL ?_)); assumption) | omega) only [X7_has, X7_has_48, ↓btgI, ↓btpI, ↓btgL, ↓btpL, ↓btisO, tgI, tpI, tgL, tpL, tisO, ↓btg_42, tg_42, ↓btx_1381, tx_1381, ↓bts_1381, ts_1381, ↓btxl_1381, txl_1381, ↓btsl_1381, tsl_1381, ↓btg_57, tg_57, ↓btx_1389, tx_1389, ↓bts_1389, ts_1389, ↓btxl_1389, txl_1389, ↓btsl_1389, tsl_1389, ↓Option.bind_some, ↓b2_some, ↓bX_l, ↓bX_r, Option.bind_some, Option.bind_none, b2_some, bX_l, bX_r, nn_e, if_true, if_false, reduceCtorEq, ↓reduceIte, Nat.reduceEqDiff, Nat.reduceLT, Nat.reduceLeDiff, Nat.reduceSubDiff, Nat.reduceAdd, Nat.reduceMul, this]
    rw [l0]
  · by_cases c1 : x = 1
    · subst c1
      have : xI 100 (some 1381) (2 + 1) h = some (hI h 1381 3) := tx_1381 (n := 3) W (by decide)
      have n10 : ((1 : Int32) = 0) = False := by decide
      simp (disch := first | assumption | ((repeat (first | with_reducible refine TKI ?_ | with_reducible refine TKL ?_)); assumption) | omega) only [X7_has, X7_has_48, ↓btgI, ↓btpI, ↓btgL, ↓btpL, ↓btisO, tgI, tpI, tgL, tpL, tisO, ↓btg_42, tg_42, ↓btx_1381, tx_1381, ↓bts_1381, ts_1381, ↓btxl_1381, txl_1381, ↓btsl_1381, tsl_1381, ↓btg_57, tg_57, ↓btx_1389, tx_1389, ↓bts_1389, ts_1389, ↓btxl_1389, txl_1389, ↓btsl_1389, tsl_1389, ↓Option.bind_some, ↓b2_some, ↓bX_l, ↓bX_r, Option.bind_some, Option.bind_none, b2_some, bX_l, bX_r, nn_e, if_true, if_false, reduceCtorEq, ↓reduceIte, Nat.reduceEqDiff, Nat.reduceLT, Nat.reduceLeDiff, Nat.reduceSubDiff, Nat.reduceAdd, Nat.reduceMul, this, n10]
      rw [l1]
    · simp (disch := first | assumption | ((repeat (first | with_reducible refine TKI ?_ | with_reducible refine TKL ?_)); assumption) | omega) only [X7_has, ↓btgI, ↓btpI, ↓btgL, ↓btpL, ↓btisO, tgI, tpI, tgL, tpL, tisO, ↓btg_42, tg_42, ↓btx_1381, tx_1381, ↓bts_1381, ts_1381, ↓btxl_1381, txl_1381, ↓btsl_1381, tsl_1381, ↓btg_57, tg_57, ↓btx_1389, tx_1389, ↓bts_1389, ts_1389, ↓btxl_1389, txl_1389, ↓btsl_1389, tsl_1389, ↓Option.bind_some, ↓b2_some, ↓bX_l, ↓bX_r, Option.bind_some, Option.bind_none, b2_some, bX_l, bX_r, nn_e, if_true, if_false, reduceCtorEq, ↓reduceIte, Nat.reduceEqDiff, Nat.reduceLT, Nat.reduceLeDiff, Nat.reduceSubDiff, Nat.reduceAdd, Nat.reduceMul, c0, c1, ↓b2_of (T_wordMany W S), ↓b2_of (T_boardMany W S), e0, e33, hu, ↓b2_of (T_strokeMany W F S N G)]
      repeat' split
      all_goals rfl
end Mend
