set_option maxRecDepth 100000
/-! ===== says, becomes ===== -/
def PD9 (a k : Nat) : Prop := (a = 1349 ∧ (k = 56 ∨ (59 ≤ k ∧ k ≤ 67) ∨ k = 74 ∨ k = 112)) ∨ a = 1426 ∨ (1390 ≤ a ∧ a ≤ 1398)
theorem PD9_stn : ∀ a k, Stn a k → ¬ PD9 a k := by intro a k h; unfold Stn at h; unfold PD9; omega
/-- and the row itself, which is as it was -/
def PDX (a k : Nat) : Prop := PD9 a k ∨ a = 1389
theorem PDX_stn : ∀ a k, Stn a k → ¬ PDX a k := by intro a k h; unfold Stn at h; unfold PDX PD9; omega
theorem PD2_X : ∀ a k, PD2 a k → PDX a k := by intro a k h; unfold PD2 at h; unfold PDX PD9; omega
theorem PD4_X : ∀ a k, PD4 a k → PDX a k := by intro a k h; unfold PD4 PD3 at h; unfold PDX PD9; omega
theorem PD2_9 : ∀ a k, PD2 a k → PD9 a k := by intro a k h; unfold PD2 at h; unfold PD9; omega
section Says
variable {h : AH} {s : SH} {f : RW}
theorem FT.now {P : Nat → Nat → Prop} {H : AH} (F : FT P h H) (q : ∀ k, ¬ P 1389 k) (N : TNOW h f) : TNOW H f := N.fr (fun k => F.i (q k))
/-- a thought: from now on, then all is as it was -/
theorem T_says64 (W : TKK (hK h) (hR h)) (F : WFS s) (S : TSH h s) (N : TNOW h f) (G : WFN s f) {b how n pl : Nat} (hb : b < z_nb s) (hh : how < 4) (hn : f 0 + n ≤ 999) (hp : pl < 6) :
    Ev (X7_says_64 1349 (nI b) (nI how) (nI n) (nI pl) h) (fun z => z.1 = nI (rd s (f (2 + 8 * b)) (tN how (yts s n f (3 + 8 * b + pl)))) ∧ FT PDX h z.2 ∧ TNOW z.2 f ∧ hI z.2 1349 66 = 0) := by
  have h4 := F.2.2.2.2.1
  obtain ⟨g1, g2, -, -⟩ := G.2.1 b hb
  obtain ⟨G2, y2⟩ := yts_ok F G n hn
  have eh : yts s n f (2 + 8 * b) = f (2 + 8 * b) := yts_lo F G (by omega) (by omega) n hn
  simp (disch := first | assumption | ((repeat (first | with_reducible refine TKI ?_ | with_reducible refine TKL ?_)); assumption) | omega) only [X7_says_64, ↓btgI, ↓btpI, ↓btgL, ↓btpL, ↓btisO, tgI, tpI, tgL, tpL, tisO, ↓Option.bind_some, ↓b2_some, ↓bX_l, ↓bX_r, Option.bind_some, Option.bind_none, b2_some, bX_l, bX_r, nn_e, if_true, if_false, reduceCtorEq, ↓reduceIte, Nat.reduceEqDiff, Nat.reduceLT, Nat.reduceLeDiff, Nat.reduceSubDiff, Nat.reduceAdd, Nat.reduceMul, Ev_bind]
  refine ev_mono (T_putsAside W N) ?_
  rintro H1 ⟨F1, e66, A1⟩
  have W1 := F1.tk W
  have S1 : TSH H1 s := F1.tsh (fun a k z => by unfold Stn at z; omega) S
  have N1 : TNOW H1 f := F1.now (by omega) N
  simp (disch := first | assumption | ((repeat (first | with_reducible refine TKI ?_ | with_reducible refine TKL ?_)); assumption) | omega) only [↓btgI, ↓btpI, ↓btgL, ↓btpL, ↓btisO, tgI, tpI, tgL, tpL, tisO, ↓Option.bind_some, ↓b2_some, ↓bX_l, ↓bX_r, Option.bind_some, Option.bind_none, b2_some, bX_l, bX_r, nn_e, if_true, if_false, reduceCtorEq, ↓reduceIte, Nat.reduceEqDiff, Nat.reduceLT, Nat.reduceLeDiff, Nat.reduceSubDiff, Nat.reduceAdd, Nat.reduceMul, Ev_bind, Ev_some]
  refine ev_mono (T_yearsGo1 W1 F S1 N1 G e66 hn) ?_
  rintro H2 ⟨F2, N2⟩
  have W2 := F2.tk W1
  have S2 := F2.tsh PD4_stn S1
  have gl2 := (G2.2.1 b hb).2.2.2 pl hp
  have t1 := T_handOf W2 N2 (show b < 4 by omega)
  rw [eh] at t1
  simp (disch := first | assumption | ((repeat (first | with_reducible refine TKI ?_ | with_reducible refine TKL ?_)); assumption) | omega) only [↓btgI, ↓btpI, ↓btgL, ↓btpL, ↓btisO, tgI, tpI, tgL, tpL, tisO, ↓Option.bind_some, ↓b2_some, ↓bX_l, ↓bX_r, Option.bind_some, Option.bind_none, b2_some, bX_l, bX_r, nn_e, if_true, if_false, reduceCtorEq, ↓reduceIte, Nat.reduceEqDiff, Nat.reduceLT, Nat.reduceLeDiff, Nat.reduceSubDiff, Nat.reduceAdd, Nat.reduceMul, Ev_some, t1, T_glyphAt W2 N2 (show b < 4 by omega) hp, T_seenN hh, Ev_b2, Ev_bind]
  refine ev_mono (T_readAs W2 F S2 g2 (tN_n how _).2) ?_
  rintro ⟨v, H3⟩ ⟨hv, F3⟩
  simp only at hv F3
  subst hv
  have W3 := F3.tk W2
  have N3 : TNOW H3 (yts s n f) := F3.now (by unfold PD2; omega) N2
  simp (disch := first | assumption | ((repeat (first | with_reducible refine TKI ?_ | with_reducible refine TKL ?_)); assumption) | omega) only [↓btgI, ↓btpI, ↓btgL, ↓btpL, ↓btisO, tgI, tpI, tgL, tpL, tisO, ↓Option.bind_some, ↓b2_some, ↓bX_l, ↓bX_r, Option.bind_some, Option.bind_none, b2_some, bX_l, bX_r, nn_e, if_true, if_false, reduceCtorEq, ↓reduceIte, Nat.reduceEqDiff, Nat.reduceLT, Nat.reduceLeDiff, Nat.reduceSubDiff, Nat.reduceAdd, Nat.reduceMul, Ev_some, Ev_bind]
  refine ev_mono (T_takesBack W3 (g := f) (fun k q => ?_) (fun k q1 q2 => ?_)) ?_
  · rw [F3.i (by unfold PD2; omega), F2.i (by unfold PD4 PD3; omega)]
    exact A1 k q
  · rw [N3 k q2, yts_lo F G (by omega) (by omega) n hn]
  · rintro H4 ⟨F4, e4, N4⟩
    refine ⟨by trivial, ?_, N4, e4⟩
    have F5 := F1.mono (Q := PDX) (fun a k z => by unfold PDX PD9; omega)
    have F8 := F4.mono (Q := PDX) (fun a k z => by unfold PDX PD9; omega)
    exact ((F5.trans (F2.mono PD4_X)).trans (F3.mono PD2_X)).trans F8
theorem T_says (W : TKK (hK h) (hR h)) (F : WFS s) (S : TSH h s) (N : TNOW h f) (G : WFN s f) (h66 : hI h 1349 66 = 0) (b w n k : Int32) : Ev (X7_says 1349 b w n k h) (fun z => z.1 = q_says s f b w n k ∧ FT PDX h z.2 ∧ TNOW z.2 f ∧ hI z.2 1349 66 = 0) := by
  rw [X7_says, tisO W, Option.bind_some, b2_of (T_isPlace W F S N G b k), q_says]
  cases e : isP s f b k with
  | false => rw [if_pos (show bI false = 0 from rfl), Ev_some]; exact ⟨rfl, FT.refl _ _, N, h66⟩
  | true =>
    obtain ⟨b, k, rfl, rfl, h1, h2, h3, h4⟩ := isP_ex F G e
    obtain ⟨g1, g2, -, -⟩ := G.2.1 b h1
    have q6 := WFN_6 F G b h1
    rw [if_neg (by decide), if_pos rfl, b2_of (T_isIn _ _ _ h), show ((3 : Int64)) = Int64.ofNat 3 from rfl, b_inL (by decide)]
    cases e2 : inR w 4 with
    | false => rw [if_pos (show bI false = 0 from rfl), Ev_some]; exact ⟨rfl, FT.refl _ _, N, h66⟩
    | true =>
      obtain ⟨how, hh, rfl⟩ := inR_ex (by decide) e2
      rw [if_neg (by decide), if_pos rfl, tisO W, Option.bind_some, show X7_isAhead 1349 n 0 60 h = X7_isAhead 1349 n (nI 0) (nI 60) h from rfl, b2_of (T_isAhead W N G.1 n (by decide) (by decide))]
      cases e3 : isA f n 0 60 with
      | false => rw [if_pos (show bI false = 0 from rfl), Ev_some]; exact ⟨rfl, FT.refl _ _, N, h66⟩
      | true =>
        obtain ⟨n, rfl, -, n2, n3⟩ := isA_ex (by decide) e3
        rw [if_neg (by decide), if_pos rfl, nt_n (by omega), nt_n (by omega), nt_n (by omega), nt_n (by omega)]
        have t := fun pl (hp : pl < 6) => T_says64 W F S N G h1 hh n3 (pl := pl) hp
        have ix : nI (z_wl s (f (1 + 8 * b))) - 1 - nI k = nI (z_wl s (f (1 + 8 * b)) - 1 - k) := by rw [nS1 (show 1 ≤ z_wl s (f (1 + 8 * b)) by omega), n_sub (show k ≤ z_wl s (f (1 + 8 * b)) - 1 by omega)]
        simp (disch := first | assumption | ((repeat (first | with_reducible refine TKI ?_ | with_reducible refine TKL ?_)); assumption) | omega) only [X7_says_45, ↓btgI, ↓btpI, ↓btgL, ↓btpL, ↓btisO, tgI, tpI, tgL, tpL, tisO, ↓btg_57, tg_57, ↓btx_1389, tx_1389, ↓bts_1389, ts_1389, ↓btxl_1389, txl_1389, ↓btsl_1389, tsl_1389, ↓Option.bind_some, ↓b2_some, ↓bX_l, ↓bX_r, Option.bind_some, Option.bind_none, b2_some, bX_l, bX_r, nn_e, if_true, if_false, reduceCtorEq, ↓reduceIte, Nat.reduceEqDiff, Nat.reduceLT, Nat.reduceLeDiff, Nat.reduceSubDiff, Nat.reduceAdd, Nat.reduceMul, nA1, nA2, nM1, nM2, n_add, n_mul, n_sub, nS1, nS2, nL0, nL1, nL2, nE0, nE1, nE2, nE3, bI_0, bI_1, bI_m, rz_b, rz_0, rz_1, ↓b2_of (T_wordOf W N (show b < 4 by omega)), ↓b2_of (T_longOf W F S g1), ix]
        unfold plH
        by_cases q1 : how = 1
        · rw [if_pos q1, if_pos (Or.inl q1)]; exact t _ (by omega)
        · rw [if_neg q1]
          by_cases q3 : how = 3
          · rw [if_pos q3, if_pos (Or.inr q3)]; exact t _ (by omega)
          · rw [if_neg q3, if_neg (by omega)]; exact t _ h3
theorem T_becomes (W : TKK (hK h) (hR h)) (F : WFS s) (S : TSH h s) (w hd how : Int32) : Ev (X7_becomes 1349 w hd how h) (fun z => z.1 = q_becomes s w hd how ∧ FT PD9 h z.2) := by
  have q8 := F.2.2.1
  rw [X7_becomes, tisO W, Option.bind_some, b2_of (T_isWord W F S w), q_becomes]
  cases e : inR w (z_nw s) with
  | false => rw [if_pos (show bI false = 0 from rfl), Ev_some]; exact ⟨rfl, FT.refl _ _⟩
  | true =>
    obtain ⟨w, h1, rfl⟩ := inR_ex (by omega) e
    obtain ⟨w1, w2, w3, -⟩ := F.2.2.2.1 w h1
    rw [if_neg (by decide), if_pos rfl, tisO W, Option.bind_some, b2_of (T_isHand hd)]
    cases e2 : inR hd 2 with
    | false => rw [if_pos (show bI false = 0 from rfl), Ev_some]; exact ⟨rfl, FT.refl _ _⟩
    | true =>
      obtain ⟨hd, h2, rfl⟩ := inR_ex (by decide) e2
      have qn := F.1 hd h2
      rw [if_neg (by decide), if_pos rfl, b2_of (T_isIn _ _ _ h), show ((3 : Int64)) = Int64.ofNat 3 from rfl, b_inL (by decide)]
      cases e3 : inR how 4 with
      | false => rw [if_pos (show bI false = 0 from rfl), Ev_some]; exact ⟨rfl, FT.refl _ _⟩
      | true =>
        obtain ⟨how, hh, rfl⟩ := inR_ex (by decide) e3
        rw [if_neg (by decide), if_pos rfl, nt_n (by omega), nt_n (by omega), nt_n (by omega), tisO W, Option.bind_some, b2_of (T_canPaint W F S h1 h2)]
        cases e4 : cp s w hd with
        | false => rw [if_pos (show bI false = 0 from rfl), Ev_some]; exact ⟨rfl, FT.refl _ _⟩
        | true =>
          rw [if_neg (by decide), if_pos rfl, tisO W, Option.bind_some, b2_of (T_longOf W F S h1), X7_becomes_50]
          have cpi := (cp_iff qn).mp e4
          refine ev_for (z_wl s w) (fun k st => st.1 = nI k ∧ FT PD9 h st.2 ∧ ∀ j, j < k → hI st.2 1392 j = nI (bcm s w hd how j)) ?_ ?_ 0 _ (Nat.zero_le _) ⟨rfl, FT.refl _ _, fun j q => absurd q (Nat.not_lt_zero _)⟩
          · rintro k ⟨x, H⟩ hk ⟨hx, F2, E2⟩
            simp only at hx F2 E2
            subst hx
            have W2 := F2.tk W
            have S2 := F2.tsh PD9_stn S
            have hp : plH how (z_wl s w) k < z_wl s w := by unfold plH; split <;> omega
            have key : ∀ p, p = plH how (z_wl s w) k → Ev (X7_becomes_79 1349 (nI w) (nI hd) (nI how) (nI (z_wl s w)) (nI k) (nI p) H) (fun o => ∃ H', o = .inl (nI (k + 1), H') ∧ FT PD9 h H' ∧ ∀ j, j < k + 1 → hI H' 1392 j = nI (bcm s w hd how j)) := by
              rintro p rfl
              have c1 := w3 _ hp
              obtain ⟨l1, l2, l3⟩ := la_in (cpi _ hp)
              have l4 := (F.2.1 hd _ h2 l1).2.2
              have t1 := T_letterAt W2 F S2 h2 (show z_wc s w (plH how (z_wl s w) k) < 1000 by omega)
              rw [l3] at t1
              simp (disch := first | assumption | ((repeat (first | with_reducible refine TKI ?_ | with_reducible refine TKL ?_)); assumption) | omega) only [X7_becomes_79, ↓btgI, ↓btpI, ↓btgL, ↓btpL, ↓btisO, tgI, tpI, tgL, tpL, tisO, ↓btg_69, tg_69, ↓btx_1392, tx_1392, ↓bts_1392, ts_1392, ↓btxl_1392, txl_1392, ↓btsl_1392, tsl_1392, ↓Option.bind_some, ↓b2_some, ↓bX_l, ↓bX_r, Option.bind_some, Option.bind_none, b2_some, bX_l, bX_r, nn_e, if_true, if_false, reduceCtorEq, ↓reduceIte, Nat.reduceEqDiff, Nat.reduceLT, Nat.reduceLeDiff, Nat.reduceSubDiff, Nat.reduceAdd, Nat.reduceMul, ↓b2_of (T_letterOf W2 F S2 h1 hp), ↓b2_of t1, ↓b2_of (T_glyphOf W2 F S2 h2 l1), ↓b2_of (T_seenN hh _), Ev_b2]
              refine ev_mono (T_readAs W2 F S2 h2 (tN_n how _).2) ?_
              rintro ⟨v, H3⟩ ⟨hv, F3⟩
              simp only at hv F3
              subst hv
              have W3 := F3.tk W2
              simp (disch := first | assumption | ((repeat (first | with_reducible refine TKI ?_ | with_reducible refine TKL ?_)); assumption) | omega) only [↓btgI, ↓btpI, ↓btgL, ↓btpL, ↓btisO, tgI, tpI, tgL, tpL, tisO, ↓btg_69, tg_69, ↓btx_1392, tx_1392, ↓bts_1392, ts_1392, ↓btxl_1392, txl_1392, ↓btsl_1392, tsl_1392, ↓Option.bind_some, ↓b2_some, ↓bX_l, ↓bX_r, Option.bind_some, Option.bind_none, b2_some, bX_l, bX_r, nn_e, if_true, if_false, reduceCtorEq, ↓reduceIte, Nat.reduceEqDiff, Nat.reduceLT, Nat.reduceLeDiff, Nat.reduceSubDiff, Nat.reduceAdd, Nat.reduceMul, nA1, nA2, nM1, nM2, n_add, n_mul, n_sub, nS1, nS2, nL0, nL1, nL2, nE0, nE1, nE2, nE3, bI_0, bI_1, bI_m, rz_b, rz_0, rz_1, Ev_some]
              refine ⟨_, rfl, (F2.trans (F3.mono PD2_9)).wI (by unfold PD9; omega), fun j q => ?_⟩
              rw [p_II]
              by_cases ej : j = k
              · rw [if_pos ⟨rfl, ej⟩, ej]; rfl
              · rw [if_neg (by omega), F3.i (by unfold PD2; omega)]; exact E2 j (by omega)
            have ix : nI (z_wl s w) - 1 - nI k = nI (z_wl s w - 1 - k) := by rw [nS1 (show 1 ≤ z_wl s w by omega), n_sub (show k ≤ z_wl s w - 1 by omega)]
            simp (disch := first | assumption | ((repeat (first | with_reducible refine TKI ?_ | with_reducible refine TKL ?_)); assumption) | omega) only [X7_becomes_50b, X7_becomes_67, nA1, nA2, nM1, nM2, n_add, n_mul, n_sub, nS1, nS2, nL0, nL1, nL2, nE0, nE1, nE2, nE3, bI_0, bI_1, bI_m, rz_b, rz_0, rz_1, hk, if_true, ix]
            by_cases q1 : how = 1
            · rw [if_pos q1]; obtain ⟨_, e9, H', rfl, a9, b9⟩ := key (z_wl s w - 1 - k) (by unfold plH; rw [if_pos (Or.inl q1)]); exact ⟨_, e9, rfl, a9, b9⟩
            · rw [if_neg q1]
              by_cases q3 : how = 3
              · rw [if_pos q3]; obtain ⟨_, e9, H', rfl, a9, b9⟩ := key (z_wl s w - 1 - k) (by unfold plH; rw [if_pos (Or.inr q3)]); exact ⟨_, e9, rfl, a9, b9⟩
              · rw [if_neg q3]; obtain ⟨_, e9, H', rfl, a9, b9⟩ := key k (by unfold plH; rw [if_neg (by omega)]); exact ⟨_, e9, rfl, a9, b9⟩
          · rintro ⟨x, H⟩ ⟨hx, F2, E2⟩
            simp only at hx F2 E2
            subst hx
            have W2 := F2.tk W
            have S2 := F2.tsh PD9_stn S
            have hrd : ∀ k, bcm s w hd how k ≤ 26 := fun k => rd_lt F h2 _ _ (Nat.le_refl _)
            have said : ∀ v, v < z_nw s → X7_isSaid 1349 (nI v) (nI (z_wl s w)) H = some (bI ((z_wl s v == z_wl s w) && alln (fun k => z_wc s v k == bcm s w hd how k) (z_wl s w)), H) := by
              intro v hv
              obtain ⟨v1, v2, v3, -⟩ := F.2.2.2.1 v hv
              simp (disch := first | assumption | ((repeat (first | with_reducible refine TKI ?_ | with_reducible refine TKL ?_)); assumption) | omega) only [X7_isSaid, ↓btgI, ↓btpI, ↓btgL, ↓btpL, ↓btisO, tgI, tpI, tgL, tpL, tisO, ↓btg_69, tg_69, ↓btx_1392, tx_1392, ↓bts_1392, ts_1392, ↓btxl_1392, txl_1392, ↓btsl_1392, tsl_1392, ↓Option.bind_some, ↓b2_some, ↓bX_l, ↓bX_r, Option.bind_some, Option.bind_none, b2_some, bX_l, bX_r, nn_e, if_true, if_false, reduceCtorEq, ↓reduceIte, Nat.reduceEqDiff, Nat.reduceLT, Nat.reduceLeDiff, Nat.reduceSubDiff, Nat.reduceAdd, Nat.reduceMul, nA1, nA2, nM1, nM2, n_add, n_mul, n_sub, nS1, nS2, nL0, nL1, nL2, nE0, nE1, nE2, nE3, bI_0, bI_1, bI_m, rz_b, rz_0, rz_1, ↓b2_of (T_longOf W2 F S2 hv)]
              by_cases q : z_wl s v = z_wl s w
              · rw [if_pos q, X7_isSaid_13, ← Ev_is]
                have q' : (z_wl s v == z_wl s w) = true := by simpa using q
                rw [q', Bool.true_and]
                refine ev_for (z_wl s w) (fun k st => st = (nI k, H) ∧ ∀ j, j < k → (z_wc s v j == bcm s w hd how j) = true) ?_ ?_ 0 _ (Nat.zero_le _) ⟨rfl, fun j q => absurd q (Nat.not_lt_zero _)⟩
                · rintro k _ hk ⟨rfl, hj⟩
                  have hk2 : k < z_wl s v := by omega
                  have c1 := v3 k hk2
                  have c2 := hrd k
                  simp (disch := first | assumption | ((repeat (first | with_reducible refine TKI ?_ | with_reducible refine TKL ?_)); assumption) | omega) only [X7_isSaid_13b, ↓btgI, ↓btpI, ↓btgL, ↓btpL, ↓btisO, tgI, tpI, tgL, tpL, tisO, ↓btg_69, tg_69, ↓btx_1392, tx_1392, ↓bts_1392, ts_1392, ↓btxl_1392, txl_1392, ↓btsl_1392, tsl_1392, ↓Option.bind_some, ↓b2_some, ↓bX_l, ↓bX_r, Option.bind_some, Option.bind_none, b2_some, bX_l, bX_r, nn_e, if_true, if_false, reduceCtorEq, ↓reduceIte, Nat.reduceEqDiff, Nat.reduceLT, Nat.reduceLeDiff, Nat.reduceSubDiff, Nat.reduceAdd, Nat.reduceMul, nA1, nA2, nM1, nM2, n_add, n_mul, n_sub, nS1, nS2, nL0, nL1, nL2, nE0, nE1, nE2, nE3, bI_0, bI_1, bI_m, rz_b, rz_0, rz_1, hk, ↓b2_of (T_letterOf W2 F S2 hv hk2), E2 k hk]
                  by_cases e5 : z_wc s v k = bcm s w hd how k
                  · rw [if_pos e5, Ev_some]
                    refine ⟨rfl, fun j h5 => ?_⟩
                    by_cases ej : j = k
                    · rw [ej]; simpa using e5
                    · exact hj j (by omega)
                  · rw [if_neg e5, Ev_some]
                    rw [alln_no hk (by simpa using e5)]
                    rfl
                · rintro _ ⟨rfl, hj⟩
                  simp (disch := first | assumption | ((repeat (first | with_reducible refine TKI ?_ | with_reducible refine TKL ?_)); assumption) | omega) only [X7_isSaid_13b, ↓Option.bind_some, ↓b2_some, ↓bX_l, ↓bX_r, Option.bind_some, Option.bind_none, b2_some, bX_l, bX_r, nn_e, if_true, if_false, reduceCtorEq, ↓reduceIte, Nat.reduceEqDiff, Nat.reduceLT, Nat.reduceLeDiff, Nat.reduceSubDiff, Nat.reduceAdd, Nat.reduceMul, nA1, nA2, nM1, nM2, n_add, n_mul, n_sub, nS1, nS2, nL0, nL1, nL2, nE0, nE1, nE2, nE3, bI_0, bI_1, bI_m, rz_b, rz_0, rz_1, Nat.lt_irrefl, Ev_some]
                  rw [(alln_iff _).mpr hj]
                  rfl
              · rw [if_neg q]
                have q' : (z_wl s v == z_wl s w) = false := by simpa using q
                rw [q', Bool.false_and]
                rfl
            simp (disch := first | assumption | ((repeat (first | with_reducible refine TKI ?_ | with_reducible refine TKL ?_)); assumption) | omega) only [X7_becomes_50b, ↓Option.bind_some, ↓b2_some, ↓bX_l, ↓bX_r, Option.bind_some, Option.bind_none, b2_some, bX_l, bX_r, nn_e, if_true, if_false, reduceCtorEq, ↓reduceIte, Nat.reduceEqDiff, Nat.reduceLT, Nat.reduceLeDiff, Nat.reduceSubDiff, Nat.reduceAdd, Nat.reduceMul, nA1, nA2, nM1, nM2, n_add, n_mul, n_sub, nS1, nS2, nL0, nL1, nL2, nE0, nE1, nE2, nE3, bI_0, bI_1, bI_m, rz_b, rz_0, rz_1, Nat.lt_irrefl, Ev_bind, Ev_some]
            rw [X7_becomes_123]
            refine ev_for (z_nw s) (fun v st => st = (nI v, H) ∧ ∀ j, j < v → ((z_wl s j == z_wl s w) && alln (fun k => z_wc s j k == bcm s w hd how k) (z_wl s w)) = false) ?_ ?_ 0 _ (Nat.zero_le _) ⟨rfl, fun j q => absurd q (Nat.not_lt_zero _)⟩
            · rintro v _ hv ⟨rfl, hj⟩
              simp (disch := first | assumption | ((repeat (first | with_reducible refine TKI ?_ | with_reducible refine TKL ?_)); assumption) | omega) only [X7_becomes_123b, ↓btgI, ↓btpI, ↓btgL, ↓btpL, ↓btisO, tgI, tpI, tgL, tpL, tisO, ↓btg_69, tg_69, ↓btx_1392, tx_1392, ↓bts_1392, ts_1392, ↓btxl_1392, txl_1392, ↓btsl_1392, tsl_1392, ↓Option.bind_some, ↓b2_some, ↓bX_l, ↓bX_r, Option.bind_some, Option.bind_none, b2_some, bX_l, bX_r, nn_e, if_true, if_false, reduceCtorEq, ↓reduceIte, Nat.reduceEqDiff, Nat.reduceLT, Nat.reduceLeDiff, Nat.reduceSubDiff, Nat.reduceAdd, Nat.reduceMul, nA1, nA2, nM1, nM2, n_add, n_mul, n_sub, nS1, nS2, nL0, nL1, nL2, nE0, nE1, nE2, nE3, bI_0, bI_1, bI_m, rz_b, rz_0, rz_1, ↓b2_of (T_wordMany W2 S2), hv, ↓b2_of (said v hv)]
              cases e5 : ((z_wl s v == z_wl s w) && alln (fun k => z_wc s v k == bcm s w hd how k) (z_wl s w)) with
              | false =>
                rw [if_pos rfl, Ev_some]
                refine ⟨rfl, fun j h5 => ?_⟩
                by_cases ej : j = v
                · rw [ej]; exact e5
                · exact hj j (by omega)
              | true =>
                rw [if_neg (by decide), Ev_some]
                exact ⟨(fndI_hit hv e5 hj).symm, F2⟩
            · rintro _ ⟨rfl, hj⟩
              simp (disch := first | assumption | ((repeat (first | with_reducible refine TKI ?_ | with_reducible refine TKL ?_)); assumption) | omega) only [X7_becomes_123b, ↓btgI, ↓btpI, ↓btgL, ↓btpL, ↓btisO, tgI, tpI, tgL, tpL, tisO, ↓btg_69, tg_69, ↓btx_1392, tx_1392, ↓bts_1392, ts_1392, ↓btxl_1392, txl_1392, ↓btsl_1392, tsl_1392, ↓Option.bind_some, ↓b2_some, ↓bX_l, ↓bX_r, Option.bind_some, Option.bind_none, b2_some, bX_l, bX_r, nn_e, if_true, if_false, reduceCtorEq, ↓reduceIte, Nat.reduceEqDiff, Nat.reduceLT, Nat.reduceLeDiff, Nat.reduceSubDiff, Nat.reduceAdd, Nat.reduceMul, nA1, nA2, nM1, nM2, n_add, n_mul, n_sub, nS1, nS2, nL0, nL1, nL2, nE0, nE1, nE2, nE3, bI_0, bI_1, bI_m, rz_b, rz_0, rz_1, ↓b2_of (T_wordMany W2 S2), Nat.lt_irrefl, Ev_some]
              exact ⟨(fndI_miss hj).symm, F2⟩
end Says
