set_option maxRecDepth 100000
/-! ===== a year goes, years go ===== -/
def ygs (s : SH) (n : Nat) (f : RW) : RW := itr (fun _ f => yg s (sdf s f) f) n f
def yts (s : SH) (n : Nat) (f : RW) : RW := itr (fun _ f => yt s f) n f
def ysm (s : SH) (n : Nat) (f : RW) : Nat := itr (fun k a => a + lc s (ygs s k f)) n 0
theorem rnR_ng {s : SH} (F : WFS s) {f : RW} (G : WFN s f) {i : Nat} (hi : i < 3 ∨ 33 ≤ i ∨ 6 ≤ (i - 3) % 8) : rnR s f i = f i := pr_ng (WFN_6 F G) F.2.2.2.2.1 hi
theorem yg_0 {s : SH} (F : WFS s) {f : RW} (G : WFN s f) (sd : Nat → Nat → Nat) : yg s sd f 0 = f 0 + 1 := by
  show kps s sd (rnR s f) (z_nb s) 0 + 1 = f 0 + 1
  rw [kps_lo (by omega), rnR_ng F G (by omega)]
theorem yt_0 {s : SH} (F : WFS s) {f : RW} (G : WFN s f) : yt s f 0 = f 0 + 1 := by
  show rnR s f 0 + 1 = f 0 + 1
  rw [rnR_ng F G (by omega)]
theorem WFN_yg {s : SH} (F : WFS s) {f : RW} (G : WFN s f) (sd : Nat → Nat → Nat) (h : f 0 + 1 ≤ 999) : WFN s (yg s sd f) :=
  WFN_yr1 F (WFN_kps F (WFN_rn F G _ _) _) (by rw [kps_lo (by omega)]; show rnR s f 0 + 1 ≤ 999; rw [rnR_ng F G (by omega)]; exact h)
theorem WFN_yt {s : SH} (F : WFS s) {f : RW} (G : WFN s f) (h : f 0 + 1 ≤ 999) : WFN s (yt s f) :=
  WFN_yr1 F (WFN_rn F G _ _) (by show rnR s f 0 + 1 ≤ 999; rw [rnR_ng F G (by omega)]; exact h)
theorem ygs_ok {s : SH} (F : WFS s) {f : RW} (G : WFN s f) : ∀ n, f 0 + n ≤ 999 → WFN s (ygs s n f) ∧ ygs s n f 0 = f 0 + n
  | 0, h => ⟨G, rfl⟩
  | n + 1, h => by
    obtain ⟨a, b⟩ := ygs_ok F G n (by omega)
    exact ⟨WFN_yg F a _ (by omega), by show yg s _ (ygs s n f) 0 = _; rw [yg_0 F a]; omega⟩
theorem yts_ok {s : SH} (F : WFS s) {f : RW} (G : WFN s f) : ∀ n, f 0 + n ≤ 999 → WFN s (yts s n f) ∧ yts s n f 0 = f 0 + n
  | 0, h => ⟨G, rfl⟩
  | n + 1, h => by
    obtain ⟨a, b⟩ := yts_ok F G n (by omega)
    exact ⟨WFN_yt F a (show yts s n f 0 + 1 ≤ 999 by omega), (yt_0 F a).trans (show yts s n f 0 + 1 = f 0 + (n + 1) by omega)⟩
theorem yt_lo {s : SH} (F : WFS s) {f : RW} (G : WFN s f) {i : Nat} (h0 : i ≠ 0) (hi : i < 3 ∨ 33 ≤ i ∨ 6 ≤ (i - 3) % 8) : yt s f i = f i := by
  show (if i = 0 then _ else rnR s f i) = _
  rw [if_neg h0, rnR_ng F G hi]
theorem yts_lo {s : SH} (F : WFS s) {f : RW} (G : WFN s f) {i : Nat} (h0 : i ≠ 0) (hi : i < 3 ∨ 33 ≤ i ∨ 6 ≤ (i - 3) % 8) : ∀ n, f 0 + n ≤ 999 → yts s n f i = f i
  | 0, _ => rfl
  | n + 1, h => by
    show yt s (yts s n f) i = f i
    rw [yt_lo F (yts_ok F G n (by omega)).1 h0 hi, yts_lo F G h0 hi n (by omega)]
theorem yg_w {s : SH} (F : WFS s) {f : RW} (G : WFN s f) (sd : Nat → Nat → Nat) {b : Nat} (hb : b < z_nb s) : yg s sd f (1 + 8 * b) = f (1 + 8 * b) ∧ yg s sd f (2 + 8 * b) = f (2 + 8 * b) := by
  have h4 := F.2.2.2.2.1
  constructor
  · show (if 1 + 8 * b = 0 then _ else kps s sd (rnR s f) (z_nb s) (1 + 8 * b)) = _
    rw [if_neg (by omega), kps_lo (by omega), rnR_ng F G (by omega)]
  · show (if 2 + 8 * b = 0 then _ else kps s sd (rnR s f) (z_nb s) (2 + 8 * b)) = _
    rw [if_neg (by omega), kps_lo (by omega), rnR_ng F G (by omega)]
theorem sdf_lt {s : SH} (F : WFS s) {f : RW} (G : WFN s f) {b k : Nat} (hb : b < z_nb s) : sdf s f b k < 1000 := by
  have := rd_lt F (G.2.1 b hb).2.1 (f (3 + 8 * b + k)) _ (Nat.le_refl _)
  show (itr (rd1 s (f (2 + 8 * b)) (f (3 + 8 * b + k))) (z_nl s (f (2 + 8 * b))) (0, z_fg s + 1)).1 < 1000
  omega
section Go
variable {h : AH} {s : SH} {f : RW}
theorem T_yearEnd (W : TKK (hK h) (hR h)) (N : TNOW h f) : X7_yearGoes_32 1349 h = some (wI 1389 0 (nI (f 0 + 1)) h) ∧ TNOW (wI 1389 0 (nI (f 0 + 1)) h) (yr1 f) := by
  have e0 : hI h 1389 0 = nI (f 0) := N 0 (by decide)
  refine ⟨?_, (N.up 0 (f 0 + 1)).congr (fun k _ => rfl)⟩
  simp (disch := first | assumption | ((repeat (first | with_reducible refine TKI ?_ | with_reducible refine TKL ?_)); assumption) | omega) only [X7_yearGoes_32, ↓btgI, ↓btpI, ↓btgL, ↓btpL, ↓btisO, tgI, tpI, tgL, tpL, tisO, ↓btg_57, tg_57, ↓btx_1389, tx_1389, ↓bts_1389, ts_1389, ↓btxl_1389, txl_1389, ↓btsl_1389, tsl_1389, ↓Option.bind_some, ↓b2_some, ↓bX_l, ↓bX_r, Option.bind_some, Option.bind_none, b2_some, bX_l, bX_r, nn_e, if_true, if_false, reduceCtorEq, ↓reduceIte, Nat.reduceEqDiff, Nat.reduceLT, Nat.reduceLeDiff, Nat.reduceSubDiff, Nat.reduceAdd, Nat.reduceMul, nA1, nA2, nM1, nM2, n_add, n_mul, n_sub, nS1, nS2, nL0, nL1, nL2, nE0, nE1, nE2, nE3, bI_0, bI_1, bI_m, rz_b, rz_0, rz_1, e0]
/-- a year that is kept -/
theorem T_yearGoes0 (W : TKK (hK h) (hR h)) (F : WFS s) (S : TSH h s) (N : TNOW h f) (G : WFN s f) {sd : Nat → Nat → Nat} (D : TSD h s f sd) (hsd : ∀ b k, b < z_nb s → sd b k < 1000) (h66 : hI h 1349 66 = 0) :
    Ev (X7_yearGoes 1349 h) (fun H => FT PD4 h H ∧ TNOW H (yg s sd f) ∧ hI H 1349 67 = hI h 1349 67 + nI (lc s f)) := by
  have h4 := F.2.2.2.2.1
  simp (disch := first | assumption | ((repeat (first | with_reducible refine TKI ?_ | with_reducible refine TKL ?_)); assumption) | omega) only [X7_yearGoes, ↓btgI, ↓btpI, ↓btgL, ↓btpL, ↓btisO, tgI, tpI, tgL, tpL, tisO, ↓Option.bind_some, ↓b2_some, ↓bX_l, ↓bX_r, Option.bind_some, Option.bind_none, b2_some, bX_l, bX_r, nn_e, if_true, if_false, reduceCtorEq, ↓reduceIte, Nat.reduceEqDiff, Nat.reduceLT, Nat.reduceLeDiff, Nat.reduceSubDiff, Nat.reduceAdd, Nat.reduceMul, Ev_bind]
  refine ev_mono (T_rains W F S N G) ?_
  rintro H ⟨F2, N2, e67⟩
  rw [X7_yearGoes_6]
  have hw : ∀ b n, b < z_nb s → kps s sd (rnR s f) n (1 + 8 * b) = f (1 + 8 * b) := fun b n hb => by rw [kps_lo (by omega), rnR_ng F G (by omega)]
  refine ev_for (z_nb s) (fun b st => st.1 = nI b ∧ FT PD4 h st.2 ∧ TNOW st.2 (kps s sd (rnR s f) b) ∧ hI st.2 1349 67 = hI h 1349 67 + nI (lc s f)) ?_ ?_ 0 _ (Nat.zero_le _) ⟨rfl, F2, N2, e67⟩
  · rintro b ⟨x, H3⟩ hb ⟨hx, F3, N3, e3⟩
    simp only at hx F3 N3 e3
    subst hx
    have W3 := F3.tk W
    have S3 := F3.tsh PD4_stn S
    have e66 : hI H3 1349 66 = 0 := (F3.i (by unfold PD4 PD3; omega)).trans h66
    have D3 : TSD H3 s (kps s sd (rnR s f) b) sd := fun b' k q1 q2 => by
      rw [hw b' b q1] at q2
      rw [F3.i (by unfold PD4 PD3; omega)]
      exact D b' k q1 q2
    simp (disch := first | assumption | ((repeat (first | with_reducible refine TKI ?_ | with_reducible refine TKL ?_)); assumption) | omega) only [X7_yearGoes_6b, ↓btgI, ↓btpI, ↓btgL, ↓btpL, ↓btisO, tgI, tpI, tgL, tpL, tisO, ↓Option.bind_some, ↓b2_some, ↓bX_l, ↓bX_r, Option.bind_some, Option.bind_none, b2_some, bX_l, bX_r, nn_e, if_true, if_false, reduceCtorEq, ↓reduceIte, Nat.reduceEqDiff, Nat.reduceLT, Nat.reduceLeDiff, Nat.reduceSubDiff, Nat.reduceAdd, Nat.reduceMul, nA1, nA2, nM1, nM2, n_add, n_mul, n_sub, nS1, nS2, nL0, nL1, nL2, nE0, nE1, nE2, nE3, bI_0, bI_1, bI_m, rz_b, rz_0, rz_1, T_boardMany W3 S3, hb, e66, Ev_bind]
    refine ev_mono (T_isKept W3 F S3 N3 (WFN_kps F (WFN_rn F G _ _) b) D3 hsd hb) ?_
    rintro H4 ⟨F4, N4⟩
    rw [Ev_some]
    refine ⟨rfl, F3.trans (F4.mono (fun a k z => by unfold PD6 PD2 at z; unfold PD4 PD3; omega)), N4, ?_⟩
    rw [F4.i (by unfold PD6 PD2; omega)]
    exact e3
  · rintro ⟨x, H3⟩ ⟨hx, F3, N3, e3⟩
    simp only at hx F3 N3 e3
    subst hx
    have W3 := F3.tk W
    have S3 := F3.tsh PD4_stn S
    obtain ⟨t1, t2⟩ := T_yearEnd W3 N3
    simp (disch := first | assumption | ((repeat (first | with_reducible refine TKI ?_ | with_reducible refine TKL ?_)); assumption) | omega) only [X7_yearGoes_6b, ↓btgI, ↓btpI, ↓btgL, ↓btpL, ↓btisO, tgI, tpI, tgL, tpL, tisO, ↓Option.bind_some, ↓b2_some, ↓bX_l, ↓bX_r, Option.bind_some, Option.bind_none, b2_some, bX_l, bX_r, nn_e, if_true, if_false, reduceCtorEq, ↓reduceIte, Nat.reduceEqDiff, Nat.reduceLT, Nat.reduceLeDiff, Nat.reduceSubDiff, Nat.reduceAdd, Nat.reduceMul, nA1, nA2, nM1, nM2, n_add, n_mul, n_sub, nS1, nS2, nL0, nL1, nL2, nE0, nE1, nE2, nE3, bI_0, bI_1, bI_m, rz_b, rz_0, rz_1, T_boardMany W3 S3, Nat.lt_irrefl, t1, Ev_some]
    refine ⟨F3.wI (by unfold PD4; omega), t2, ?_⟩
    rw [p_II, if_neg (by omega)]
    exact e3
/-- a year that is thought of -/
theorem T_yearGoes1 (W : TKK (hK h) (hR h)) (F : WFS s) (S : TSH h s) (N : TNOW h f) (G : WFN s f) (h66 : hI h 1349 66 = 1) : Ev (X7_yearGoes 1349 h) (fun H => FT PD4 h H ∧ TNOW H (yt s f)) := by
  have h4 := F.2.2.2.2.1
  simp (disch := first | assumption | ((repeat (first | with_reducible refine TKI ?_ | with_reducible refine TKL ?_)); assumption) | omega) only [X7_yearGoes, ↓btgI, ↓btpI, ↓btgL, ↓btpL, ↓btisO, tgI, tpI, tgL, tpL, tisO, ↓Option.bind_some, ↓b2_some, ↓bX_l, ↓bX_r, Option.bind_some, Option.bind_none, b2_some, bX_l, bX_r, nn_e, if_true, if_false, reduceCtorEq, ↓reduceIte, Nat.reduceEqDiff, Nat.reduceLT, Nat.reduceLeDiff, Nat.reduceSubDiff, Nat.reduceAdd, Nat.reduceMul, Ev_bind]
  refine ev_mono (T_rains W F S N G) ?_
  rintro H ⟨F2, N2, e67⟩
  have W2 := F2.tk W
  have S2 := F2.tsh PD4_stn S
  have e66 : hI H 1349 66 = 1 := (F2.i (by unfold PD4 PD3; omega)).trans h66
  obtain ⟨t1, t2⟩ := T_yearEnd W2 N2
  have fin : FT PD4 h (wI 1389 0 (nI (rnR s f 0 + 1)) H) ∧ TNOW (wI 1389 0 (nI (rnR s f 0 + 1)) H) (yt s f) := ⟨F2.wI (by unfold PD4; omega), t2⟩
  have z0 : nI 0 = (0 : Int32) := rfl
  rw [X7_yearGoes_6]
  refine ⟨_, loopC_end ?_, fin⟩
  simp only
  rcases Nat.eq_zero_or_pos (z_nb s) with q | q
  · have tb := T_boardMany W2 S2
    rw [q] at tb
    simp (disch := first | assumption | ((repeat (first | with_reducible refine TKI ?_ | with_reducible refine TKL ?_)); assumption) | omega) only [X7_yearGoes_6b, ↓btgI, ↓btpI, ↓btgL, ↓btpL, ↓btisO, tgI, tpI, tgL, tpL, tisO, ↓Option.bind_some, ↓b2_some, ↓bX_l, ↓bX_r, Option.bind_some, Option.bind_none, b2_some, bX_l, bX_r, nn_e, if_true, if_false, reduceCtorEq, ↓reduceIte, Nat.reduceEqDiff, Nat.reduceLT, Nat.reduceLeDiff, Nat.reduceSubDiff, Nat.reduceAdd, Nat.reduceMul, nA1, nA2, nM1, nM2, n_add, n_mul, n_sub, nS1, nS2, nL0, nL1, nL2, nE0, nE1, nE2, nE3, bI_0, bI_1, bI_m, rz_b, rz_0, rz_1, ← z0, tb, Nat.lt_irrefl, t1]
  · have n10 : ((1 : Int32) = nI 0) = False := by decide
    simp (disch := first | assumption | ((repeat (first | with_reducible refine TKI ?_ | with_reducible refine TKL ?_)); assumption) | omega) only [X7_yearGoes_6b, ↓btgI, ↓btpI, ↓btgL, ↓btpL, ↓btisO, tgI, tpI, tgL, tpL, tisO, ↓Option.bind_some, ↓b2_some, ↓bX_l, ↓bX_r, Option.bind_some, Option.bind_none, b2_some, bX_l, bX_r, nn_e, if_true, if_false, reduceCtorEq, ↓reduceIte, Nat.reduceEqDiff, Nat.reduceLT, Nat.reduceLeDiff, Nat.reduceSubDiff, Nat.reduceAdd, Nat.reduceMul, nA1, nA2, nM1, nM2, n_add, n_mul, n_sub, nS1, nS2, nL0, nL1, nL2, nE0, nE1, nE2, nE3, bI_0, bI_1, bI_m, rz_b, rz_0, rz_1, ← z0, T_boardMany W2 S2, q, e66, n10, t1]
theorem T_yearsGo0 (W : TKK (hK h) (hR h)) (F : WFS s) (S : TSH h s) (N : TNOW h f) (G : WFN s f) (h66 : hI h 1349 66 = 0) {n : Nat} (hn : f 0 + n ≤ 999) :
    Ev (X7_yearsGo 1349 (nI n) h) (fun H => FT PD8 h H ∧ TNOW H (ygs s n f) ∧ hI H 1349 67 = hI h 1349 67 + nI (ysm s n f)) := by
  have h4 := F.2.2.2.2.1
  rw [X7_yearsGo, X7_yearsGo_2]
  refine ev_for n (fun k st => st.1 = nI k ∧ FT PD8 h st.2 ∧ TNOW st.2 (ygs s k f) ∧ hI st.2 1349 67 = hI h 1349 67 + nI (ysm s k f)) ?_ ?_ 0 _ (Nat.zero_le _) ⟨rfl, FT.refl _ _, N, by show _ = _ + (0 : Int32); rw [Int32.add_zero]⟩
  · rintro k ⟨x, H3⟩ hk ⟨hx, F3, N3, e3⟩
    simp only at hx F3 N3 e3
    subst hx
    have W3 := F3.tk W
    have S3 := F3.tsh PD8_stn S
    obtain ⟨G3, y3⟩ := ygs_ok F G k (by omega)
    have e66 : hI H3 1349 66 = 0 := (F3.i (by unfold PD8 PD4 PD3; omega)).trans h66
    simp (disch := first | assumption | ((repeat (first | with_reducible refine TKI ?_ | with_reducible refine TKL ?_)); assumption) | omega) only [X7_yearsGo_2b, X7_yearsGo_18, ↓btgI, ↓btpI, ↓btgL, ↓btpL, ↓btisO, tgI, tpI, tgL, tpL, tisO, ↓Option.bind_some, ↓b2_some, ↓bX_l, ↓bX_r, Option.bind_some, Option.bind_none, b2_some, bX_l, bX_r, nn_e, if_true, if_false, reduceCtorEq, ↓reduceIte, Nat.reduceEqDiff, Nat.reduceLT, Nat.reduceLeDiff, Nat.reduceSubDiff, Nat.reduceAdd, Nat.reduceMul, nA1, nA2, nM1, nM2, n_add, n_mul, n_sub, nS1, nS2, nL0, nL1, nL2, nE0, nE1, nE2, nE3, bI_0, bI_1, bI_m, rz_b, rz_0, rz_1, hk, e66, Ev_bind]
    refine ev_mono (T_laysSaid W3 F S3 N3 G3) ?_
    rintro H4 ⟨F4, D4⟩
    have W4 := F4.tk W3
    have S4 := F4.tsh PD5_stn S3
    have N4 : TNOW H4 (ygs s k f) := N3.fr (fun _ => F4.i (by unfold PD5 PD2; omega))
    simp (disch := first | assumption | ((repeat (first | with_reducible refine TKI ?_ | with_reducible refine TKL ?_)); assumption) | omega) only [↓btgI, ↓btpI, ↓btgL, ↓btpL, ↓btisO, tgI, tpI, tgL, tpL, tisO, ↓Option.bind_some, ↓b2_some, ↓bX_l, ↓bX_r, Option.bind_some, Option.bind_none, b2_some, bX_l, bX_r, nn_e, if_true, if_false, reduceCtorEq, ↓reduceIte, Nat.reduceEqDiff, Nat.reduceLT, Nat.reduceLeDiff, Nat.reduceSubDiff, Nat.reduceAdd, Nat.reduceMul, Ev_bind, Ev_some]
    have D5 : TSD H4 s (ygs s k f) (fun b k' => if b < z_nb s then sdf s (ygs s k f) b k' else 0) := fun b k' q1 q2 => by (try simp only); rw [if_pos q1]; exact D4 b k' q1 q2
    have hs5 : ∀ b k', (if b < z_nb s then sdf s (ygs s k f) b k' else 0) < 1000 := by
      intro b k'
      split
      · exact sdf_lt F G3 (by assumption)
      · omega
    refine ev_mono (T_yearGoes0 W4 F S4 N4 G3 D5 (fun b k' _ => hs5 b k') ((F4.i (by unfold PD5 PD2; omega)).trans e66)) ?_
    rintro H5 ⟨F5, N5, e5⟩
    have ek : ∀ (g : RW) (m : Nat), m ≤ z_nb s → kps s (fun b k' => if b < z_nb s then sdf s (ygs s k f) b k' else 0) g m = kps s (sdf s (ygs s k f)) g m := by
      intro g m
      induction m with
      | zero => intro _; rfl
      | succ m ih =>
        intro hm
        show kp s _ (kps s _ g m) m = kp s _ (kps s _ g m) m
        rw [ih (by omega)]
        unfold kp chg
        simp only [if_pos (show m < z_nb s by omega)]
    refine ⟨by trivial, (F3.trans (F4.mono (fun a k z => by unfold PD5 PD2 at z; unfold PD8 PD4 PD3; omega))).trans (F5.mono (fun a k z => Or.inl z)), ?_, ?_⟩
    · have : yg s (fun b k' => if b < z_nb s then sdf s (ygs s k f) b k' else 0) (ygs s k f) = ygs s (k + 1) f := by
        show yr1 _ = yr1 _
        rw [ek _ _ (Nat.le_refl _)]
        rfl
      rw [← this]
      exact N5
    · rw [e5, F4.i (by unfold PD5 PD2; omega), e3, Int32.add_assoc, n_add]
      rfl
  · rintro ⟨x, H3⟩ ⟨hx, F3, N3, e3⟩
    simp only at hx F3 N3 e3
    subst hx
    simp (disch := first | assumption | ((repeat (first | with_reducible refine TKI ?_ | with_reducible refine TKL ?_)); assumption) | omega) only [X7_yearsGo_2b, ↓Option.bind_some, ↓b2_some, ↓bX_l, ↓bX_r, Option.bind_some, Option.bind_none, b2_some, bX_l, bX_r, nn_e, if_true, if_false, reduceCtorEq, ↓reduceIte, Nat.reduceEqDiff, Nat.reduceLT, Nat.reduceLeDiff, Nat.reduceSubDiff, Nat.reduceAdd, Nat.reduceMul, nA1, nA2, nM1, nM2, n_add, n_mul, n_sub, nS1, nS2, nL0, nL1, nL2, nE0, nE1, nE2, nE3, bI_0, bI_1, bI_m, rz_b, rz_0, rz_1, Nat.lt_irrefl, Ev_some]
    exact ⟨F3, N3, e3⟩
theorem T_yearsGo1 (W : TKK (hK h) (hR h)) (F : WFS s) (S : TSH h s) (N : TNOW h f) (G : WFN s f) (h66 : hI h 1349 66 = 1) {n : Nat} (hn : f 0 + n ≤ 999) : Ev (X7_yearsGo 1349 (nI n) h) (fun H => FT PD4 h H ∧ TNOW H (yts s n f)) := by
  have n10 : ((1 : Int32) = 0) = False := by decide
  rw [X7_yearsGo, X7_yearsGo_2]
  refine ev_for n (fun k st => st.1 = nI k ∧ FT PD4 h st.2 ∧ TNOW st.2 (yts s k f)) ?_ ?_ 0 _ (Nat.zero_le _) ⟨rfl, FT.refl _ _, N⟩
  · rintro k ⟨x, H3⟩ hk ⟨hx, F3, N3⟩
    simp only at hx F3 N3
    subst hx
    have W3 := F3.tk W
    have S3 := F3.tsh PD4_stn S
    obtain ⟨G3, y3⟩ := yts_ok F G k (by omega)
    have e66 : hI H3 1349 66 = 1 := (F3.i (by unfold PD4 PD3; omega)).trans h66
    simp (disch := first | assumption | ((repeat (first | with_reducible refine TKI ?_ | with_reducible refine TKL ?_)); assumption) | omega) only [X7_yearsGo_2b, X7_yearsGo_18, ↓btgI, ↓btpI, ↓btgL, ↓btpL, ↓btisO, tgI, tpI, tgL, tpL, tisO, ↓Option.bind_some, ↓b2_some, ↓bX_l, ↓bX_r, Option.bind_some, Option.bind_none, b2_some, bX_l, bX_r, nn_e, if_true, if_false, reduceCtorEq, ↓reduceIte, Nat.reduceEqDiff, Nat.reduceLT, Nat.reduceLeDiff, Nat.reduceSubDiff, Nat.reduceAdd, Nat.reduceMul, nA1, nA2, nM1, nM2, n_add, n_mul, n_sub, nS1, nS2, nL0, nL1, nL2, nE0, nE1, nE2, nE3, bI_0, bI_1, bI_m, rz_b, rz_0, rz_1, hk, e66, n10, Ev_bind]
    refine ev_mono (T_yearGoes1 W3 F S3 N3 G3 e66) ?_
    rintro H5 ⟨F5, N5⟩
    rw [Ev_some]
    exact ⟨rfl, F3.trans F5, N5⟩
  · rintro ⟨x, H3⟩ ⟨hx, F3, N3⟩
    simp only at hx F3 N3
    subst hx
    simp (disch := first | assumption | ((repeat (first | with_reducible refine TKI ?_ | with_reducible refine TKL ?_)); assumption) | omega) only [X7_yearsGo_2b, ↓Option.bind_some, ↓b2_some, ↓bX_l, ↓bX_r, Option.bind_some, Option.bind_none, b2_some, bX_l, bX_r, nn_e, if_true, if_false, reduceCtorEq, ↓reduceIte, Nat.reduceEqDiff, Nat.reduceLT, Nat.reduceLeDiff, Nat.reduceSubDiff, Nat.reduceAdd, Nat.reduceMul, nA1, nA2, nM1, nM2, n_add, n_mul, n_sub, nS1, nS2, nL0, nL1, nL2, nE0, nE1, nE2, nE3, bI_0, bI_1, bI_m, rz_b, rz_0, rz_1, Nat.lt_irrefl, Ev_some]
    exact ⟨F3, N3⟩
/-- put aside, taken back -/
theorem T_putsAside (W : TKK (hK h) (hR h)) (N : TNOW h f) : Ev (X7_putsAside 1349 h) (fun H => FT (fun a k => a = 1390 ∨ (a = 1349 ∧ k = 66)) h H ∧ hI H 1349 66 = 1 ∧ ∀ k, k < 33 → hI H 1390 k = nI (f k)) := by
  have z1 : pZ 7 66 (some 1349) 1 h = some (wI 1349 66 1 h) := tpZ W (Or.inr rfl)
  rw [X7_putsAside, z1, Option.bind_some, X7_putsAside_7]
  refine ev_for 33 (fun j st => st.1 = nI j ∧ FT (fun a k => a = 1390 ∨ (a = 1349 ∧ k = 66)) h st.2 ∧ hI st.2 1349 66 = 1 ∧ ∀ k, k < j → hI st.2 1390 k = nI (f k)) ?_ ?_ 0 _ (by decide) ⟨rfl, (FT.refl _ _).wI (Or.inr ⟨rfl, rfl⟩), rfl, fun k q => absurd q (Nat.not_lt_zero _)⟩
  · rintro j ⟨x, H⟩ hj ⟨hx, F2, e66, E2⟩
    simp only at hx F2 e66 E2
    subst hx
    have W2 := F2.tk W
    have en : hI H 1389 j = nI (f j) := (F2.i (by omega)).trans (N j (by omega))
    simp (disch := first | assumption | ((repeat (first | with_reducible refine TKI ?_ | with_reducible refine TKL ?_)); assumption) | omega) only [X7_putsAside_7b, ↓btgI, ↓btpI, ↓btgL, ↓btpL, ↓btisO, tgI, tpI, tgL, tpL, tisO, ↓btg_57, tg_57, ↓btx_1389, tx_1389, ↓bts_1389, ts_1389, ↓btxl_1389, txl_1389, ↓btsl_1389, tsl_1389, ↓btg_58, tg_58, ↓btx_1390, tx_1390, ↓bts_1390, ts_1390, ↓btxl_1390, txl_1390, ↓btsl_1390, tsl_1390, ↓Option.bind_some, ↓b2_some, ↓bX_l, ↓bX_r, Option.bind_some, Option.bind_none, b2_some, bX_l, bX_r, nn_e, if_true, if_false, reduceCtorEq, ↓reduceIte, Nat.reduceEqDiff, Nat.reduceLT, Nat.reduceLeDiff, Nat.reduceSubDiff, Nat.reduceAdd, Nat.reduceMul, nA1, nA2, nM1, nM2, n_add, n_mul, n_sub, nS1, nS2, nL0, nL1, nL2, nE0, nE1, nE2, nE3, bI_0, bI_1, bI_m, rz_b, rz_0, rz_1, hj, en, Ev_some]
    refine ⟨by trivial, F2.wI (Or.inl rfl), by rw [p_II, if_neg (by omega)]; exact e66, fun k q => ?_⟩
    rw [p_II]
    by_cases e : k = j
    · rw [if_pos ⟨rfl, e⟩, e]
    · rw [if_neg (by omega)]; exact E2 k (by omega)
  · rintro ⟨x, H⟩ ⟨hx, F2, e66, E2⟩
    simp only at hx F2 e66 E2
    subst hx
    simp (disch := first | assumption | ((repeat (first | with_reducible refine TKI ?_ | with_reducible refine TKL ?_)); assumption) | omega) only [X7_putsAside_7b, ↓Option.bind_some, ↓b2_some, ↓bX_l, ↓bX_r, Option.bind_some, Option.bind_none, b2_some, bX_l, bX_r, nn_e, if_true, if_false, reduceCtorEq, ↓reduceIte, Nat.reduceEqDiff, Nat.reduceLT, Nat.reduceLeDiff, Nat.reduceSubDiff, Nat.reduceAdd, Nat.reduceMul, nA1, nA2, nM1, nM2, n_add, n_mul, n_sub, nS1, nS2, nL0, nL1, nL2, nE0, nE1, nE2, nE3, bI_0, bI_1, bI_m, rz_b, rz_0, rz_1, Nat.lt_irrefl, Ev_some]
    exact ⟨F2, e66, E2⟩
theorem T_takesBack (W : TKK (hK h) (hR h)) {g : RW} (A : ∀ k, k < 33 → hI h 1390 k = nI (g k)) (N : ∀ k, 33 ≤ k → k < 154 → hI h 1389 k = nI (g k)) : Ev (X7_takesBack 1349 h) (fun H => FT (fun a k => a = 1389 ∨ (a = 1349 ∧ k = 66)) h H ∧ hI H 1349 66 = 0 ∧ TNOW H g) := by
  rw [X7_takesBack, X7_takesBack_2]
  refine ev_for 33 (fun j st => st.1 = nI j ∧ FT (fun a k => a = 1389) h st.2 ∧ ∀ k, k < 154 → (k < j ∨ 33 ≤ k) → hI st.2 1389 k = nI (g k)) ?_ ?_ 0 _ (by decide) ⟨rfl, FT.refl _ _, fun k q1 q2 => N k (by omega) q1⟩
  · rintro j ⟨x, H⟩ hj ⟨hx, F2, E2⟩
    simp only at hx F2 E2
    subst hx
    have W2 := F2.tk W
    have en : hI H 1390 j = nI (g j) := (F2.i (by omega)).trans (A j hj)
    simp (disch := first | assumption | ((repeat (first | with_reducible refine TKI ?_ | with_reducible refine TKL ?_)); assumption) | omega) only [X7_takesBack_2b, ↓btgI, ↓btpI, ↓btgL, ↓btpL, ↓btisO, tgI, tpI, tgL, tpL, tisO, ↓btg_57, tg_57, ↓btx_1389, tx_1389, ↓bts_1389, ts_1389, ↓btxl_1389, txl_1389, ↓btsl_1389, tsl_1389, ↓btg_58, tg_58, ↓btx_1390, tx_1390, ↓bts_1390, ts_1390, ↓btxl_1390, txl_1390, ↓btsl_1390, tsl_1390, ↓Option.bind_some, ↓b2_some, ↓bX_l, ↓bX_r, Option.bind_some, Option.bind_none, b2_some, bX_l, bX_r, nn_e, if_true, if_false, reduceCtorEq, ↓reduceIte, Nat.reduceEqDiff, Nat.reduceLT, Nat.reduceLeDiff, Nat.reduceSubDiff, Nat.reduceAdd, Nat.reduceMul, nA1, nA2, nM1, nM2, n_add, n_mul, n_sub, nS1, nS2, nL0, nL1, nL2, nE0, nE1, nE2, nE3, bI_0, bI_1, bI_m, rz_b, rz_0, rz_1, hj, en, Ev_some]
    refine ⟨by trivial, F2.wI rfl, fun k q1 q2 => ?_⟩
    rw [p_II]
    by_cases e : k = j
    · rw [if_pos ⟨rfl, e⟩, e]
    · rw [if_neg (by omega)]; exact E2 k q1 (by omega)
  · rintro ⟨x, H⟩ ⟨hx, F2, E2⟩
    simp only at hx F2 E2
    subst hx
    have W2 := F2.tk W
    have z0 : pZ 7 66 (some 1349) 0 H = some (wI 1349 66 0 H) := tpZ W2 (Or.inl rfl)
    simp (disch := first | assumption | ((repeat (first | with_reducible refine TKI ?_ | with_reducible refine TKL ?_)); assumption) | omega) only [X7_takesBack_2b, X7_takesBack_26, ↓Option.bind_some, ↓b2_some, ↓bX_l, ↓bX_r, Option.bind_some, Option.bind_none, b2_some, bX_l, bX_r, nn_e, if_true, if_false, reduceCtorEq, ↓reduceIte, Nat.reduceEqDiff, Nat.reduceLT, Nat.reduceLeDiff, Nat.reduceSubDiff, Nat.reduceAdd, Nat.reduceMul, nA1, nA2, nM1, nM2, n_add, n_mul, n_sub, nS1, nS2, nL0, nL1, nL2, nE0, nE1, nE2, nE3, bI_0, bI_1, bI_m, rz_b, rz_0, rz_1, Nat.lt_irrefl, z0, Ev_some]
    refine ⟨(F2.mono (fun a k z => Or.inl z)).wI (Or.inr ⟨rfl, rfl⟩), rfl, fun k q => ?_⟩
    rw [p_II, if_neg (by omega)]
    exact E2 k q (by omega)
end Go
