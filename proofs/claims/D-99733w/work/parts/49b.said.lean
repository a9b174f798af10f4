set_option maxRecDepth 100000
/-! ===== what boards say; what is kept; a year ===== -/
/-- what boards say -/
def sdf (s : SH) (f : RW) (b k : Nat) : Nat := rd s (f (2 + 8 * b)) (f (3 + 8 * b + k))
def TSD (H : AH) (s : SH) (f : RW) (sd : Nat → Nat → Nat) : Prop := ∀ b k, b < z_nb s → k < z_wl s (f (1 + 8 * b)) → hI H 1391 (6 * b + k) = nI (sd b k)
def chg (s : SH) (sd : Nat → Nat → Nat) (g : RW) (b n : Nat) : Bool := !alln (fun k => sdf s g b k == sd b k) n
def sil (s : SH) (g : RW) (b n : Nat) : Nat := itr (fun k a => if sdf s g b k = 0 then a + 1 else a) n 0
/-- one more is kept -/
def psh (g : RW) (y b sl : Nat) : RW := if g 33 = 40 then (fun i => if i = 153 then sl else if i = 152 then b else if i = 151 then y else if 34 ≤ i ∧ i < 151 then g (i + 3) else g i)
  else fun i => if i = 36 + 3 * g 33 then sl else if i = 35 + 3 * g 33 then b else if i = 34 + 3 * g 33 then y else if i = 33 then g 33 + 1 else g i
def kp (s : SH) (sd : Nat → Nat → Nat) (g : RW) (b : Nat) : RW := if chg s sd g b (z_wl s (g (1 + 8 * b))) = true then psh g (g 0) b (sil s g b (z_wl s (g (1 + 8 * b)))) else g
theorem psh_lo {g : RW} {y b sl i : Nat} (h : i < 33) : psh g y b sl i = g i := by
  unfold psh
  split
  · simp only
    rw [if_neg (by omega), if_neg (by omega), if_neg (by omega), if_neg (by omega)]
  · simp only
    rw [if_neg (by omega), if_neg (by omega), if_neg (by omega), if_neg (by omega)]
theorem psh_33 {g : RW} {y b sl : Nat} (h : g 33 ≤ 40) : psh g y b sl 33 ≤ 40 := by
  unfold psh
  split
  · simp only
    rw [if_neg (by omega), if_neg (by omega), if_neg (by omega), if_neg (by omega)]; omega
  · simp only
    rw [if_neg (by omega), if_neg (by omega), if_neg (by omega), if_pos trivial]; omega
theorem kp_lo {s : SH} {sd : Nat → Nat → Nat} {g : RW} {b i : Nat} (h : i < 33) : kp s sd g b i = g i := by
  unfold kp
  split
  · exact psh_lo h
  · rfl
theorem WFN_kp {s : SH} (F : WFS s) {sd : Nat → Nat → Nat} {g : RW} (H : WFN s g) (b : Nat) : WFN s (kp s sd g b) := by
  have h4 := F.2.2.2.2.1
  refine WFN_up H (by rw [kp_lo (by omega)]; exact H.1) (fun b' hb => ⟨kp_lo (by omega), kp_lo (by omega)⟩) (fun b' k hb hk => by rw [kp_lo (by omega)]; exact (H.2.1 b' hb).2.2.2 k hk) ?_
  unfold kp
  split
  · exact psh_33 H.2.2
  · exact H.2.2
def kps (s : SH) (sd : Nat → Nat → Nat) (g : RW) (n : Nat) : RW := itr (fun b g => kp s sd g b) n g
theorem kps_lo {s : SH} {sd : Nat → Nat → Nat} {g : RW} {i : Nat} (h : i < 33) : ∀ n, kps s sd g n i = g i
  | 0 => rfl
  | n + 1 => by
    show kp s sd (kps s sd g n) n i = g i
    rw [kp_lo h, kps_lo h n]
theorem WFN_kps {s : SH} (F : WFS s) {sd : Nat → Nat → Nat} {g : RW} (H : WFN s g) : ∀ n, WFN s (kps s sd g n)
  | 0 => H
  | n + 1 => WFN_kp F (WFN_kps F H n) n
def yr1 (g : RW) : RW := fun i => if i = 0 then g 0 + 1 else g i
/-- a year, kept and not -/
def yg (s : SH) (sd : Nat → Nat → Nat) (f : RW) : RW := yr1 (kps s sd (rnR s f) (z_nb s))
def yt (s : SH) (f : RW) : RW := yr1 (rnR s f)
theorem WFN_yr1 {s : SH} (F : WFS s) {g : RW} (H : WFN s g) (h : g 0 + 1 ≤ 999) : WFN s (yr1 g) := by
  have h4 := F.2.2.2.2.1
  refine WFN_up H ?_ (fun b hb => ⟨?_, ?_⟩) (fun b k hb hk => ?_) ?_
  · simp only [yr1, if_true]; exact h
  · simp only [yr1]; rw [if_neg (by omega)]
  · simp only [yr1]; rw [if_neg (by omega)]
  · simp only [yr1]; rw [if_neg (by omega)]; exact (H.2.1 b hb).2.2.2 k hk
  · simp only [yr1]; rw [if_neg (by omega)]; exact H.2.2
def PD5 (a k : Nat) : Prop := PD2 a k ∨ a = 1391
def PD6 (a k : Nat) : Prop := PD2 a k ∨ a = 1389
def PD8 (a k : Nat) : Prop := PD4 a k ∨ a = 1391
theorem PD5_stn : ∀ a k, Stn a k → ¬ PD5 a k := by intro a k h; unfold Stn at h; unfold PD5 PD2; omega
theorem PD6_stn : ∀ a k, Stn a k → ¬ PD6 a k := by intro a k h; unfold Stn at h; unfold PD6 PD2; omega
theorem PD8_stn : ∀ a k, Stn a k → ¬ PD8 a k := by intro a k h; unfold Stn at h; unfold PD8 PD4 PD3; omega
section Said
variable {h : AH} {s : SH} {f : RW}
theorem T_laysSaid (W : TKK (hK h) (hR h)) (F : WFS s) (S : TSH h s) (N : TNOW h f) (G : WFN s f) : Ev (X7_laysSaid 1349 h) (fun H => FT PD5 h H ∧ TSD H s f (sdf s f)) := by
  have h4 := F.2.2.2.2.1
  have h6 := WFN_6 F G
  rw [X7_laysSaid, X7_laysSaid_2]
  refine ev_for (z_nb s) (fun b st => st.1 = nI b ∧ FT PD5 h st.2 ∧ ∀ b' k, b' < b → k < z_wl s (f (1 + 8 * b')) → hI st.2 1391 (6 * b' + k) = nI (sdf s f b' k)) ?_ ?_ 0 _ (Nat.zero_le _) ⟨rfl, FT.refl _ _, fun b' k q => absurd q (Nat.not_lt_zero _)⟩
  · rintro b ⟨x, H⟩ hb ⟨hx, F2, D2⟩
    simp only at hx F2 D2
    subst hx
    have W2 := F2.tk W
    have S2 := F2.tsh PD5_stn S
    obtain ⟨g1, g2, -, g3⟩ := G.2.1 b hb
    have hl := h6 b hb
    simp (disch := first | assumption | ((repeat (first | with_reducible refine TKI ?_ | with_reducible refine TKL ?_)); assumption) | omega) only [X7_laysSaid_2b, ↓btgI, ↓btpI, ↓btgL, ↓btpL, ↓btisO, tgI, tpI, tgL, tpL, tisO, ↓btg_68, tg_68, ↓btx_1391, tx_1391, ↓bts_1391, ts_1391, ↓btxl_1391, txl_1391, ↓btsl_1391, tsl_1391, ↓Option.bind_some, ↓b2_some, ↓bX_l, ↓bX_r, Option.bind_some, Option.bind_none, b2_some, bX_l, bX_r, nn_e, if_true, if_false, reduceCtorEq, ↓reduceIte, Nat.reduceEqDiff, Nat.reduceLT, Nat.reduceLeDiff, Nat.reduceSubDiff, Nat.reduceAdd, Nat.reduceMul, nA1, nA2, nM1, nM2, n_add, n_mul, n_sub, nS1, nS2, nL0, nL1, nL2, nE0, nE1, nE2, nE3, bI_0, bI_1, bI_m, rz_b, rz_0, rz_1, T_boardMany W2 S2, hb]
    rw [X7_laysSaid_12]
    refine ev_for (z_wl s (f (1 + 8 * b))) (fun k st => st.1 = nI k ∧ FT PD5 h st.2 ∧ (∀ b' k, b' < b → k < z_wl s (f (1 + 8 * b')) → hI st.2 1391 (6 * b' + k) = nI (sdf s f b' k)) ∧ ∀ k', k' < k → hI st.2 1391 (6 * b + k') = nI (sdf s f b k')) ?_ ?_ 0 _ (Nat.zero_le _) ⟨rfl, F2, D2, fun k' q => absurd q (Nat.not_lt_zero _)⟩
    · rintro k ⟨x, H3⟩ hk ⟨hx, F3, D3, E3⟩
      simp only at hx F3 D3 E3
      subst hx
      have W3 := F3.tk W
      have S3 := F3.tsh PD5_stn S
      have N3 : TNOW H3 f := N.fr (fun _ => F3.i (by unfold PD5 PD2; omega))
      simp (disch := first | assumption | ((repeat (first | with_reducible refine TKI ?_ | with_reducible refine TKL ?_)); assumption) | omega) only [X7_laysSaid_12b, ↓btgI, ↓btpI, ↓btgL, ↓btpL, ↓btisO, tgI, tpI, tgL, tpL, tisO, ↓btg_68, tg_68, ↓btx_1391, tx_1391, ↓bts_1391, ts_1391, ↓btxl_1391, txl_1391, ↓btsl_1391, tsl_1391, ↓Option.bind_some, ↓b2_some, ↓bX_l, ↓bX_r, Option.bind_some, Option.bind_none, b2_some, bX_l, bX_r, nn_e, if_true, if_false, reduceCtorEq, ↓reduceIte, Nat.reduceEqDiff, Nat.reduceLT, Nat.reduceLeDiff, Nat.reduceSubDiff, Nat.reduceAdd, Nat.reduceMul, nA1, nA2, nM1, nM2, n_add, n_mul, n_sub, nS1, nS2, nL0, nL1, nL2, nE0, nE1, nE2, nE3, bI_0, bI_1, bI_m, rz_b, rz_0, rz_1, T_wordOf W3 N3 (show b < 4 by omega), T_longOf W3 F S3 g1, T_handOf W3 N3 (show b < 4 by omega), T_glyphAt W3 N3 (show b < 4 by omega) (show k < 6 by omega), hk, Ev_b2]
      refine ev_mono (T_readAs W3 F S3 g2 (g3 k (by omega))) ?_
      rintro ⟨v, H4⟩ ⟨hv, F4⟩
      simp only at hv F4
      subst hv
      have W4 := F4.tk W3
      have F5 : FT PD5 H3 H4 := F4.mono (fun _ _ z => Or.inl z)
      simp (disch := first | assumption | ((repeat (first | with_reducible refine TKI ?_ | with_reducible refine TKL ?_)); assumption) | omega) only [↓btgI, ↓btpI, ↓btgL, ↓btpL, ↓btisO, tgI, tpI, tgL, tpL, tisO, ↓btg_68, tg_68, ↓btx_1391, tx_1391, ↓bts_1391, ts_1391, ↓btxl_1391, txl_1391, ↓btsl_1391, tsl_1391, ↓Option.bind_some, ↓b2_some, ↓bX_l, ↓bX_r, Option.bind_some, Option.bind_none, b2_some, bX_l, bX_r, nn_e, if_true, if_false, reduceCtorEq, ↓reduceIte, Nat.reduceEqDiff, Nat.reduceLT, Nat.reduceLeDiff, Nat.reduceSubDiff, Nat.reduceAdd, Nat.reduceMul, nA1, nA2, nM1, nM2, n_add, n_mul, n_sub, nS1, nS2, nL0, nL1, nL2, nE0, nE1, nE2, nE3, bI_0, bI_1, bI_m, rz_b, rz_0, rz_1, Ev_some]
      refine ⟨by trivial, (F3.trans F5).wI (Or.inr rfl), fun b' k' q1 q2 => ?_, fun k' q => ?_⟩
      · have := h6 b' (by omega)
        rw [p_II, if_neg (by omega), F4.i (by unfold PD2; omega)]
        exact D3 b' k' q1 q2
      · rw [p_II]
        by_cases e : k' = k
        · rw [if_pos ⟨rfl, by rw [e]⟩, e]; rfl
        · rw [if_neg (by omega), F4.i (by unfold PD2; omega)]
          exact E3 k' (by omega)
    · rintro ⟨x, H3⟩ ⟨hx, F3, D3, E3⟩
      simp only at hx F3 D3 E3
      subst hx
      have W3 := F3.tk W
      have S3 := F3.tsh PD5_stn S
      have N3 : TNOW H3 f := N.fr (fun _ => F3.i (by unfold PD5 PD2; omega))
      simp (disch := first | assumption | ((repeat (first | with_reducible refine TKI ?_ | with_reducible refine TKL ?_)); assumption) | omega) only [X7_laysSaid_12b, ↓btgI, ↓btpI, ↓btgL, ↓btpL, ↓btisO, tgI, tpI, tgL, tpL, tisO, ↓btg_68, tg_68, ↓btx_1391, tx_1391, ↓bts_1391, ts_1391, ↓btxl_1391, txl_1391, ↓btsl_1391, tsl_1391, ↓Option.bind_some, ↓b2_some, ↓bX_l, ↓bX_r, Option.bind_some, Option.bind_none, b2_some, bX_l, bX_r, nn_e, if_true, if_false, reduceCtorEq, ↓reduceIte, Nat.reduceEqDiff, Nat.reduceLT, Nat.reduceLeDiff, Nat.reduceSubDiff, Nat.reduceAdd, Nat.reduceMul, nA1, nA2, nM1, nM2, n_add, n_mul, n_sub, nS1, nS2, nL0, nL1, nL2, nE0, nE1, nE2, nE3, bI_0, bI_1, bI_m, rz_b, rz_0, rz_1, T_wordOf W3 N3 (show b < 4 by omega), T_longOf W3 F S3 g1, Nat.lt_irrefl, Ev_some]
      refine ⟨by trivial, F3, fun b' k' q1 q2 => ?_⟩
      by_cases e : b' = b
      · subst e; exact E3 k' q2
      · exact D3 b' k' (by omega) q2
  · rintro ⟨x, H⟩ ⟨hx, F2, D2⟩
    simp only at hx F2 D2
    subst hx
    have W2 := F2.tk W
    have S2 := F2.tsh PD5_stn S
    simp (disch := first | assumption | ((repeat (first | with_reducible refine TKI ?_ | with_reducible refine TKL ?_)); assumption) | omega) only [X7_laysSaid_2b, ↓btgI, ↓btpI, ↓btgL, ↓btpL, ↓btisO, tgI, tpI, tgL, tpL, tisO, ↓btg_68, tg_68, ↓btx_1391, tx_1391, ↓bts_1391, ts_1391, ↓btxl_1391, txl_1391, ↓btsl_1391, tsl_1391, ↓Option.bind_some, ↓b2_some, ↓bX_l, ↓bX_r, Option.bind_some, Option.bind_none, b2_some, bX_l, bX_r, nn_e, if_true, if_false, reduceCtorEq, ↓reduceIte, Nat.reduceEqDiff, Nat.reduceLT, Nat.reduceLeDiff, Nat.reduceSubDiff, Nat.reduceAdd, Nat.reduceMul, nA1, nA2, nM1, nM2, n_add, n_mul, n_sub, nS1, nS2, nL0, nL1, nL2, nE0, nE1, nE2, nE3, bI_0, bI_1, bI_m, rz_b, rz_0, rz_1, T_boardMany W2 S2, Nat.lt_irrefl, Ev_some]
    exact ⟨F2, D2⟩
theorem T_kept145 (W : TKK (hK h) (hR h)) (N : TNOW h f) {m : Nat} (hm : f 33 = m + 1) (hm2 : m < 40) (b sl : Nat) : X7_isKept_145 1349 (nI b) (nI sl) h = some (wI 1389 (36 + 3 * m) (nI sl) (wI 1389 (35 + 3 * m) (nI b) (wI 1389 (34 + 3 * m) (nI (f 0)) h))) := by
  have e33 : hI h 1389 33 = nI (m + 1) := by rw [N 33 (by decide), hm]
  have e0 : hI h 1389 0 = nI (f 0) := N 0 (by decide)
  have w1 : TKK (hK (wI 1389 (34 + 3 * m) (nI (f 0)) h)) (hR (wI 1389 (34 + 3 * m) (nI (f 0)) h)) := W
  have w2 : TKK (hK (wI 1389 (35 + 3 * m) (nI b) (wI 1389 (34 + 3 * m) (nI (f 0)) h))) (hR (wI 1389 (35 + 3 * m) (nI b) (wI 1389 (34 + 3 * m) (nI (f 0)) h))) := W
  have i1 : (34 + 3 * nI (m + 1)) - 3 = nI (34 + 3 * m) := by
    rw [nM2, nA2, nS1 (by show 3 ≤ 34 + 3 * (m + 1); omega)]
    exact congrArg nI (by show 34 + 3 * (m + 1) - 3 = 34 + 3 * m; omega)
  have i2 : nI (34 + 3 * m) + 1 = nI (35 + 3 * m) := (nA1 _ _).trans (congrArg nI (by show 34 + 3 * m + 1 = 35 + 3 * m; omega))
  have i3 : nI (34 + 3 * m) + 2 = nI (36 + 3 * m) := (nA1 _ _).trans (congrArg nI (by show 34 + 3 * m + 2 = 36 + 3 * m; omega))
  simp (disch := first | assumption | ((repeat (first | with_reducible refine TKI ?_ | with_reducible refine TKL ?_)); assumption) | omega) only [X7_isKept_145, ↓btgI, ↓btpI, ↓btgL, ↓btpL, ↓btisO, tgI, tpI, tgL, tpL, tisO, ↓btg_57, tg_57, ↓btx_1389, tx_1389, ↓bts_1389, ts_1389, ↓btxl_1389, txl_1389, ↓btsl_1389, tsl_1389, ↓Option.bind_some, ↓b2_some, ↓bX_l, ↓bX_r, Option.bind_some, Option.bind_none, b2_some, bX_l, bX_r, nn_e, if_true, if_false, reduceCtorEq, ↓reduceIte, Nat.reduceEqDiff, Nat.reduceLT, Nat.reduceLeDiff, Nat.reduceSubDiff, Nat.reduceAdd, Nat.reduceMul, e33, e0, i1, i2, i3]
theorem T_isKept (W : TKK (hK h) (hR h)) (F : WFS s) (S : TSH h s) (N : TNOW h f) (G : WFN s f) {sd : Nat → Nat → Nat} (D : TSD h s f sd) (hsd : ∀ b k, b < z_nb s → sd b k < 1000) {b : Nat} (hb : b < z_nb s) : Ev (X7_isKept 1349 (nI b) h) (fun H => FT PD6 h H ∧ TNOW H (kp s sd f b)) := by
  have h4 := F.2.2.2.2.1
  have h6 := WFN_6 F G b hb
  obtain ⟨g1, g2, -, g3⟩ := G.2.1 b hb
  have hrd : ∀ k, sdf s f b k ≤ 26 := fun k => rd_lt F g2 _ _ (Nat.le_refl _)
  rw [X7_isKept, X7_isKept_7]
  refine ev_for (z_wl s (f (1 + 8 * b))) (fun k st => st.1 = bI (chg s sd f b k) ∧ st.2.1 = nI (sil s f b k) ∧ st.2.2.1 = nI k ∧ FT PD2 h st.2.2.2) ?_ ?_ 0 _ (Nat.zero_le _) ⟨rfl, rfl, rfl, FT.refl _ _⟩
  · rintro k ⟨x, y, z, H⟩ hk ⟨hx, hy, hz, F2⟩
    simp only at hx hy hz F2
    subst hx hy hz
    have W2 := F2.tk W
    have S2 := F2.tsh PD2_stn S
    have N2 : TNOW H f := N.fr (fun _ => F2.i (by unfold PD2; omega))
    simp (disch := first | assumption | ((repeat (first | with_reducible refine TKI ?_ | with_reducible refine TKL ?_)); assumption) | omega) only [X7_isKept_7b, ↓btgI, ↓btpI, ↓btgL, ↓btpL, ↓btisO, tgI, tpI, tgL, tpL, tisO, ↓btg_57, tg_57, ↓btx_1389, tx_1389, ↓bts_1389, ts_1389, ↓btxl_1389, txl_1389, ↓btsl_1389, tsl_1389, ↓btg_68, tg_68, ↓btx_1391, tx_1391, ↓bts_1391, ts_1391, ↓btxl_1391, txl_1391, ↓btsl_1391, tsl_1391, ↓Option.bind_some, ↓b2_some, ↓bX_l, ↓bX_r, Option.bind_some, Option.bind_none, b2_some, bX_l, bX_r, nn_e, if_true, if_false, reduceCtorEq, ↓reduceIte, Nat.reduceEqDiff, Nat.reduceLT, Nat.reduceLeDiff, Nat.reduceSubDiff, Nat.reduceAdd, Nat.reduceMul, nA1, nA2, nM1, nM2, n_add, n_mul, n_sub, nS1, nS2, nL0, nL1, nL2, nE0, nE1, nE2, nE3, bI_0, bI_1, bI_m, rz_b, rz_0, rz_1, T_wordOf W2 N2 (show b < 4 by omega), T_longOf W2 F S2 g1, T_handOf W2 N2 (show b < 4 by omega), T_glyphAt W2 N2 (show b < 4 by omega) (show k < 6 by omega), hk, Ev_b2]
    refine ev_mono (T_readAs W2 F S2 g2 (g3 k (by omega))) ?_
    rintro ⟨v, H4⟩ ⟨hv, F4⟩
    simp only at hv F4
    subst hv
    have W4 := F4.tk W2
    have F5 := F2.trans F4
    have d4 : hI H4 1391 (6 * b + k) = nI (sd b k) := by rw [F5.i (by unfold PD2; omega)]; exact D b k hb hk
    have hr : rd s (f (2 + 8 * b)) (f (3 + 8 * b + k)) = sdf s f b k := rfl
    have h26 := hrd k
    have h1000 := hsd b k hb
    have es : ∀ c : Bool, (if sdf s f b k = 0 then some (Sum.inl (bI c, nI (sil s f b k + 1), nI (k + 1), H4)) else some (Sum.inl (bI c, nI (sil s f b k), nI (k + 1), H4)) : Option ((Int32 × Int32 × Int32 × AH) ⊕ AH)) = some (Sum.inl (bI c, nI (sil s f b (k + 1)), nI (k + 1), H4)) := by
      intro c
      show _ = some (Sum.inl (bI c, nI (if sdf s f b k = 0 then sil s f b k + 1 else sil s f b k), nI (k + 1), H4))
      split <;> rfl
    have ec : chg s sd f b (k + 1) = (chg s sd f b k || !(sdf s f b k == sd b k)) := by
      unfold chg
      rw [alln, Bool.not_and]
    simp (disch := first | assumption | ((repeat (first | with_reducible refine TKI ?_ | with_reducible refine TKL ?_)); assumption) | omega) only [X7_isKept_65, X7_isKept_60, ↓btgI, ↓btpI, ↓btgL, ↓btpL, ↓btisO, tgI, tpI, tgL, tpL, tisO, ↓btg_57, tg_57, ↓btx_1389, tx_1389, ↓bts_1389, ts_1389, ↓btxl_1389, txl_1389, ↓btsl_1389, tsl_1389, ↓btg_68, tg_68, ↓btx_1391, tx_1391, ↓bts_1391, ts_1391, ↓btxl_1391, txl_1391, ↓btsl_1391, tsl_1391, ↓Option.bind_some, ↓b2_some, ↓bX_l, ↓bX_r, Option.bind_some, Option.bind_none, b2_some, bX_l, bX_r, nn_e, if_true, if_false, reduceCtorEq, ↓reduceIte, Nat.reduceEqDiff, Nat.reduceLT, Nat.reduceLeDiff, Nat.reduceSubDiff, Nat.reduceAdd, Nat.reduceMul, nA1, nA2, nM1, nM2, n_add, n_mul, n_sub, nS1, nS2, nL0, nL1, nL2, nE0, nE1, nE2, nE3, bI_0, bI_1, bI_m, rz_b, rz_0, rz_1, d4, hr]
    have b0 : (0 : Int32) = bI false := rfl
    have b1 : (1 : Int32) = bI true := rfl
    cases c0 : chg s sd f b k with
    | false =>
      rw [if_pos rfl]
      by_cases q : sdf s f b k = sd b k
      · rw [if_pos q, b0, es, Ev_some]
        refine ⟨?_, rfl, rfl, F5⟩
        rw [ec, c0, q]; simp
      · rw [if_neg q, b1, es, Ev_some]
        refine ⟨?_, rfl, rfl, F5⟩
        have q' : (sdf s f b k == sd b k) = false := by simpa using q
        rw [ec, c0, q']; rfl
    | true =>
      rw [if_neg (by decide), b1, es, Ev_some]
      refine ⟨?_, rfl, rfl, F5⟩
      rw [ec, c0]; rfl
  · rintro ⟨x, y, z, H⟩ ⟨hx, hy, hz, F2⟩
    simp only at hx hy hz F2
    subst hx hy hz
    have W2 := F2.tk W
    have S2 := F2.tsh PD2_stn S
    have N2 : TNOW H f := N.fr (fun _ => F2.i (by unfold PD2; omega))
    have F6 : FT PD6 h H := F2.mono (fun _ _ z => Or.inl z)
    have e33 : hI H 1389 33 = nI (f 33) := N2 33 (by decide)
    have h33 := G.2.2
    simp (disch := first | assumption | ((repeat (first | with_reducible refine TKI ?_ | with_reducible refine TKL ?_)); assumption) | omega) only [X7_isKept_7b, X7_isKept_80, X7_isKept_131, ↓btgI, ↓btpI, ↓btgL, ↓btpL, ↓btisO, tgI, tpI, tgL, tpL, tisO, ↓btg_57, tg_57, ↓btx_1389, tx_1389, ↓bts_1389, ts_1389, ↓btxl_1389, txl_1389, ↓btsl_1389, tsl_1389, ↓btg_68, tg_68, ↓btx_1391, tx_1391, ↓bts_1391, ts_1391, ↓btxl_1391, txl_1391, ↓btsl_1391, tsl_1391, ↓Option.bind_some, ↓b2_some, ↓bX_l, ↓bX_r, Option.bind_some, Option.bind_none, b2_some, bX_l, bX_r, nn_e, if_true, if_false, reduceCtorEq, ↓reduceIte, Nat.reduceEqDiff, Nat.reduceLT, Nat.reduceLeDiff, Nat.reduceSubDiff, Nat.reduceAdd, Nat.reduceMul, nA1, nA2, nM1, nM2, n_add, n_mul, n_sub, nS1, nS2, nL0, nL1, nL2, nE0, nE1, nE2, nE3, bI_0, bI_1, bI_m, rz_b, rz_0, rz_1, T_wordOf W2 N2 (show b < 4 by omega), T_longOf W2 F S2 g1, Nat.lt_irrefl, e33]
    unfold kp
    cases c0 : chg s sd f b (z_wl s (f (1 + 8 * b))) with
    | false =>
      rw [if_pos rfl, Option.bind_some, Ev_some, if_neg (by decide)]
      exact ⟨F6, N2⟩
    | true =>
      rw [if_neg (by decide), if_pos rfl]
      generalize hsl : sil s f b (z_wl s (f (1 + 8 * b))) = sl
      by_cases q : f 33 = 40
      · rw [if_pos q, psh, if_pos q]
        have key : Ev (X7_isKept_101 1349 (nI b) (nI sl) 34 H) (fun H' => FT PD6 h H' ∧ TNOW H' (fun i => if i = 153 then sl else if i = 152 then b else if i = 151 then f 0 else if 34 ≤ i ∧ i < 151 then f (i + 3) else f i)) := by
          rw [X7_isKept_101]
          refine ev_for 151 (fun j st => st.1 = nI j ∧ 34 ≤ j ∧ FT PD6 h st.2 ∧ TNOW st.2 (fun i => if 34 ≤ i ∧ i < j then f (i + 3) else f i)) ?_ ?_ 34 _ (by decide) ⟨rfl, Nat.le_refl _, F6, N2.congr (fun k _ => by (try simp only); rw [if_neg (by omega)])⟩
          · rintro j ⟨x, H3⟩ hj ⟨hx, hj2, F3, N3⟩
            simp only at hx F3 N3
            subst hx
            have W3 := F3.tk W
            have e3 : hI H3 1389 (j + 3) = nI (f (j + 3)) := by rw [N3 _ (by omega)]; (try simp only); rw [if_neg (by omega)]
            simp (disch := first | assumption | ((repeat (first | with_reducible refine TKI ?_ | with_reducible refine TKL ?_)); assumption) | omega) only [X7_isKept_101b, ↓btgI, ↓btpI, ↓btgL, ↓btpL, ↓btisO, tgI, tpI, tgL, tpL, tisO, ↓btg_57, tg_57, ↓btx_1389, tx_1389, ↓bts_1389, ts_1389, ↓btxl_1389, txl_1389, ↓btsl_1389, tsl_1389, ↓btg_68, tg_68, ↓btx_1391, tx_1391, ↓bts_1391, ts_1391, ↓btxl_1391, txl_1391, ↓btsl_1391, tsl_1391, ↓Option.bind_some, ↓b2_some, ↓bX_l, ↓bX_r, Option.bind_some, Option.bind_none, b2_some, bX_l, bX_r, nn_e, if_true, if_false, reduceCtorEq, ↓reduceIte, Nat.reduceEqDiff, Nat.reduceLT, Nat.reduceLeDiff, Nat.reduceSubDiff, Nat.reduceAdd, Nat.reduceMul, nA1, nA2, nM1, nM2, n_add, n_mul, n_sub, nS1, nS2, nL0, nL1, nL2, nE0, nE1, nE2, nE3, bI_0, bI_1, bI_m, rz_b, rz_0, rz_1, hj, e3, Ev_some]
            refine ⟨by trivial, by omega, F3.wI (Or.inr rfl), (N3.up j (f (j + 3))).congr (fun k hk => ?_)⟩
            try simp only
            by_cases q1 : k = j
            · subst q1; rw [if_pos rfl, if_pos (by omega)]
            · rw [if_neg q1]
              by_cases q2 : 34 ≤ k ∧ k < j
              · rw [if_pos q2, if_pos (by omega)]
              · rw [if_neg q2, if_neg (by omega)]
          · rintro ⟨x, H3⟩ ⟨hx, hj2, F3, N3⟩
            simp only at hx F3 N3
            subst hx
            have W3 := F3.tk W
            have t := T_kept145 W3 N3 (m := 39) (by (try simp only); rw [if_neg (by omega)]; exact q) (by decide) b sl
            simp (disch := first | assumption | ((repeat (first | with_reducible refine TKI ?_ | with_reducible refine TKL ?_)); assumption) | omega) only [X7_isKept_101b, X7_isKept_131, ↓Option.bind_some, ↓b2_some, ↓bX_l, ↓bX_r, Option.bind_some, Option.bind_none, b2_some, bX_l, bX_r, nn_e, if_true, if_false, reduceCtorEq, ↓reduceIte, Nat.reduceEqDiff, Nat.reduceLT, Nat.reduceLeDiff, Nat.reduceSubDiff, Nat.reduceAdd, Nat.reduceMul, nA1, nA2, nM1, nM2, n_add, n_mul, n_sub, nS1, nS2, nL0, nL1, nL2, nE0, nE1, nE2, nE3, bI_0, bI_1, bI_m, rz_b, rz_0, rz_1, Nat.lt_irrefl, t, Ev_some]
            refine ⟨((F3.wI (Or.inr rfl)).wI (Or.inr rfl)).wI (Or.inr rfl), (((N3.up _ _).up _ _).up _ _).congr (fun k hk => ?_)⟩
            try simp only [Nat.reduceMul, Nat.reduceAdd]
            simp only [false_and, if_false]
        obtain ⟨H', e1, e2⟩ := key
        rw [e1, Option.bind_some, Ev_some]
        exact e2
      · rw [if_neg q, psh, if_neg q]
        have N3 := N2.up 33 (f 33 + 1)
        have W3 : TKK (hK (wI 1389 33 (nI (f 33 + 1)) H)) (hR (wI 1389 33 (nI (f 33 + 1)) H)) := W2
        have t := T_kept145 W3 N3 (m := f 33) (by simp) (by omega) b sl
        rw [t, Option.bind_some, Ev_some]
        refine ⟨(((F6.wI (Or.inr rfl)).wI (Or.inr rfl)).wI (Or.inr rfl)).wI (Or.inr rfl), (((N3.up _ _).up _ _).up _ _).congr (fun k hk => ?_)⟩
        try simp only
        rw [if_neg (show ¬ 0 = 33 by omega)]
end Said
