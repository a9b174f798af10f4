set_option maxRecDepth 100000
/-! ===== years, on rows ===== -/
def pr (s : SH) (f : RW) (b k : Nat) : RW := fun i => if 3 ≤ i ∧ ((i - 3) / 8 < b ∨ ((i - 3) / 8 = b ∧ (i - 3) % 8 < k)) ∧ (i - 3) % 8 < z_wl s (f (1 + 8 * ((i - 3) / 8))) ∧ (i - 3) / 8 < z_nb s then rn s (f i) ((i - 3) % 8) (f 0) else f i
/-- rain on all boards -/
def rnR (s : SH) (f : RW) : RW := pr s f (z_nb s) 0
theorem pr_00 (s : SH) (f : RW) : pr s f 0 0 = f := by
  funext i
  unfold pr
  rw [if_neg (by omega)]
theorem pr_k {s : SH} {f : RW} {b k : Nat} (hb : b < z_nb s) (hk : k < z_wl s (f (1 + 8 * b))) (h6 : z_wl s (f (1 + 8 * b)) ≤ 6) : pr s f b (k + 1) = fun x => if x = 3 + 8 * b + k then rn s (f (3 + 8 * b + k)) k (f 0) else pr s f b k x := by
  funext i
  by_cases q : i = 3 + 8 * b + k
  · subst q
    have e1 : (3 + 8 * b + k - 3) / 8 = b := by omega
    have e2 : (3 + 8 * b + k - 3) % 8 = k := by omega
    unfold pr
    rw [e1, e2, if_pos ⟨by omega, by omega, hk, hb⟩, if_pos rfl]
  · rw [if_neg q]
    unfold pr
    by_cases c : 3 ≤ i ∧ ((i - 3) / 8 < b ∨ ((i - 3) / 8 = b ∧ (i - 3) % 8 < k)) ∧ (i - 3) % 8 < z_wl s (f (1 + 8 * ((i - 3) / 8))) ∧ (i - 3) / 8 < z_nb s
    · rw [if_pos c, if_pos ⟨c.1, by omega, c.2.2⟩]
    · rw [if_neg c, if_neg (fun z => c ⟨z.1, by omega, z.2.2⟩)]
theorem pr_b {s : SH} {f : RW} {b : Nat} : pr s f b (z_wl s (f (1 + 8 * b))) = pr s f (b + 1) 0 := by
  funext i
  unfold pr
  by_cases q : (i - 3) / 8 = b
  · rw [q]
    by_cases c : 3 ≤ i ∧ (i - 3) % 8 < z_wl s (f (1 + 8 * b)) ∧ b < z_nb s
    · rw [if_pos ⟨c.1, by omega, c.2⟩, if_pos ⟨c.1, by omega, c.2⟩]
    · rw [if_neg (fun z => c ⟨z.1, z.2.2⟩), if_neg (fun z => c ⟨z.1, z.2.2⟩)]
  · by_cases c : 3 ≤ i ∧ (i - 3) / 8 < b ∧ (i - 3) % 8 < z_wl s (f (1 + 8 * ((i - 3) / 8))) ∧ (i - 3) / 8 < z_nb s
    · rw [if_pos ⟨c.1, by omega, c.2.2⟩, if_pos ⟨c.1, by omega, c.2.2⟩]
    · rw [if_neg (fun z => c ⟨z.1, by omega, z.2.2⟩), if_neg (fun z => c ⟨z.1, by omega, z.2.2⟩)]
/-- what is no glyph stays -/
theorem pr_ng {s : SH} {f : RW} {b k i : Nat} (h6 : ∀ b, b < z_nb s → z_wl s (f (1 + 8 * b)) ≤ 6) (h4 : z_nb s ≤ 4) (hi : i < 3 ∨ 33 ≤ i ∨ 6 ≤ (i - 3) % 8) : pr s f b k i = f i := by
  unfold pr
  rw [if_neg]
  rintro ⟨c1, c2, c3, c4⟩
  have := h6 _ c4
  omega
theorem pr_gl {s : SH} {f : RW} {b k i : Nat} (h : f i < 32768) : pr s f b k i < 32768 := by
  unfold pr
  split
  · exact rn_lt h 15
  · exact h
/-- a glyph not yet come to -/
theorem pr_at {s : SH} {f : RW} {b k : Nat} : pr s f b k (3 + 8 * b + k) = f (3 + 8 * b + k) ∨ 8 ≤ k := by
  rcases Nat.lt_or_ge k 8 with q | q
  · left
    unfold pr
    rw [if_neg (by omega)]
  · exact Or.inr q
def dl (s : SH) (f : RW) (b k : Nat) : Nat := pcN (f (3 + 8 * b + k)) - pcN (rn s (f (3 + 8 * b + k)) k (f 0))
def sB (s : SH) (f : RW) (b : Nat) : Nat := itr (fun k a => a + dl s f b k) (z_wl s (f (1 + 8 * b))) 0
/-- how many strokes rain takes of all boards -/
def lc (s : SH) (f : RW) : Nat := itr (fun b a => a + sB s f b) (z_nb s) 0
theorem itr_acc (d : Nat → Nat) : ∀ (n a : Nat), itr (fun k x => x + d k) n a = a + itr (fun k x => x + d k) n 0
  | 0, a => rfl
  | n + 1, a => by rw [itr, itr, itr_acc d n a]; omega
theorem WFN_up {s : SH} {f g : RW} (H : WFN s f) (h0 : g 0 ≤ 999) (hw : ∀ b, b < z_nb s → g (1 + 8 * b) = f (1 + 8 * b) ∧ g (2 + 8 * b) = f (2 + 8 * b)) (hg : ∀ b k, b < z_nb s → k < 6 → g (3 + 8 * b + k) < 32768) (h33 : g 33 ≤ 40) : WFN s g := by
  refine ⟨h0, fun b hb => ?_, h33⟩
  obtain ⟨a1, a2, a3, -⟩ := H.2.1 b hb
  rw [(hw b hb).1, (hw b hb).2]
  exact ⟨a1, a2, a3, fun k hk => hg b k hb hk⟩
theorem WFN_6 {s : SH} (F : WFS s) {f : RW} (H : WFN s f) : ∀ b, b < z_nb s → z_wl s (f (1 + 8 * b)) ≤ 6 := fun b hb => (F.2.2.2.1 _ (H.2.1 b hb).1).2.1
theorem WFN_rn {s : SH} (F : WFS s) {f : RW} (H : WFN s f) (b k : Nat) : WFN s (pr s f b k) := by
  have h6 := WFN_6 F H
  have h4 := F.2.2.2.2.1
  refine WFN_up H ?_ (fun b' hb => ⟨?_, ?_⟩) (fun b' k' hb hk => pr_gl ((H.2.1 b' hb).2.2.2 k' hk)) ?_
  · rw [pr_ng h6 h4 (by omega)]; exact H.1
  · exact pr_ng h6 h4 (by omega)
  · exact pr_ng h6 h4 (by omega)
  · rw [pr_ng h6 h4 (by omega)]; exact H.2.2
/-- where rain writes -/
def PD4 (a k : Nat) : Prop := PD3 a k ∨ (a = 1349 ∧ k = 67) ∨ a = 1389
theorem PD4_stn : ∀ a k, Stn a k → ¬ PD4 a k := by intro a k h; unfold Stn at h; unfold PD4 PD3; omega
section Years
variable {h : AH} {s : SH} {f : RW}
theorem T_wordOf (W : TKK (hK h) (hR h)) (N : TNOW h f) {b : Nat} (hb : b < 4) : X7_wordOf 1349 (nI b) h = some (nI (f (1 + 8 * b)), h) := by
  simp (disch := first | assumption | ((repeat (first | with_reducible refine TKI ?_ | with_reducible refine TKL ?_)); assumption) | omega) only [X7_wordOf, ↓btgI, ↓btpI, ↓btgL, ↓btpL, ↓btisO, tgI, tpI, tgL, tpL, tisO, ↓btg_57, tg_57, ↓btx_1389, tx_1389, ↓bts_1389, ts_1389, ↓btxl_1389, txl_1389, ↓btsl_1389, tsl_1389, ↓Option.bind_some, ↓b2_some, ↓bX_l, ↓bX_r, Option.bind_some, Option.bind_none, b2_some, bX_l, bX_r, nn_e, if_true, if_false, reduceCtorEq, ↓reduceIte, Nat.reduceEqDiff, Nat.reduceLT, Nat.reduceLeDiff, Nat.reduceSubDiff, Nat.reduceAdd, Nat.reduceMul, nA1, nA2, nM1, nM2, n_add, n_mul, n_sub, nS1, nS2, nL0, nL1, nL2, nE0, nE1, nE2, nE3, bI_0, bI_1, bI_m, rz_b, rz_0, rz_1]
  rw [N _ (by omega)]
theorem T_handOf (W : TKK (hK h) (hR h)) (N : TNOW h f) {b : Nat} (hb : b < 4) : X7_handOf 1349 (nI b) h = some (nI (f (2 + 8 * b)), h) := by
  simp (disch := first | assumption | ((repeat (first | with_reducible refine TKI ?_ | with_reducible refine TKL ?_)); assumption) | omega) only [X7_handOf, ↓btgI, ↓btpI, ↓btgL, ↓btpL, ↓btisO, tgI, tpI, tgL, tpL, tisO, ↓btg_57, tg_57, ↓btx_1389, tx_1389, ↓bts_1389, ts_1389, ↓btxl_1389, txl_1389, ↓btsl_1389, tsl_1389, ↓Option.bind_some, ↓b2_some, ↓bX_l, ↓bX_r, Option.bind_some, Option.bind_none, b2_some, bX_l, bX_r, nn_e, if_true, if_false, reduceCtorEq, ↓reduceIte, Nat.reduceEqDiff, Nat.reduceLT, Nat.reduceLeDiff, Nat.reduceSubDiff, Nat.reduceAdd, Nat.reduceMul, nA1, nA2, nM1, nM2, n_add, n_mul, n_sub, nS1, nS2, nL0, nL1, nL2, nE0, nE1, nE2, nE3, bI_0, bI_1, bI_m, rz_b, rz_0, rz_1]
  rw [N _ (by omega)]
theorem T_glyphAt (W : TKK (hK h) (hR h)) (N : TNOW h f) {b k : Nat} (hb : b < 4) (hk : k < 6) : X7_glyphAt 1349 (nI b) (nI k) h = some (nI (f (3 + 8 * b + k)), h) := by
  simp (disch := first | assumption | ((repeat (first | with_reducible refine TKI ?_ | with_reducible refine TKL ?_)); assumption) | omega) only [X7_glyphAt, ↓btgI, ↓btpI, ↓btgL, ↓btpL, ↓btisO, tgI, tpI, tgL, tpL, tisO, ↓btg_57, tg_57, ↓btx_1389, tx_1389, ↓bts_1389, ts_1389, ↓btxl_1389, txl_1389, ↓btsl_1389, tsl_1389, ↓Option.bind_some, ↓b2_some, ↓bX_l, ↓bX_r, Option.bind_some, Option.bind_none, b2_some, bX_l, bX_r, nn_e, if_true, if_false, reduceCtorEq, ↓reduceIte, Nat.reduceEqDiff, Nat.reduceLT, Nat.reduceLeDiff, Nat.reduceSubDiff, Nat.reduceAdd, Nat.reduceMul, nA1, nA2, nM1, nM2, n_add, n_mul, n_sub, nS1, nS2, nL0, nL1, nL2, nE0, nE1, nE2, nE3, bI_0, bI_1, bI_m, rz_b, rz_0, rz_1]
  rw [N _ (by omega)]
theorem T_rains_bits (W : TKK (hK h) (hR h)) (F : WFS s) (S : TSH h s) {L : List Nat} (hL : z_rc s = some L) (N : TNOW h f) (hy : f 0 ≤ 999) {b k g : Nat} (hb : b < 4) (hk : k < 6) (hg : g < 32768) :
    Ev (X7_rains_49 1349 (nI b) (nI k) (nI g) (nI g) 0 h) (fun z => ∃ H, z = .inl (nI (k + 1), wI 1389 (3 + 8 * b + k) (nI (rn s g k (f 0))) (wI 1349 67 (hI h 1349 67 + nI (pcN g - pcN (rn s g k (f 0)))) H)) ∧ FT PD3 h H) := by
  rw [X7_rains_49]
  refine ev_for 15 (fun j st => st.1 = nI (itr (rn1 s g k (f 0)) j g) ∧ st.2.1 = nI j ∧ FT PD3 h st.2.2) ?_ ?_ 0 _ (by decide) ⟨rfl, rfl, FT.refl _ _⟩
  · rintro j ⟨x, y, H⟩ hj ⟨hx, hy2, F2⟩
    simp only at hx hy2 F2
    subst hx hy2
    have W2 := F2.tk W
    have S2 := F2.tsh PD3_stn S
    have N2 : TNOW H f := N.fr (fun _ => F2.i (by unfold PD3; omega))
    simp (disch := first | assumption | ((repeat (first | with_reducible refine TKI ?_ | with_reducible refine TKL ?_)); assumption) | omega) only [X7_rains_49b, nA1, nA2, nM1, nM2, n_add, n_mul, n_sub, nS1, nS2, nL0, nL1, nL2, nE0, nE1, nE2, nE3, bI_0, bI_1, bI_m, rz_b, rz_0, rz_1, hj, if_true, jbit hg hj]
    rcases bN_01 g j with e | e
    · rw [e, if_neg (by decide), Ev_some]
      refine ⟨?_, rfl, F2⟩
      rw [itr, rn1, if_neg (by rw [e]; omega)]
    · rw [e, if_pos (show nI 1 = (1 : Int32) from rfl), tisO W2, Option.bind_some, Ev_b2]
      refine ev_mono (T_isLost W2 F S2 hL N2 hy hg hj hk) ?_
      rintro ⟨v, H3⟩ ⟨hv, F3⟩
      simp only at hv F3
      subst hv
      simp only [bI_0]
      cases el : lost s g k (f 0) j with
      | false =>
        rw [if_pos rfl, Ev_some]
        refine ⟨?_, rfl, F2.trans F3⟩
        rw [itr, rn1, if_neg (by rw [el]; simp)]
      | true =>
        rw [if_neg (by decide), Ev_some]
        refine ⟨?_, rfl, F2.trans F3⟩
        rw [itr, rn1, if_pos ⟨e, el⟩]
        exact n_clr hj
  · rintro ⟨x, y, H⟩ ⟨hx, hy2, F2⟩
    simp only at hx hy2 F2
    subst hx hy2
    have W2 := F2.tk W
    have hr : itr (rn1 s g k (f 0)) 15 g < 32768 := rn_lt hg 15
    have hp : pcN (rn s g k (f 0)) ≤ pcN g := by have := rn_pc s g k (f 0); omega
    have e67 : hI H 1349 67 = hI h 1349 67 := F2.i (by unfold PD3; omega)
    have w2 : TKK (hK (wI 1349 67 (hI h 1349 67 + nI (pcN g - pcN (rn s g k (f 0)))) H)) (hR (wI 1349 67 (hI h 1349 67 + nI (pcN g - pcN (rn s g k (f 0)))) H)) := W2
    have hs : nI (pcN g) - nI (pcN (itr (rn1 s g k (f 0)) 15 g)) = nI (pcN g - pcN (rn s g k (f 0))) := n_sub hp
    simp (disch := first | assumption | ((repeat (first | with_reducible refine TKI ?_ | with_reducible refine TKL ?_)); assumption) | omega) only [X7_rains_49b, X7_rains_94, ↓btgI, ↓btpI, ↓btgL, ↓btpL, ↓btisO, tgI, tpI, tgL, tpL, tisO, ↓btg_57, tg_57, ↓btx_1389, tx_1389, ↓bts_1389, ts_1389, ↓btxl_1389, txl_1389, ↓btsl_1389, tsl_1389, ↓Option.bind_some, ↓b2_some, ↓bX_l, ↓bX_r, Option.bind_some, Option.bind_none, b2_some, bX_l, bX_r, nn_e, if_true, if_false, reduceCtorEq, ↓reduceIte, Nat.reduceEqDiff, Nat.reduceLT, Nat.reduceLeDiff, Nat.reduceSubDiff, Nat.reduceAdd, Nat.reduceMul, nL1, nA1, nA2, nM2, n_add, Nat.lt_irrefl, T_bits hg, T_bits hr, e67, hs, Ev_some]
    exact ⟨H, rfl, F2⟩
theorem T_rains (W : TKK (hK h) (hR h)) (F : WFS s) (S : TSH h s) (N : TNOW h f) (G : WFN s f) : Ev (X7_rains 1349 h) (fun H => FT PD4 h H ∧ TNOW H (rnR s f) ∧ hI H 1349 67 = hI h 1349 67 + nI (lc s f)) := by
  have h4 := F.2.2.2.2.1
  have h6 := WFN_6 F G
  have rc := S.2.2.2.2.2.2.2.2
  simp (disch := first | assumption | ((repeat (first | with_reducible refine TKI ?_ | with_reducible refine TKL ?_)); assumption) | omega) only [X7_rains, ↓btgI, ↓btpI, ↓btgL, ↓btpL, ↓btisO, tgI, tpI, tgL, tpL, tisO, ↓btg_51, tg_51, ↓btx_1386, tx_1386, ↓bts_1386, ts_1386, ↓btxl_1386, txl_1386, ↓btsl_1386, tsl_1386, ↓Option.bind_some, ↓b2_some, ↓bX_l, ↓bX_r, Option.bind_some, Option.bind_none, b2_some, bX_l, bX_r, nn_e, if_true, if_false, reduceCtorEq, ↓reduceIte, Nat.reduceEqDiff, Nat.reduceLT, Nat.reduceLeDiff, Nat.reduceSubDiff, Nat.reduceAdd, Nat.reduceMul]
  cases hz : z_rc s with
  | none =>
    rw [hz] at rc
    simp only [TCD] at rc
    rw [rc, if_pos rfl, Ev_some]
    have er : rnR s f = f := by
      funext i
      unfold rnR pr
      rw [rn_none hz]
      split <;> rfl
    have el : lc s f = 0 := by
      have hd : ∀ b k, dl s f b k = 0 := fun b k => by unfold dl; rw [rn_none hz]; omega
      have hs : ∀ (n : Nat) (d : Nat → Nat), (∀ k, d k = 0) → itr (fun k a => a + d k) n 0 = 0 := by
        intro n d hd
        induction n with
        | zero => rfl
        | succ n ih => rw [itr, ih, hd]
      unfold lc
      exact hs _ _ (fun b => hs _ _ (hd b))
    rw [er, el]
    refine ⟨FT.refl _ _, N, ?_⟩
    rw [show nI 0 = (0 : Int32) from rfl, Int32.add_zero]
  | some L =>
    rw [hz] at rc
    obtain ⟨fr, d1, -, d3, -⟩ := rc
    rw [d1, if_neg (by rw [nE2 (by omega)]; exact fun x => x)]
    rw [X7_rains_13]
    refine ev_for (z_nb s) (fun b st => st.1 = nI b ∧ FT PD4 h st.2 ∧ TNOW st.2 (pr s f b 0) ∧ hI st.2 1349 67 = hI h 1349 67 + nI (itr (fun b a => a + sB s f b) b 0)) ?_ ?_ 0 _ (Nat.zero_le _) ⟨rfl, FT.refl _ _, by rw [pr_00]; exact N, by rw [itr, show nI 0 = (0 : Int32) from rfl, Int32.add_zero]⟩
    · rintro b ⟨x, H⟩ hb ⟨hx, F2, N2, e67⟩
      simp only at hx F2 N2 e67
      subst hx
      have W2 := F2.tk W
      have S2 := F2.tsh PD4_stn S
      have hw := G.2.1 b hb
      have hl := h6 b hb
      simp (disch := first | assumption | ((repeat (first | with_reducible refine TKI ?_ | with_reducible refine TKL ?_)); assumption) | omega) only [X7_rains_13b, ↓btgI, ↓btpI, ↓btgL, ↓btpL, ↓btisO, tgI, tpI, tgL, tpL, tisO, ↓btg_51, tg_51, ↓btx_1386, tx_1386, ↓bts_1386, ts_1386, ↓btxl_1386, txl_1386, ↓btsl_1386, tsl_1386, ↓Option.bind_some, ↓b2_some, ↓bX_l, ↓bX_r, Option.bind_some, Option.bind_none, b2_some, bX_l, bX_r, nn_e, if_true, if_false, reduceCtorEq, ↓reduceIte, Nat.reduceEqDiff, Nat.reduceLT, Nat.reduceLeDiff, Nat.reduceSubDiff, Nat.reduceAdd, Nat.reduceMul, nA1, nA2, nM1, nM2, n_add, n_mul, n_sub, nS1, nS2, nL0, nL1, nL2, nE0, nE1, nE2, nE3, bI_0, bI_1, bI_m, rz_b, rz_0, rz_1, T_boardMany W2 S2, hb]
      rw [X7_rains_23]
      refine ev_for (z_wl s (f (1 + 8 * b))) (fun k st => st.1 = nI k ∧ FT PD4 h st.2 ∧ TNOW st.2 (pr s f b k) ∧ hI st.2 1349 67 = hI h 1349 67 + nI (itr (fun b a => a + sB s f b) b 0 + itr (fun k a => a + dl s f b k) k 0)) ?_ ?_ 0 _ (Nat.zero_le _) ⟨rfl, F2, N2, by rw [e67]; rfl⟩
      · rintro k ⟨x, H3⟩ hk ⟨hx, F3, N3, e3⟩
        simp only at hx F3 N3 e3
        subst hx
        have W3 := F3.tk W
        have S3 := F3.tsh PD4_stn S
        have ew : pr s f b k (1 + 8 * b) = f (1 + 8 * b) := pr_ng h6 h4 (by omega)
        have e0 : pr s f b k 0 = f 0 := pr_ng h6 h4 (by omega)
        have eg : pr s f b k (3 + 8 * b + k) = f (3 + 8 * b + k) := pr_at.resolve_right (by omega)
        have hg := hw.2.2.2 k (by omega)
        have t1 := T_wordOf W3 N3 (show b < 4 by omega)
        have t2 := T_glyphAt W3 N3 (show b < 4 by omega) (show k < 6 by omega)
        rw [ew] at t1
        rw [eg] at t2
        have t3 := T_longOf W3 F S3 hw.1
        simp (disch := first | assumption | ((repeat (first | with_reducible refine TKI ?_ | with_reducible refine TKL ?_)); assumption) | omega) only [X7_rains_23b, ↓btgI, ↓btpI, ↓btgL, ↓btpL, ↓btisO, tgI, tpI, tgL, tpL, tisO, ↓btg_51, tg_51, ↓btx_1386, tx_1386, ↓bts_1386, ts_1386, ↓btxl_1386, txl_1386, ↓btsl_1386, tsl_1386, ↓Option.bind_some, ↓b2_some, ↓bX_l, ↓bX_r, Option.bind_some, Option.bind_none, b2_some, bX_l, bX_r, nn_e, if_true, if_false, reduceCtorEq, ↓reduceIte, Nat.reduceEqDiff, Nat.reduceLT, Nat.reduceLeDiff, Nat.reduceSubDiff, Nat.reduceAdd, Nat.reduceMul, nA1, nA2, nM1, nM2, n_add, n_mul, n_sub, nS1, nS2, nL0, nL1, nL2, nE0, nE1, nE2, nE3, bI_0, bI_1, bI_m, rz_b, rz_0, rz_1, t1, t2, t3, hk]
        refine ev_mono (T_rains_bits W3 F S3 hz N3 (by rw [e0]; exact G.1) (show b < 4 by omega) (show k < 6 by omega) hg) ?_
        rintro _ ⟨H4, rfl, F4⟩
        rw [e0]
        have F5 : FT PD4 H3 H4 := F4.mono (fun a k z => Or.inl z)
        have N4 : TNOW H4 (pr s f b k) := N3.fr (fun _ => F4.i (by unfold PD3; omega))
        refine ⟨rfl, ((F3.trans F5).wI (by unfold PD4; omega)).wI (by unfold PD4; omega), ?_, ?_⟩
        · rw [pr_k hb hk hl]
          exact (N4.fr (h' := wI 1349 67 (hI H3 1349 67 + nI (pcN (f (3 + 8 * b + k)) - pcN (rn s (f (3 + 8 * b + k)) k (f 0)))) H4) (fun _ => rfl)).up _ _
        · show hI H3 1349 67 + nI (pcN (f (3 + 8 * b + k)) - pcN (rn s (f (3 + 8 * b + k)) k (f 0))) = _
          rw [e3, Int32.add_assoc, n_add, itr]
          congr 2
          show _ = _ + (_ + dl s f b k)
          unfold dl
          omega
      · rintro ⟨x, H3⟩ ⟨hx, F3, N3, e3⟩
        simp only at hx F3 N3 e3
        subst hx
        have W3 := F3.tk W
        have S3 := F3.tsh PD4_stn S
        have ew : pr s f b (z_wl s (f (1 + 8 * b))) (1 + 8 * b) = f (1 + 8 * b) := pr_ng h6 h4 (by omega)
        have t1 := T_wordOf W3 N3 (show b < 4 by omega)
        rw [ew] at t1
        have t3 := T_longOf W3 F S3 hw.1
        simp (disch := first | assumption | ((repeat (first | with_reducible refine TKI ?_ | with_reducible refine TKL ?_)); assumption) | omega) only [X7_rains_23b, ↓btgI, ↓btpI, ↓btgL, ↓btpL, ↓btisO, tgI, tpI, tgL, tpL, tisO, ↓btg_51, tg_51, ↓btx_1386, tx_1386, ↓bts_1386, ts_1386, ↓btxl_1386, txl_1386, ↓btsl_1386, tsl_1386, ↓Option.bind_some, ↓b2_some, ↓bX_l, ↓bX_r, Option.bind_some, Option.bind_none, b2_some, bX_l, bX_r, nn_e, if_true, if_false, reduceCtorEq, ↓reduceIte, Nat.reduceEqDiff, Nat.reduceLT, Nat.reduceLeDiff, Nat.reduceSubDiff, Nat.reduceAdd, Nat.reduceMul, nA1, nA2, nM1, nM2, n_add, n_mul, n_sub, nS1, nS2, nL0, nL1, nL2, nE0, nE1, nE2, nE3, bI_0, bI_1, bI_m, rz_b, rz_0, rz_1, t1, t3, Nat.lt_irrefl, Ev_some]
        refine ⟨by trivial, F3, ?_, ?_⟩
        · rw [← pr_b]; exact N3
        · rw [e3, itr]; rfl
    · rintro ⟨x, H⟩ ⟨hx, F2, N2, e67⟩
      simp only at hx F2 N2 e67
      subst hx
      have W2 := F2.tk W
      have S2 := F2.tsh PD4_stn S
      simp (disch := first | assumption | ((repeat (first | with_reducible refine TKI ?_ | with_reducible refine TKL ?_)); assumption) | omega) only [X7_rains_13b, ↓btgI, ↓btpI, ↓btgL, ↓btpL, ↓btisO, tgI, tpI, tgL, tpL, tisO, ↓btg_51, tg_51, ↓btx_1386, tx_1386, ↓bts_1386, ts_1386, ↓btxl_1386, txl_1386, ↓btsl_1386, tsl_1386, ↓Option.bind_some, ↓b2_some, ↓bX_l, ↓bX_r, Option.bind_some, Option.bind_none, b2_some, bX_l, bX_r, nn_e, if_true, if_false, reduceCtorEq, ↓reduceIte, Nat.reduceEqDiff, Nat.reduceLT, Nat.reduceLeDiff, Nat.reduceSubDiff, Nat.reduceAdd, Nat.reduceMul, nA1, nA2, nM1, nM2, n_add, n_mul, n_sub, nS1, nS2, nL0, nL1, nL2, nE0, nE1, nE2, nE3, bI_0, bI_1, bI_m, rz_b, rz_0, rz_1, T_boardMany W2 S2, Nat.lt_irrefl, Ev_some]
      exact ⟨F2, N2, e67⟩
end Years
