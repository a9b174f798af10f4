set_option maxRecDepth 100000
/-! ===== lines on the twin ===== -/
def enB (b : Option (Nat × Nat × Nat)) : Int32 := match b with
  | none => -1
  | some p => nI p.1
/-- at K stands the least so far -/
def RB (H : AH) (K : Nat) (b : Option (Nat × Nat × Nat)) : Prop := hI H 1395 K = enB b ∧ ∀ p, b = some p → hI H 1393 K = nI p.2.1 ∧ hI H 1394 K = nI p.2.2
/-- where a place of the table is reckoned -/
def PDL (K a k : Nat) : Prop := PD2 a k ∨ ((a = 1393 ∨ a = 1394 ∨ a = 1395) ∧ k = K)
theorem PDL_stn {K : Nat} : ∀ a k, Stn a k → ¬ PDL K a k := by intro a k h; unfold Stn at h; unfold PDL PD2; omega
section Line
variable {h : AH} {s : SH}
theorem T_oneAt (W : TKK (hK h) (hR h)) (F : WFS s) (S : TSH h s) {w hd i : Nat} (h1 : w < z_nw s) (h2 : hd < 2) (hc : cp s w hd = true) (hi : i < 100) : X7_oneAt 1349 (nI w) (nI hd) (nI i) h = some (if i < z_wl s w then nI (lp s hd (z_wc s w i)) else -1, h) := by
  obtain ⟨w1, w2, w3, -⟩ := F.2.2.2.1 w h1
  have qn := F.1 hd h2
  simp (disch := first | assumption | ((repeat (first | with_reducible refine TKI ?_ | with_reducible refine TKL ?_)); assumption) | omega) only [X7_oneAt, ↓btgI, ↓btpI, ↓btgL, ↓btpL, ↓btisO, tgI, tpI, tgL, tpL, tisO, ↓Option.bind_some, ↓b2_some, ↓bX_l, ↓bX_r, Option.bind_some, Option.bind_none, b2_some, bX_l, bX_r, nn_e, if_true, if_false, reduceCtorEq, ↓reduceIte, Nat.reduceEqDiff, Nat.reduceLT, Nat.reduceLeDiff, Nat.reduceSubDiff, Nat.reduceAdd, Nat.reduceMul, nA1, nA2, nM1, nM2, n_add, n_mul, n_sub, nS1, nS2, nL0, nL1, nL2, nE0, nE1, nE2, nE3, bI_0, bI_1, bI_m, rz_b, rz_0, rz_1, ↓b2_of (T_longOf W F S h1)]
  by_cases q : i < z_wl s w
  · have c1 := w3 i q
    have t := T_letterAt W F S h2 (show z_wc s w i < 1000 by omega)
    rw [(la_in ((cp_iff qn).mp hc i q)).2.2] at t
    rw [if_pos q, if_pos q, b2_of (T_letterOf W F S h1 q)]
    simp (disch := first | assumption | ((repeat (first | with_reducible refine TKI ?_ | with_reducible refine TKL ?_)); assumption) | omega) only [↓btgI, ↓btpI, ↓btgL, ↓btpL, ↓btisO, tgI, tpI, tgL, tpL, tisO, ↓Option.bind_some, ↓b2_some, ↓bX_l, ↓bX_r, Option.bind_some, Option.bind_none, b2_some, bX_l, bX_r, nn_e, if_true, if_false, reduceCtorEq, ↓reduceIte, Nat.reduceEqDiff, Nat.reduceLT, Nat.reduceLeDiff, Nat.reduceSubDiff, Nat.reduceAdd, Nat.reduceMul, ↓b2_of t]
  · rw [if_neg q, if_neg q]
theorem T_otherAt (W : TKK (hK h) (hR h)) (F : WFS s) (S : TSH h s) {w hd j : Nat} (h1 : w < z_nw s) (h2 : hd < 2) (hc : cp s w hd = true) (hj : j < 100) : X7_otherAt 1349 (nI w) (nI hd) (nI j) h = some (if j < z_wl s w then nI (lp s hd (z_wc s w (z_wl s w - 1 - j))) else -1, h) := by
  obtain ⟨w1, w2, w3, -⟩ := F.2.2.2.1 w h1
  have qn := F.1 hd h2
  simp (disch := first | assumption | ((repeat (first | with_reducible refine TKI ?_ | with_reducible refine TKL ?_)); assumption) | omega) only [X7_otherAt, ↓btgI, ↓btpI, ↓btgL, ↓btpL, ↓btisO, tgI, tpI, tgL, tpL, tisO, ↓Option.bind_some, ↓b2_some, ↓bX_l, ↓bX_r, Option.bind_some, Option.bind_none, b2_some, bX_l, bX_r, nn_e, if_true, if_false, reduceCtorEq, ↓reduceIte, Nat.reduceEqDiff, Nat.reduceLT, Nat.reduceLeDiff, Nat.reduceSubDiff, Nat.reduceAdd, Nat.reduceMul, nA1, nA2, nM1, nM2, n_add, n_mul, n_sub, nS1, nS2, nL0, nL1, nL2, nE0, nE1, nE2, nE3, bI_0, bI_1, bI_m, rz_b, rz_0, rz_1, ↓b2_of (T_longOf W F S h1)]
  by_cases q : j < z_wl s w
  · have q2 : z_wl s w - 1 - j < z_wl s w := by omega
    have c1 := w3 _ q2
    have t := T_letterAt W F S h2 (show z_wc s w (z_wl s w - 1 - j) < 1000 by omega)
    rw [(la_in ((cp_iff qn).mp hc _ q2)).2.2] at t
    rw [if_pos q, if_pos q]
    simp (disch := first | assumption | ((repeat (first | with_reducible refine TKI ?_ | with_reducible refine TKL ?_)); assumption) | omega) only [↓btgI, ↓btpI, ↓btgL, ↓btpL, ↓btisO, tgI, tpI, tgL, tpL, tisO, ↓Option.bind_some, ↓b2_some, ↓bX_l, ↓bX_r, Option.bind_some, Option.bind_none, b2_some, bX_l, bX_r, nn_e, if_true, if_false, reduceCtorEq, ↓reduceIte, Nat.reduceEqDiff, Nat.reduceLT, Nat.reduceLeDiff, Nat.reduceSubDiff, Nat.reduceAdd, Nat.reduceMul, nA1, nA2, nM1, nM2, n_add, n_mul, n_sub, nS1, nS2, nL0, nL1, nL2, nE0, nE1, nE2, nE3, bI_0, bI_1, bI_m, rz_b, rz_0, rz_1, ↓b2_of (T_letterOf W F S h1 q2), ↓b2_of t]
  · rw [if_neg q, if_neg q]
theorem T_glyphBy (k a t : Nat) (hk : k < 6) (H : AH) : X7_glyphBy (nI k) (nI a) (nI t) H = some (nI (if k < 4 then chs k a t else if k = 4 then a else t), H) := by
  rcases (by omega : k = 0 ∨ k = 1 ∨ k = 2 ∨ k = 3 ∨ k = 4 ∨ k = 5) with rfl | rfl | rfl | rfl | rfl | rfl
  all_goals (simp (disch := first | assumption | ((repeat (first | with_reducible refine TKI ?_ | with_reducible refine TKL ?_)); assumption) | omega) only [X7_glyphBy, X7_glyphBy_48, ↓Option.bind_some, ↓b2_some, ↓bX_l, ↓bX_r, Option.bind_some, Option.bind_none, b2_some, bX_l, bX_r, nn_e, if_true, if_false, reduceCtorEq, ↓reduceIte, Nat.reduceEqDiff, Nat.reduceLT, Nat.reduceLeDiff, Nat.reduceSubDiff, Nat.reduceAdd, Nat.reduceMul, nA1, nA2, nM1, nM2, n_add, n_mul, n_sub, nS1, nS2, nL0, nL1, nL2, nE0, nE1, nE2, nE3, bI_0, bI_1, bI_m, rz_b, rz_0, rz_1, n_or, n_and, chs])
theorem T_bothDoubt (W : TKK (hK h) (hR h)) (F : WFS s) (S : TSH h s) {hd x y g : Nat} (h1 : hd < 2) (h2 : x < z_nl s hd) (h3 : y < z_nl s hd) (hg : g < 32768) :
    Ev (X7_bothDoubt 1349 (nI hd) (nI x) (nI y) (nI g) h) (fun z => z.1 = (if dbt s hd x g ≤ z_fg s ∧ dbt s hd y (tN 1 g) ≤ z_fg s then nI (dbt s hd x g + dbt s hd y (tN 1 g)) else -1) ∧ FT PD2 h z.2) := by
  obtain ⟨f1, f2, -⟩ := F.2.2.2.2.2.1
  have b1 := dbt_le F hd x g
  have b2 := dbt_le F hd y (tN 1 g)
  rw [X7_bothDoubt, tisO W, Option.bind_some, Ev_b2]
  refine ev_mono (T_doubtOf W F S h1 h2 hg) ?_
  rintro ⟨v, H1⟩ ⟨hv, F1⟩
  simp only at hv F1
  subst hv
  have W1 := F1.tk W
  have S1 := F1.tsh PD2_stn S
  simp only
  rw [show X7_seenBy (nI g) 1 H1 = X7_seenBy (nI g) (nI 1) H1 from rfl, b2_of (T_seenN (by decide) g), tisO W1, Option.bind_some, Ev_b2]
  refine ev_mono (T_doubtOf W1 F S1 h1 h3 (tN_n 1 g).2) ?_
  rintro ⟨v, H2⟩ ⟨hv, F2⟩
  simp only at hv F2
  subst hv
  have W2 := F2.tk W1
  have S2 := F2.tsh PD2_stn S1
  have e3 : hI H2 1385 3 = nI (z_fg s) := S2.2.2.2.2.2.2.1.1
  simp (disch := first | assumption | ((repeat (first | with_reducible refine TKI ?_ | with_reducible refine TKL ?_)); assumption) | omega) only [↓btgI, ↓btpI, ↓btgL, ↓btpL, ↓btisO, tgI, tpI, tgL, tpL, tisO, ↓btg_50, tg_50, ↓btx_1385, tx_1385, ↓bts_1385, ts_1385, ↓btxl_1385, txl_1385, ↓btsl_1385, tsl_1385, ↓Option.bind_some, ↓b2_some, ↓bX_l, ↓bX_r, Option.bind_some, Option.bind_none, b2_some, bX_l, bX_r, nn_e, if_true, if_false, reduceCtorEq, ↓reduceIte, Nat.reduceEqDiff, Nat.reduceLT, Nat.reduceLeDiff, Nat.reduceSubDiff, Nat.reduceAdd, Nat.reduceMul, nA1, nA2, nM1, nM2, n_add, n_mul, n_sub, nS1, nS2, nL0, nL1, nL2, nE0, nE1, nE2, nE3, bI_0, bI_1, bI_m, rz_b, rz_0, rz_1, e3]
  by_cases q1 : z_fg s < dbt s hd x g
  · rw [if_pos q1, if_neg (by omega), Ev_some]; exact ⟨rfl, F1.trans F2⟩
  · rw [if_neg q1]
    by_cases q2 : z_fg s < dbt s hd y (tN 1 g)
    · rw [if_pos q2, if_neg (by omega), Ev_some]; exact ⟨rfl, F1.trans F2⟩
    · rw [if_neg q2, if_pos (by omega), Ev_some]; exact ⟨rfl, F1.trans F2⟩
/-- one candidate is weighed -/
theorem T_weigh (W : TKK (hK h) (hR h)) {K to m g d1 n1 n : Nat} (hK : K < 49) (hto : to < 49) (hm : m < 6) (hg : g < 32768) (e1 : hI h 1393 to = nI d1) (e2 : hI h 1394 to = nI n1) (l1 : d1 ≤ 3000) (l2 : n1 ≤ 300) (l3 : n ≤ 300)
    {b : Option (Nat × Nat × Nat)} (B : RB h K b) (hb : ∀ p, b = some p → p.1 < 6 ∧ p.2.1 ≤ 5000 ∧ p.2.2 ≤ 500) (u3 u7 u8 u9 u10 : Int32) :
    ∃ H, X7_linePuts_197 1349 u3 (nI K) u7 u8 u9 u10 (nI m) (nI g) (nI n) (nI to) h = some (.inl (nI (m + 1), H)) ∧ FT (PDL K) h H ∧ RB H K (bst1 b m (some (n + d1, pcN g + n1))) := by
  have pl := pcN_le g
  obtain ⟨B1, B2⟩ := B
  have wr : ∀ (d k : Nat), RB (wI 1394 K (nI k) (wI 1393 K (nI d) (wI 1395 K (nI m) h))) K (some (m, d, k)) := by
    intro d k
    refine ⟨?_, ?_⟩
    · rw [p_II, p_II, p_II, if_neg (by omega), if_neg (by omega), if_pos ⟨rfl, rfl⟩]; rfl
    · intro p hp
      cases hp
      refine ⟨?_, ?_⟩
      · rw [p_II, p_II, if_neg (by omega), if_pos ⟨rfl, rfl⟩]
      · rw [p_II, if_pos ⟨rfl, rfl⟩]
  have wf : ∀ (d k : Nat), FT (PDL K) h (wI 1394 K (nI k) (wI 1393 K (nI d) (wI 1395 K (nI m) h))) := fun d k => (((FT.refl _ _).wI (Or.inr ⟨by omega, rfl⟩)).wI (Or.inr ⟨by omega, rfl⟩)).wI (Or.inr ⟨by omega, rfl⟩)
  cases b with
  | none =>
    have B1' : hI h 1395 K = -1 := B1
    refine ⟨_, ?_, wf (n + d1) (pcN g + n1), wr _ _⟩
    simp (disch := first | assumption | ((repeat (first | with_reducible refine TKI ?_ | with_reducible refine TKL ?_)); assumption) | omega) only [X7_linePuts_197, X7_linePuts_276, ↓btgI, ↓btpI, ↓btgL, ↓btpL, ↓btisO, tgI, tpI, tgL, tpL, tisO, ↓btg_70, tg_70, ↓btx_1393, tx_1393, ↓bts_1393, ts_1393, ↓btxl_1393, txl_1393, ↓btsl_1393, tsl_1393, ↓btg_71, tg_71, ↓btx_1394, tx_1394, ↓bts_1394, ts_1394, ↓btxl_1394, txl_1394, ↓btsl_1394, tsl_1394, ↓btg_72, tg_72, ↓btx_1395, tx_1395, ↓bts_1395, ts_1395, ↓btxl_1395, txl_1395, ↓btsl_1395, tsl_1395, ↓Option.bind_some, ↓b2_some, ↓bX_l, ↓bX_r, Option.bind_some, Option.bind_none, b2_some, bX_l, bX_r, nn_e, if_true, if_false, reduceCtorEq, ↓reduceIte, Nat.reduceEqDiff, Nat.reduceLT, Nat.reduceLeDiff, Nat.reduceSubDiff, Nat.reduceAdd, Nat.reduceMul, nA1, nA2, nM1, nM2, n_add, n_mul, n_sub, nS1, nS2, nL0, nL1, nL2, nE0, nE1, nE2, nE3, bI_0, bI_1, bI_m, rz_b, rz_0, rz_1, e1, e2, ↓b2_of (T_bits hg h), B1']
  | some p =>
    obtain ⟨k0, d0, n0⟩ := p
    obtain ⟨l4, l5, l6⟩ := hb _ rfl
    obtain ⟨c1, c2⟩ := B2 _ rfl
    simp only at l4 l5 l6 c1 c2
    have B1' : hI h 1395 K = nI k0 := B1
    have keep : RB h K (some (k0, d0, n0)) := ⟨B1, B2⟩
    simp only [bst1]
    by_cases q1 : d0 < n + d1
    · rw [if_neg (by omega)]
      refine ⟨h, ?_, FT.refl _ _, keep⟩
      simp (disch := first | assumption | ((repeat (first | with_reducible refine TKI ?_ | with_reducible refine TKL ?_)); assumption) | omega) only [X7_linePuts_197, X7_linePuts_276, ↓btgI, ↓btpI, ↓btgL, ↓btpL, ↓btisO, tgI, tpI, tgL, tpL, tisO, ↓btg_70, tg_70, ↓btx_1393, tx_1393, ↓bts_1393, ts_1393, ↓btxl_1393, txl_1393, ↓btsl_1393, tsl_1393, ↓btg_71, tg_71, ↓btx_1394, tx_1394, ↓bts_1394, ts_1394, ↓btxl_1394, txl_1394, ↓btsl_1394, tsl_1394, ↓btg_72, tg_72, ↓btx_1395, tx_1395, ↓bts_1395, ts_1395, ↓btxl_1395, txl_1395, ↓btsl_1395, tsl_1395, ↓Option.bind_some, ↓b2_some, ↓bX_l, ↓bX_r, Option.bind_some, Option.bind_none, b2_some, bX_l, bX_r, nn_e, if_true, if_false, reduceCtorEq, ↓reduceIte, Nat.reduceEqDiff, Nat.reduceLT, Nat.reduceLeDiff, Nat.reduceSubDiff, Nat.reduceAdd, Nat.reduceMul, nA1, nA2, nM1, nM2, n_add, n_mul, n_sub, nS1, nS2, nL0, nL1, nL2, nE0, nE1, nE2, nE3, bI_0, bI_1, bI_m, rz_b, rz_0, rz_1, e1, e2, ↓b2_of (T_bits hg h), B1', c1, q1]
    · by_cases q2 : n + d1 = d0
      · by_cases q3 : pcN g + n1 < n0
        · rw [if_pos (by omega)]
          refine ⟨_, ?_, wf (n + d1) (pcN g + n1), wr _ _⟩
          simp (disch := first | assumption | ((repeat (first | with_reducible refine TKI ?_ | with_reducible refine TKL ?_)); assumption) | omega) only [X7_linePuts_197, X7_linePuts_276, ↓btgI, ↓btpI, ↓btgL, ↓btpL, ↓btisO, tgI, tpI, tgL, tpL, tisO, ↓btg_70, tg_70, ↓btx_1393, tx_1393, ↓bts_1393, ts_1393, ↓btxl_1393, txl_1393, ↓btsl_1393, tsl_1393, ↓btg_71, tg_71, ↓btx_1394, tx_1394, ↓bts_1394, ts_1394, ↓btxl_1394, txl_1394, ↓btsl_1394, tsl_1394, ↓btg_72, tg_72, ↓btx_1395, tx_1395, ↓bts_1395, ts_1395, ↓btxl_1395, txl_1395, ↓btsl_1395, tsl_1395, ↓Option.bind_some, ↓b2_some, ↓bX_l, ↓bX_r, Option.bind_some, Option.bind_none, b2_some, bX_l, bX_r, nn_e, if_true, if_false, reduceCtorEq, ↓reduceIte, Nat.reduceEqDiff, Nat.reduceLT, Nat.reduceLeDiff, Nat.reduceSubDiff, Nat.reduceAdd, Nat.reduceMul, nA1, nA2, nM1, nM2, n_add, n_mul, n_sub, nS1, nS2, nL0, nL1, nL2, nE0, nE1, nE2, nE3, bI_0, bI_1, bI_m, rz_b, rz_0, rz_1, e1, e2, ↓b2_of (T_bits hg h), B1', c1, c2, q1, q2, q3, Nat.lt_irrefl]
        · rw [if_neg (by omega)]
          refine ⟨h, ?_, FT.refl _ _, keep⟩
          simp (disch := first | assumption | ((repeat (first | with_reducible refine TKI ?_ | with_reducible refine TKL ?_)); assumption) | omega) only [X7_linePuts_197, X7_linePuts_276, ↓btgI, ↓btpI, ↓btgL, ↓btpL, ↓btisO, tgI, tpI, tgL, tpL, tisO, ↓btg_70, tg_70, ↓btx_1393, tx_1393, ↓bts_1393, ts_1393, ↓btxl_1393, txl_1393, ↓btsl_1393, tsl_1393, ↓btg_71, tg_71, ↓btx_1394, tx_1394, ↓bts_1394, ts_1394, ↓btxl_1394, txl_1394, ↓btsl_1394, tsl_1394, ↓btg_72, tg_72, ↓btx_1395, tx_1395, ↓bts_1395, ts_1395, ↓btxl_1395, txl_1395, ↓btsl_1395, tsl_1395, ↓Option.bind_some, ↓b2_some, ↓bX_l, ↓bX_r, Option.bind_some, Option.bind_none, b2_some, bX_l, bX_r, nn_e, if_true, if_false, reduceCtorEq, ↓reduceIte, Nat.reduceEqDiff, Nat.reduceLT, Nat.reduceLeDiff, Nat.reduceSubDiff, Nat.reduceAdd, Nat.reduceMul, nA1, nA2, nM1, nM2, n_add, n_mul, n_sub, nS1, nS2, nL0, nL1, nL2, nE0, nE1, nE2, nE3, bI_0, bI_1, bI_m, rz_b, rz_0, rz_1, e1, e2, ↓b2_of (T_bits hg h), B1', c1, c2, q1, q2, q3, Nat.lt_irrefl]
      · rw [if_pos (by omega)]
        refine ⟨_, ?_, wf (n + d1) (pcN g + n1), wr _ _⟩
        simp (disch := first | assumption | ((repeat (first | with_reducible refine TKI ?_ | with_reducible refine TKL ?_)); assumption) | omega) only [X7_linePuts_197, X7_linePuts_276, ↓btgI, ↓btpI, ↓btgL, ↓btpL, ↓btisO, tgI, tpI, tgL, tpL, tisO, ↓btg_70, tg_70, ↓btx_1393, tx_1393, ↓bts_1393, ts_1393, ↓btxl_1393, txl_1393, ↓btsl_1393, tsl_1393, ↓btg_71, tg_71, ↓btx_1394, tx_1394, ↓bts_1394, ts_1394, ↓btxl_1394, txl_1394, ↓btsl_1394, tsl_1394, ↓btg_72, tg_72, ↓btx_1395, tx_1395, ↓bts_1395, ts_1395, ↓btxl_1395, txl_1395, ↓btsl_1395, tsl_1395, ↓Option.bind_some, ↓b2_some, ↓bX_l, ↓bX_r, Option.bind_some, Option.bind_none, b2_some, bX_l, bX_r, nn_e, if_true, if_false, reduceCtorEq, ↓reduceIte, Nat.reduceEqDiff, Nat.reduceLT, Nat.reduceLeDiff, Nat.reduceSubDiff, Nat.reduceAdd, Nat.reduceMul, nA1, nA2, nM1, nM2, n_add, n_mul, n_sub, nS1, nS2, nL0, nL1, nL2, nE0, nE1, nE2, nE3, bI_0, bI_1, bI_m, rz_b, rz_0, rz_1, e1, e2, ↓b2_of (T_bits hg h), B1', c1, c2, q1, q2]
theorem T_linePuts70 (W : TKK (hK h) (hR h)) (F : WFS s) (S : TSH h s) {one oth hd i j : Nat} (h1 : one < z_nw s) (h2 : oth < z_nw s) (h3 : hd < 2) (c1 : cp s one hd = true) (c2 : cp s oth hd = true) (hi : i ≤ z_wl s one) (hj : j ≤ z_wl s oth)
    (a1 : i < z_wl s one → j < z_wl s oth → hI h 1393 (7 * i + j + 8) = nI (lq s one oth hd (i + 1) (j + 1)).1 ∧ hI h 1394 (7 * i + j + 8) = nI (lq s one oth hd (i + 1) (j + 1)).2)
    (a2 : i < z_wl s one → hI h 1393 (7 * i + j + 7) = nI (lq s one oth hd (i + 1) j).1 ∧ hI h 1394 (7 * i + j + 7) = nI (lq s one oth hd (i + 1) j).2)
    (a3 : j < z_wl s oth → hI h 1393 (7 * i + j + 1) = nI (lq s one oth hd i (j + 1)).1 ∧ hI h 1394 (7 * i + j + 1) = nI (lq s one oth hd i (j + 1)).2)
    {A T : Nat} (hA : i < z_wl s one → A = lA s one hd i) (hT : j < z_wl s oth → T = lB s oth hd j) (gA : A < 32768) (gT : T < 32768) :
    Ev (X7_linePuts_70 1349 (nI hd) (nI (7 * i + j)) (if i < z_wl s one then nI (lp s hd (z_wc s one i)) else -1) (if j < z_wl s oth then nI (lp s hd (z_wc s oth (z_wl s oth - 1 - j))) else -1) (nI A) (nI T) h) (fun H => FT (PDL (7 * i + j)) h H ∧ RB H (7 * i + j) (lb s one oth hd i j)) := by
  obtain ⟨w1, w2, w3, -⟩ := F.2.2.2.1 one h1
  obtain ⟨v1, v2, v3, -⟩ := F.2.2.2.1 oth h2
  have qn := F.1 hd h3
  obtain ⟨f1, f2, -⟩ := F.2.2.2.2.2.1
  have hK : 7 * i + j < 49 := by omega
  generalize hKK : 7 * i + j = K at *
  have lq1 := lq_le F one oth hd (i + 1) (j + 1)
  have lq2 := lq_le F one oth hd (i + 1) j
  have lq3 := lq_le F one oth hd i (j + 1)
  simp (disch := first | assumption | ((repeat (first | with_reducible refine TKI ?_ | with_reducible refine TKL ?_)); assumption) | omega) only [X7_linePuts_70, ↓btgI, ↓btpI, ↓btgL, ↓btpL, ↓btisO, tgI, tpI, tgL, tpL, tisO, ↓btg_50, tg_50, ↓btx_1385, tx_1385, ↓bts_1385, ts_1385, ↓btxl_1385, txl_1385, ↓btsl_1385, tsl_1385, ↓btg_72, tg_72, ↓btx_1395, tx_1395, ↓bts_1395, ts_1395, ↓btxl_1395, txl_1395, ↓btsl_1395, tsl_1395, ↓Option.bind_some, ↓b2_some, ↓bX_l, ↓bX_r, Option.bind_some, Option.bind_none, b2_some, bX_l, bX_r, nn_e, if_true, if_false, reduceCtorEq, ↓reduceIte, Nat.reduceEqDiff, Nat.reduceLT, Nat.reduceLeDiff, Nat.reduceSubDiff, Nat.reduceAdd, Nat.reduceMul]
  rw [X7_linePuts_83]
  refine ev_for 6 (fun m st => st.1 = nI m ∧ FT (PDL K) h st.2 ∧ RB st.2 K (bst s one oth hd i j (lq s one oth hd) m)) ?_ ?_ 0 _ (by decide) ⟨rfl, (FT.refl _ _).wI (Or.inr ⟨by omega, rfl⟩), by rw [p_II, if_pos ⟨rfl, rfl⟩]; rfl, fun p hp => by cases hp⟩
  · rintro m ⟨x, H⟩ hm ⟨hx, F2, B2⟩
    simp only at hx F2 B2
    subst hx
    have W2 := F2.tk W
    have S2 := F2.tsh PDL_stn S
    have hbl := fun p hp => lb_le F (one := one) (oth := oth) (hd := hd) (i := i) (j := j) (p := p) m hp
    have hbl' : ∀ p, bst s one oth hd i j (lq s one oth hd) m = some p → p.1 < 6 ∧ p.2.1 ≤ 5000 ∧ p.2.2 ≤ 500 := fun p hp => by have := hbl p hp; omega
    have same : cand s one oth hd i j (lq s one oth hd) m = none → RB H K (bst s one oth hd i j (lq s one oth hd) (m + 1)) := by
      intro e
      show RB H K (bst1 (bst s one oth hd i j (lq s one oth hd) m) m (cand s one oth hd i j (lq s one oth hd) m))
      rw [e]
      exact B2
    have e4 : hI H 1385 4 = nI (z_bk s) := S2.2.2.2.2.2.2.1.2.1
    have far : ∀ a k, a = 1393 ∨ a = 1394 → k ≠ K → hI H a k = hI h a k := fun a k q1 q2 => F2.i (by unfold PDL PD2; omega)
    by_cases m4 : m < 4
    · by_cases qi : i < z_wl s one
      · by_cases qj : j < z_wl s oth
        · have li := la_in ((cp_iff qn).mp c1 i qi)
          have lj := la_in ((cp_iff qn).mp c2 (z_wl s oth - 1 - j) (by omega))
          have gg : chs m A T < 32768 := chs_lt gA gT
          have n1 : (nI (lp s hd (z_wc s one i)) = -1) = False := nE2 (by omega)
          have n2 : (nI (lp s hd (z_wc s oth (z_wl s oth - 1 - j))) = -1) = False := nE2 (by omega)
          have tg := T_glyphBy m A T hm H
          rw [if_pos m4] at tg
          have m5 : ¬ m = 5 := by omega
          have m6 : ¬ m = 4 := by omega
          simp (disch := first | assumption | ((repeat (first | with_reducible refine TKI ?_ | with_reducible refine TKL ?_)); assumption) | omega) only [X7_linePuts_83b, X7_linePuts_102, X7_linePuts_117, ↓Option.bind_some, ↓b2_some, ↓bX_l, ↓bX_r, Option.bind_some, Option.bind_none, b2_some, bX_l, bX_r, nn_e, if_true, if_false, reduceCtorEq, ↓reduceIte, Nat.reduceEqDiff, Nat.reduceLT, Nat.reduceLeDiff, Nat.reduceSubDiff, Nat.reduceAdd, Nat.reduceMul, nA1, nA2, nM1, nM2, n_add, n_mul, n_sub, nS1, nS2, nL0, nL1, nL2, nE0, nE1, nE2, nE3, bI_0, bI_1, bI_m, rz_b, rz_0, rz_1, hm, m4, m5, m6, qi, qj, n1, n2, ↓b2_of tg, btisO, Ev_b2]
          refine ev_mono (T_bothDoubt W2 F S2 h3 li.1 lj.1 gg) ?_
          rintro ⟨v, H3⟩ ⟨hv, F3⟩
          simp only at hv F3
          subst hv
          have W3 := F3.tk W2
          have B3 : RB H3 K (bst s one oth hd i j (lq s one oth hd) m) := by
            refine ⟨(F3.i (by unfold PD2; omega)).trans B2.1, fun p hp => ?_⟩
            rw [F3.i (by unfold PD2; omega), F3.i (by unfold PD2; omega)]
            exact B2.2 p hp
          have F4 : FT (PDL K) h H3 := F2.trans (F3.mono (fun a k z => Or.inl z))
          have eb : bth s one oth hd i j m = if dbt s hd (lp s hd (z_wc s one i)) (chs m A T) ≤ z_fg s ∧ dbt s hd (lp s hd (z_wc s oth (z_wl s oth - 1 - j))) (tN 1 (chs m A T)) ≤ z_fg s then some (dbt s hd (lp s hd (z_wc s one i)) (chs m A T) + dbt s hd (lp s hd (z_wc s oth (z_wl s oth - 1 - j))) (tN 1 (chs m A T))) else none := by
            rw [hA qi, hT qj]; rfl
          have ec : cand s one oth hd i j (lq s one oth hd) m = match bth s one oth hd i j m with
              | none => none
              | some n => some (n + (lq s one oth hd (i + 1) (j + 1)).1, pcN (chs m A T) + (lq s one oth hd (i + 1) (j + 1)).2) := by
            rw [hA qi, hT qj]
            unfold cand
            rw [if_pos m4, if_pos ⟨qi, qj⟩]
            cases bth s one oth hd i j m <;> rfl
          by_cases qb : dbt s hd (lp s hd (z_wc s one i)) (chs m A T) ≤ z_fg s ∧ dbt s hd (lp s hd (z_wc s oth (z_wl s oth - 1 - j))) (tN 1 (chs m A T)) ≤ z_fg s
          · rw [if_pos qb] at eb
            rw [eb] at ec
            simp only at ec
            rw [if_pos qb]
            generalize hN : dbt s hd (lp s hd (z_wc s one i)) (chs m A T) + dbt s hd (lp s hd (z_wc s oth (z_wl s oth - 1 - j))) (tN 1 (chs m A T)) = nn0 at *
            have nle : nn0 ≤ 198 := by omega
            have n3 : (nI nn0 = -1) = False := nE2 (by omega)
            have a1' := a1 qi qj
            obtain ⟨H5, w5, F5, B5⟩ := T_weigh W3 (K := K) (to := K + 8) (m := m) (g := chs m A T) (n := nn0) hK (by omega) hm gg (by rw [F3.i (by unfold PD2; omega), far _ _ (by omega) (by omega)]; exact a1'.1) (by rw [F3.i (by unfold PD2; omega), far _ _ (by omega) (by omega)]; exact a1'.2) (by omega) (by omega) (by omega) B3 hbl' (nI hd) (nI (lp s hd (z_wc s one i))) (nI (lp s hd (z_wc s oth (z_wl s oth - 1 - j)))) (nI A) (nI T)
            simp (disch := first | assumption | ((repeat (first | with_reducible refine TKI ?_ | with_reducible refine TKL ?_)); assumption) | omega) only [X7_linePuts_154, ↓Option.bind_some, ↓b2_some, ↓bX_l, ↓bX_r, Option.bind_some, Option.bind_none, b2_some, bX_l, bX_r, nn_e, if_true, if_false, reduceCtorEq, ↓reduceIte, Nat.reduceEqDiff, Nat.reduceLT, Nat.reduceLeDiff, Nat.reduceSubDiff, Nat.reduceAdd, Nat.reduceMul, nA1, nA2, nM1, nM2, n_add, n_mul, n_sub, nS1, nS2, nL0, nL1, nL2, nE0, nE1, nE2, nE3, bI_0, bI_1, bI_m, rz_b, rz_0, rz_1, n3, m4, w5]
            rw [Ev_some]
            refine ⟨rfl, F4.trans F5, ?_⟩
            show RB H5 K (bst1 (bst s one oth hd i j (lq s one oth hd) m) m (cand s one oth hd i j (lq s one oth hd) m))
            rw [ec]
            exact B5
          · rw [if_neg qb] at eb
            rw [eb] at ec
            simp only at ec
            rw [if_neg qb]
            simp (disch := first | assumption | ((repeat (first | with_reducible refine TKI ?_ | with_reducible refine TKL ?_)); assumption) | omega) only [X7_linePuts_154, ↓Option.bind_some, ↓b2_some, ↓bX_l, ↓bX_r, Option.bind_some, Option.bind_none, b2_some, bX_l, bX_r, nn_e, if_true, if_false, reduceCtorEq, ↓reduceIte, Nat.reduceEqDiff, Nat.reduceLT, Nat.reduceLeDiff, Nat.reduceSubDiff, Nat.reduceAdd, Nat.reduceMul, nA1, nA2, nM1, nM2, n_add, n_mul, n_sub, nS1, nS2, nL0, nL1, nL2, nE0, nE1, nE2, nE3, bI_0, bI_1, bI_m, rz_b, rz_0, rz_1, Ev_some]
            refine ⟨by trivial, F4, ?_⟩
            show RB H3 K (bst1 (bst s one oth hd i j (lq s one oth hd) m) m (cand s one oth hd i j (lq s one oth hd) m))
            rw [ec]
            exact B3
        · have m5 : ¬ m = 5 := by omega
          have m6 : ¬ m = 4 := by omega
          have n1 : (nI (lp s hd (z_wc s one i)) = -1) = False := nE2 (by have := (la_in ((cp_iff qn).mp c1 i qi)).1; omega)
          simp (disch := first | assumption | ((repeat (first | with_reducible refine TKI ?_ | with_reducible refine TKL ?_)); assumption) | omega) only [X7_linePuts_83b, X7_linePuts_102, ↓Option.bind_some, ↓b2_some, ↓bX_l, ↓bX_r, Option.bind_some, Option.bind_none, b2_some, bX_l, bX_r, nn_e, if_true, if_false, reduceCtorEq, ↓reduceIte, Nat.reduceEqDiff, Nat.reduceLT, Nat.reduceLeDiff, Nat.reduceSubDiff, Nat.reduceAdd, Nat.reduceMul, nA1, nA2, nM1, nM2, n_add, n_mul, n_sub, nS1, nS2, nL0, nL1, nL2, nE0, nE1, nE2, nE3, bI_0, bI_1, bI_m, rz_b, rz_0, rz_1, hm, m5, m6, qi, qj, n1, Ev_some]
          exact ⟨by trivial, F2, same (by unfold cand; rw [if_pos m4, if_neg (by omega)])⟩
      · have m5 : ¬ m = 5 := by omega
        simp (disch := first | assumption | ((repeat (first | with_reducible refine TKI ?_ | with_reducible refine TKL ?_)); assumption) | omega) only [X7_linePuts_83b, ↓Option.bind_some, ↓b2_some, ↓bX_l, ↓bX_r, Option.bind_some, Option.bind_none, b2_some, bX_l, bX_r, nn_e, if_true, if_false, reduceCtorEq, ↓reduceIte, Nat.reduceEqDiff, Nat.reduceLT, Nat.reduceLeDiff, Nat.reduceSubDiff, Nat.reduceAdd, Nat.reduceMul, nA1, nA2, nM1, nM2, n_add, n_mul, n_sub, nS1, nS2, nL0, nL1, nL2, nE0, nE1, nE2, nE3, bI_0, bI_1, bI_m, rz_b, rz_0, rz_1, hm, m5, qi, Ev_some]
        exact ⟨by trivial, F2, same (by unfold cand; rw [if_pos m4, if_neg (by omega)])⟩
    · have tg := T_glyphBy m A T hm H
      have n4 : (nI (z_bk s) = -1) = False := nE2 (by omega)
      rcases (by omega : m = 4 ∨ m = 5) with rfl | rfl
      · by_cases qi : i < z_wl s one
        · have n1 : (nI (lp s hd (z_wc s one i)) = -1) = False := nE2 (by have := (la_in ((cp_iff qn).mp c1 i qi)).1; omega)
          rw [if_neg m4, if_pos rfl] at tg
          have a2' := a2 qi
          obtain ⟨H5, w5, F5, B5⟩ := T_weigh W2 (K := K) (to := K + 7) (m := 4) (g := A) (n := z_bk s) hK (by omega) hm gA (by rw [far _ _ (by omega) (by omega)]; exact a2'.1) (by rw [far _ _ (by omega) (by omega)]; exact a2'.2) (by omega) (by omega) (by omega) B2 hbl' (nI hd) (nI (lp s hd (z_wc s one i))) (if j < z_wl s oth then nI (lp s hd (z_wc s oth (z_wl s oth - 1 - j))) else -1) (nI A) (nI T)
          simp (disch := first | assumption | ((repeat (first | with_reducible refine TKI ?_ | with_reducible refine TKL ?_)); assumption) | omega) only [X7_linePuts_83b, X7_linePuts_102, X7_linePuts_117, X7_linePuts_154, ↓btgI, ↓btpI, ↓btgL, ↓btpL, ↓btisO, tgI, tpI, tgL, tpL, tisO, ↓btg_50, tg_50, ↓btx_1385, tx_1385, ↓bts_1385, ts_1385, ↓btxl_1385, txl_1385, ↓btsl_1385, tsl_1385, ↓btg_72, tg_72, ↓btx_1395, tx_1395, ↓bts_1395, ts_1395, ↓btxl_1395, txl_1395, ↓btsl_1395, tsl_1395, ↓Option.bind_some, ↓b2_some, ↓bX_l, ↓bX_r, Option.bind_some, Option.bind_none, b2_some, bX_l, bX_r, nn_e, if_true, if_false, reduceCtorEq, ↓reduceIte, Nat.reduceEqDiff, Nat.reduceLT, Nat.reduceLeDiff, Nat.reduceSubDiff, Nat.reduceAdd, Nat.reduceMul, nA1, nA2, nM1, nM2, n_add, n_mul, n_sub, nS1, nS2, nL0, nL1, nL2, nE0, nE1, nE2, nE3, bI_0, bI_1, bI_m, rz_b, rz_0, rz_1, qi, n1, n4, ↓b2_of tg, e4, w5]
          rw [Ev_some]
          refine ⟨rfl, F2.trans F5, ?_⟩
          show RB H5 K (bst1 (bst s one oth hd i j (lq s one oth hd) 4) 4 (cand s one oth hd i j (lq s one oth hd) 4))
          rw [show cand s one oth hd i j (lq s one oth hd) 4 = some (z_bk s + (lq s one oth hd (i + 1) j).1, pcN A + (lq s one oth hd (i + 1) j).2) by rw [hA qi]; unfold cand; rw [if_neg m4, if_pos rfl, if_pos qi]]
          exact B5
        · simp (disch := first | assumption | ((repeat (first | with_reducible refine TKI ?_ | with_reducible refine TKL ?_)); assumption) | omega) only [X7_linePuts_83b, ↓Option.bind_some, ↓b2_some, ↓bX_l, ↓bX_r, Option.bind_some, Option.bind_none, b2_some, bX_l, bX_r, nn_e, if_true, if_false, reduceCtorEq, ↓reduceIte, Nat.reduceEqDiff, Nat.reduceLT, Nat.reduceLeDiff, Nat.reduceSubDiff, Nat.reduceAdd, Nat.reduceMul, nA1, nA2, nM1, nM2, n_add, n_mul, n_sub, nS1, nS2, nL0, nL1, nL2, nE0, nE1, nE2, nE3, bI_0, bI_1, bI_m, rz_b, rz_0, rz_1, qi, Ev_some]
          exact ⟨by trivial, F2, same (by unfold cand; rw [if_neg m4, if_pos rfl, if_neg qi])⟩
      · by_cases qj : j < z_wl s oth
        · have n1 : (nI (lp s hd (z_wc s oth (z_wl s oth - 1 - j))) = -1) = False := nE2 (by have := (la_in ((cp_iff qn).mp c2 (z_wl s oth - 1 - j) (by omega))).1; omega)
          rw [if_neg m4, if_neg (by decide)] at tg
          have a3' := a3 qj
          obtain ⟨H5, w5, F5, B5⟩ := T_weigh W2 (K := K) (to := K + 1) (m := 5) (g := T) (n := z_bk s) hK (by omega) hm gT (by rw [far _ _ (by omega) (by omega)]; exact a3'.1) (by rw [far _ _ (by omega) (by omega)]; exact a3'.2) (by omega) (by omega) (by omega) B2 hbl' (nI hd) (if i < z_wl s one then nI (lp s hd (z_wc s one i)) else -1) (nI (lp s hd (z_wc s oth (z_wl s oth - 1 - j)))) (nI A) (nI T)
          simp (disch := first | assumption | ((repeat (first | with_reducible refine TKI ?_ | with_reducible refine TKL ?_)); assumption) | omega) only [X7_linePuts_83b, X7_linePuts_102, X7_linePuts_117, X7_linePuts_154, ↓btgI, ↓btpI, ↓btgL, ↓btpL, ↓btisO, tgI, tpI, tgL, tpL, tisO, ↓btg_50, tg_50, ↓btx_1385, tx_1385, ↓bts_1385, ts_1385, ↓btxl_1385, txl_1385, ↓btsl_1385, tsl_1385, ↓btg_72, tg_72, ↓btx_1395, tx_1395, ↓bts_1395, ts_1395, ↓btxl_1395, txl_1395, ↓btsl_1395, tsl_1395, ↓Option.bind_some, ↓b2_some, ↓bX_l, ↓bX_r, Option.bind_some, Option.bind_none, b2_some, bX_l, bX_r, nn_e, if_true, if_false, reduceCtorEq, ↓reduceIte, Nat.reduceEqDiff, Nat.reduceLT, Nat.reduceLeDiff, Nat.reduceSubDiff, Nat.reduceAdd, Nat.reduceMul, nA1, nA2, nM1, nM2, n_add, n_mul, n_sub, nS1, nS2, nL0, nL1, nL2, nE0, nE1, nE2, nE3, bI_0, bI_1, bI_m, rz_b, rz_0, rz_1, qj, n1, n4, ↓b2_of tg, e4, w5]
          rw [Ev_some]
          refine ⟨rfl, F2.trans F5, ?_⟩
          show RB H5 K (bst1 (bst s one oth hd i j (lq s one oth hd) 5) 5 (cand s one oth hd i j (lq s one oth hd) 5))
          rw [show cand s one oth hd i j (lq s one oth hd) 5 = some (z_bk s + (lq s one oth hd i (j + 1)).1, pcN T + (lq s one oth hd i (j + 1)).2) by rw [hT qj]; unfold cand; rw [if_neg m4, if_neg (by decide), if_pos qj]]
          exact B5
        · simp (disch := first | assumption | ((repeat (first | with_reducible refine TKI ?_ | with_reducible refine TKL ?_)); assumption) | omega) only [X7_linePuts_83b, X7_linePuts_102, ↓Option.bind_some, ↓b2_some, ↓bX_l, ↓bX_r, Option.bind_some, Option.bind_none, b2_some, bX_l, bX_r, nn_e, if_true, if_false, reduceCtorEq, ↓reduceIte, Nat.reduceEqDiff, Nat.reduceLT, Nat.reduceLeDiff, Nat.reduceSubDiff, Nat.reduceAdd, Nat.reduceMul, nA1, nA2, nM1, nM2, n_add, n_mul, n_sub, nS1, nS2, nL0, nL1, nL2, nE0, nE1, nE2, nE3, bI_0, bI_1, bI_m, rz_b, rz_0, rz_1, qj, Ev_some]
          exact ⟨by trivial, F2, same (by unfold cand; rw [if_neg m4, if_neg (by decide), if_neg qj])⟩
  · rintro ⟨x, H⟩ ⟨hx, F2, B2⟩
    simp only at hx F2 B2
    subst hx
    simp (disch := first | assumption | ((repeat (first | with_reducible refine TKI ?_ | with_reducible refine TKL ?_)); assumption) | omega) only [X7_linePuts_83b, ↓Option.bind_some, ↓b2_some, ↓bX_l, ↓bX_r, Option.bind_some, Option.bind_none, b2_some, bX_l, bX_r, nn_e, if_true, if_false, reduceCtorEq, ↓reduceIte, Nat.reduceEqDiff, Nat.reduceLT, Nat.reduceLeDiff, Nat.reduceSubDiff, Nat.reduceAdd, Nat.reduceMul, nA1, nA2, nM1, nM2, n_add, n_mul, n_sub, nS1, nS2, nL0, nL1, nL2, nE0, nE1, nE2, nE3, bI_0, bI_1, bI_m, rz_b, rz_0, rz_1, Nat.lt_irrefl, Ev_some]
    exact ⟨F2, B2⟩
end Line
