set_option maxRecDepth 100000
/-! ===== the class: worn boards ===== -/
theorem asP_congr {s : SH} (h4 : z_nb s ≤ 4) (F : WFS s) {g g' : RW} (G : WFN s g) (e : ∀ i, i < 33 → g i = g' i) {b : Nat} (hb : b < z_nb s) : asP s g b = asP s g' b := by
  have h6 := WFN_6 F G b hb
  unfold asP
  rw [← e (1 + 8 * b) (by omega)]
  refine alln_congr _ (fun k hk => ?_)
  unfold sdf
  rw [e (2 + 8 * b) (by omega), e (3 + 8 * b + k) (by omega)]
section CWorn
variable {va : VaT} {th : ThT} {Q : Nat → Prop} {h : AH} {sp st : Nat} {s : SH} {f : RW}
theorem C_canHaveBeen (F : WFS s) (B : CB va th Q h sp s) (C : CNW s h f) (G : WFN s f) {b w : Nat} (h1 : b < z_nb s) (h2 : w < z_nw s) : X0_canHaveBeen 128 (nI b) (nI w) h = some (bI (chb s f b w), h) := by
  have h4 := F.2.2.2.2.1
  have q8 := F.2.2.1
  have K := B.1
  have S := C.1.1
  obtain ⟨g1, g2, -, g3⟩ := G.2.1 b h1
  obtain ⟨w1, w2, w3, -⟩ := F.2.2.2.1 w h2
  have q6 := WFN_6 F G b h1
  have qn := F.1 _ g2
  have hb : b < 4 := by omega
  obtain ⟨c1, c2, c3⟩ := C.1.b h1
  obtain ⟨L, o, l1, l2, l3, l4, l5, l6⟩ := C_wordAt B h2
  have cp1 := C_canPaint F B (nI w) (nI (f (2 + 8 * b)))
  rw [nt_n (by omega), nt_n (by omega), inR_n h2 (by omega), inR_n g2 (by decide), Bool.true_and, Bool.true_and] at cp1
  simp (disch := first | assumption | ((repeat (first | with_reducible refine TKI ?_ | with_reducible refine TKL ?_ | with_reducible refine CKI ?_ | with_reducible refine CKL ?_)); assumption) | omega) only [X0_canHaveBeen, ↓bci_128, ci_128, ↓bcp_128, cp_128, ↓bco_128, co_128, ↓bcx_140, cx_140, ↓bcs_140, cs_140, ↓bcxl_140, cxl_140, ↓bcsl_140, csl_140, ↓bci_141, ci_141, ↓bcp_141, cp_141, ↓bco_141, co_141, ↓bci_142, ci_142, ↓bcp_142, cp_142, ↓bco_142, co_142, ↓bci_143, ci_143, ↓bcp_143, cp_143, ↓bco_143, co_143, ↓bcx_144, cx_144, ↓bcs_144, cs_144, ↓bcxl_144, cxl_144, ↓bcsl_144, csl_144, ↓bci_145, ci_145, ↓bcp_145, cp_145, ↓bco_145, co_145, ↓bcx_146, cx_146, ↓bcs_146, cs_146, ↓bcxl_146, cxl_146, ↓bcsl_146, csl_146, ↓bcx_147, cx_147, ↓bcs_147, cs_147, ↓bcxl_147, cxl_147, ↓bcsl_147, csl_147, ↓bci_256, ci_256, ↓bcp_256, cp_256, ↓bco_256, co_256, ↓bcx_258, cx_258, ↓bcs_258, cs_258, ↓bcxl_258, cxl_258, ↓bcsl_258, csl_258, ↓bcx_259, cx_259, ↓bcs_259, cs_259, ↓bcxl_259, cxl_259, ↓bcsl_259, csl_259, ↓bcx_260, cx_260, ↓bcs_260, cs_260, ↓bcxl_260, cxl_260, ↓bcsl_260, csl_260, ↓bcx_261, cx_261, ↓bcs_261, cs_261, ↓bcxl_261, cxl_261, ↓bcsl_261, csl_261, ↓bcx_262, cx_262, ↓bcs_262, cs_262, ↓bcxl_262, cxl_262, ↓bcsl_262, csl_262, ↓bcx_263, cx_263, ↓bcs_263, cs_263, ↓bcxl_263, cxl_263, ↓bcsl_263, csl_263, ↓bcx_264, cx_264, ↓bcs_264, cs_264, ↓bcxl_264, cxl_264, ↓bcsl_264, csl_264, ↓bcx_265, cx_265, ↓bcs_265, cs_265, ↓bcxl_265, cxl_265, ↓bcsl_265, csl_265, ↓bcx_266, cx_266, ↓bcs_266, cs_266, ↓bcxl_266, cxl_266, ↓bcsl_266, csl_266, ↓bcx_1348, cx_1348, ↓bcs_1348, cs_1348, ↓bcxl_1348, cxl_1348, ↓bcsl_1348, csl_1348, ↓bcg_128_1, cg_128_1, ↓bcg_128_5, cg_128_5, ↓bcg_128_6, cg_128_6, ↓bcg_128_7, cg_128_7, ↓bcg_128_8, cg_128_8, ↓bcg_128_9, cg_128_9, ↓bcg_128_10, cg_128_10, ↓bcg_128_11, cg_128_11, ↓bcg_128_12, cg_128_12, ↓bcg_128_16, cg_128_16, ↓bcg_141_0, cg_141_0, ↓bcg_141_7, cg_141_7, ↓bcg_143_0, cg_143_0, ↓bcg_145_0, cg_145_0, ↓bcg_256_6, cg_256_6, ↓bcg_256_7, cg_256_7, ↓bcg_256_8, cg_256_8, ↓bcg_256_9, cg_256_9, ↓Option.bind_some, ↓b2_some, ↓bX_l, ↓bX_r, Option.bind_some, Option.bind_none, b2_some, bX_l, bX_r, nn_e, if_true, if_false, reduceCtorEq, ↓reduceIte, Nat.reduceEqDiff, Nat.reduceLT, Nat.reduceLeDiff, Nat.reduceSubDiff, Nat.reduceAdd, Nat.reduceMul, nA1, nA2, nM1, nM2, n_add, n_mul, n_sub, nS1, nS2, nL0, nL1, nL2, nE0, nE1, nE2, nE3, bI_0, bI_1, bI_m, rz_b, rz_0, rz_1, ↓bd_of (C_g0 B), ↓bd_of l1, ↓bd_of l2, ↓b2_of l3, ↓bd_of l4, ↓bd_of (isO_e l5), ↓b2_of (l6.sz B.2.1), ↓bd_of S.o, ↓b2_of (C_places F B S hb g1 c1), ↓bd_of S.g5, ↓bd_of (S.x2 hb), c2, ↓b2_of cp1]
  unfold chb
  by_cases q : z_wl s w = z_wl s (f (1 + 8 * b))
  · rw [if_pos q, show (z_wl s w == z_wl s (f (1 + 8 * b))) = true by simpa using q, Bool.true_and]
    cases e : cp s w (f (2 + 8 * b)) with
    | false => simp [bI]
    | true =>
      rw [if_neg (by decide), Bool.true_and, X0_canHaveBeen_51, ← Ev_is]
      have cpi := (cp_iff qn).mp e
      refine ev_for (z_wl s w) (fun k st => st = (nI k, h) ∧ ∀ j, j < k → (an (f (3 + 8 * b + j)) (gl s (f (2 + 8 * b)) (z_wc s w j)) == 0) = true) ?_ ?_ 0 _ (Nat.zero_le _) ⟨rfl, fun j q => absurd q (Nat.not_lt_zero _)⟩
      · rintro k _ hk ⟨rfl, hj⟩
        have hk6 : k < 6 := by omega
        have hk2 : k < z_wl s (f (1 + 8 * b)) := by omega
        have ga := g3 k hk6
        have al : an (f (3 + 8 * b + k)) (gl s (f (2 + 8 * b)) (z_wc s w k)) < 32768 := an_lt ga
        simp (disch := first | assumption | ((repeat (first | with_reducible refine TKI ?_ | with_reducible refine TKL ?_ | with_reducible refine CKI ?_ | with_reducible refine CKL ?_)); assumption) | omega) only [X0_canHaveBeen_51b, ↓bci_128, ci_128, ↓bcp_128, cp_128, ↓bco_128, co_128, ↓bcx_140, cx_140, ↓bcs_140, cs_140, ↓bcxl_140, cxl_140, ↓bcsl_140, csl_140, ↓bci_141, ci_141, ↓bcp_141, cp_141, ↓bco_141, co_141, ↓bci_142, ci_142, ↓bcp_142, cp_142, ↓bco_142, co_142, ↓bci_143, ci_143, ↓bcp_143, cp_143, ↓bco_143, co_143, ↓bcx_144, cx_144, ↓bcs_144, cs_144, ↓bcxl_144, cxl_144, ↓bcsl_144, csl_144, ↓bci_145, ci_145, ↓bcp_145, cp_145, ↓bco_145, co_145, ↓bcx_146, cx_146, ↓bcs_146, cs_146, ↓bcxl_146, cxl_146, ↓bcsl_146, csl_146, ↓bcx_147, cx_147, ↓bcs_147, cs_147, ↓bcxl_147, cxl_147, ↓bcsl_147, csl_147, ↓bci_256, ci_256, ↓bcp_256, cp_256, ↓bco_256, co_256, ↓bcx_258, cx_258, ↓bcs_258, cs_258, ↓bcxl_258, cxl_258, ↓bcsl_258, csl_258, ↓bcx_259, cx_259, ↓bcs_259, cs_259, ↓bcxl_259, cxl_259, ↓bcsl_259, csl_259, ↓bcx_260, cx_260, ↓bcs_260, cs_260, ↓bcxl_260, cxl_260, ↓bcsl_260, csl_260, ↓bcx_261, cx_261, ↓bcs_261, cs_261, ↓bcxl_261, cxl_261, ↓bcsl_261, csl_261, ↓bcx_262, cx_262, ↓bcs_262, cs_262, ↓bcxl_262, cxl_262, ↓bcsl_262, csl_262, ↓bcx_263, cx_263, ↓bcs_263, cs_263, ↓bcxl_263, cxl_263, ↓bcsl_263, csl_263, ↓bcx_264, cx_264, ↓bcs_264, cs_264, ↓bcxl_264, cxl_264, ↓bcsl_264, csl_264, ↓bcx_265, cx_265, ↓bcs_265, cs_265, ↓bcxl_265, cxl_265, ↓bcsl_265, csl_265, ↓bcx_266, cx_266, ↓bcs_266, cs_266, ↓bcxl_266, cxl_266, ↓bcsl_266, csl_266, ↓bcx_1348, cx_1348, ↓bcs_1348, cs_1348, ↓bcxl_1348, cxl_1348, ↓bcsl_1348, csl_1348, ↓bcg_128_1, cg_128_1, ↓bcg_128_5, cg_128_5, ↓bcg_128_6, cg_128_6, ↓bcg_128_7, cg_128_7, ↓bcg_128_8, cg_128_8, ↓bcg_128_9, cg_128_9, ↓bcg_128_10, cg_128_10, ↓bcg_128_11, cg_128_11, ↓bcg_128_12, cg_128_12, ↓bcg_128_16, cg_128_16, ↓bcg_141_0, cg_141_0, ↓bcg_141_7, cg_141_7, ↓bcg_143_0, cg_143_0, ↓bcg_145_0, cg_145_0, ↓bcg_256_6, cg_256_6, ↓bcg_256_7, cg_256_7, ↓bcg_256_8, cg_256_8, ↓bcg_256_9, cg_256_9, ↓Option.bind_some, ↓b2_some, ↓bX_l, ↓bX_r, Option.bind_some, Option.bind_none, b2_some, bX_l, bX_r, nn_e, if_true, if_false, reduceCtorEq, ↓reduceIte, Nat.reduceEqDiff, Nat.reduceLT, Nat.reduceLeDiff, Nat.reduceSubDiff, Nat.reduceAdd, Nat.reduceMul, nA1, nA2, nM1, nM2, n_add, n_mul, n_sub, nS1, nS2, nL0, nL1, nL2, nE0, nE1, nE2, nE3, bI_0, bI_1, bI_m, rz_b, rz_0, rz_1, ↓bd_of S.o, ↓b2_of (C_places F B S hb g1 c1), hk2, ↓bd_of S.g6, ↓bd_of (S.x3 hb), ↓bd_of (S.x4 hb hk6), c3 k hk6, ↓bd_of (C_g0 B), ↓bd_of S.g5, ↓bd_of (S.x2 hb), c2, ↓bd_of (C_sp B), ↓b2_of (C_sglyph F B.2.2.2 B.2.1 g2 h2 hk (cpi k hk)), n_an]
        by_cases e5 : an (f (3 + 8 * b + k)) (gl s (f (2 + 8 * b)) (z_wc s w k)) = 0
        · rw [if_pos e5, Ev_some]
          refine ⟨rfl, fun j h5 => ?_⟩
          by_cases ej : j = k
          · rw [ej]; simpa using e5
          · exact hj j (by omega)
        · rw [if_neg e5, Ev_some, alln_no hk (by simpa using e5)]
          rfl
      · rintro _ ⟨rfl, hj⟩
        rw [q]
        simp (disch := first | assumption | ((repeat (first | with_reducible refine TKI ?_ | with_reducible refine TKL ?_ | with_reducible refine CKI ?_ | with_reducible refine CKL ?_)); assumption) | omega) only [X0_canHaveBeen_51b, ↓bci_128, ci_128, ↓bcp_128, cp_128, ↓bco_128, co_128, ↓bcx_140, cx_140, ↓bcs_140, cs_140, ↓bcxl_140, cxl_140, ↓bcsl_140, csl_140, ↓bci_141, ci_141, ↓bcp_141, cp_141, ↓bco_141, co_141, ↓bci_142, ci_142, ↓bcp_142, cp_142, ↓bco_142, co_142, ↓bci_143, ci_143, ↓bcp_143, cp_143, ↓bco_143, co_143, ↓bcx_144, cx_144, ↓bcs_144, cs_144, ↓bcxl_144, cxl_144, ↓bcsl_144, csl_144, ↓bci_145, ci_145, ↓bcp_145, cp_145, ↓bco_145, co_145, ↓bcx_146, cx_146, ↓bcs_146, cs_146, ↓bcxl_146, cxl_146, ↓bcsl_146, csl_146, ↓bcx_147, cx_147, ↓bcs_147, cs_147, ↓bcxl_147, cxl_147, ↓bcsl_147, csl_147, ↓bci_256, ci_256, ↓bcp_256, cp_256, ↓bco_256, co_256, ↓bcx_258, cx_258, ↓bcs_258, cs_258, ↓bcxl_258, cxl_258, ↓bcsl_258, csl_258, ↓bcx_259, cx_259, ↓bcs_259, cs_259, ↓bcxl_259, cxl_259, ↓bcsl_259, csl_259, ↓bcx_260, cx_260, ↓bcs_260, cs_260, ↓bcxl_260, cxl_260, ↓bcsl_260, csl_260, ↓bcx_261, cx_261, ↓bcs_261, cs_261, ↓bcxl_261, cxl_261, ↓bcsl_261, csl_261, ↓bcx_262, cx_262, ↓bcs_262, cs_262, ↓bcxl_262, cxl_262, ↓bcsl_262, csl_262, ↓bcx_263, cx_263, ↓bcs_263, cs_263, ↓bcxl_263, cxl_263, ↓bcsl_263, csl_263, ↓bcx_264, cx_264, ↓bcs_264, cs_264, ↓bcxl_264, cxl_264, ↓bcsl_264, csl_264, ↓bcx_265, cx_265, ↓bcs_265, cs_265, ↓bcxl_265, cxl_265, ↓bcsl_265, csl_265, ↓bcx_266, cx_266, ↓bcs_266, cs_266, ↓bcxl_266, cxl_266, ↓bcsl_266, csl_266, ↓bcx_1348, cx_1348, ↓bcs_1348, cs_1348, ↓bcxl_1348, cxl_1348, ↓bcsl_1348, csl_1348, ↓bcg_128_1, cg_128_1, ↓bcg_128_5, cg_128_5, ↓bcg_128_6, cg_128_6, ↓bcg_128_7, cg_128_7, ↓bcg_128_8, cg_128_8, ↓bcg_128_9, cg_128_9, ↓bcg_128_10, cg_128_10, ↓bcg_128_11, cg_128_11, ↓bcg_128_12, cg_128_12, ↓bcg_128_16, cg_128_16, ↓bcg_141_0, cg_141_0, ↓bcg_141_7, cg_141_7, ↓bcg_143_0, cg_143_0, ↓bcg_145_0, cg_145_0, ↓bcg_256_6, cg_256_6, ↓bcg_256_7, cg_256_7, ↓bcg_256_8, cg_256_8, ↓bcg_256_9, cg_256_9, ↓Option.bind_some, ↓b2_some, ↓bX_l, ↓bX_r, Option.bind_some, Option.bind_none, b2_some, bX_l, bX_r, nn_e, if_true, if_false, reduceCtorEq, ↓reduceIte, Nat.reduceEqDiff, Nat.reduceLT, Nat.reduceLeDiff, Nat.reduceSubDiff, Nat.reduceAdd, Nat.reduceMul, nA1, nA2, nM1, nM2, n_add, n_mul, n_sub, nS1, nS2, nL0, nL1, nL2, nE0, nE1, nE2, nE3, bI_0, bI_1, bI_m, rz_b, rz_0, rz_1, ↓bd_of S.o, ↓b2_of (C_places F B S hb g1 c1), Nat.lt_irrefl, Ev_some]
        rw [← q, (alln_iff _).mpr hj]
        rfl
  · rw [if_neg q, show (z_wl s w == z_wl s (f (1 + 8 * b))) = false by simpa using q, Bool.false_and]
    rfl
theorem C_been (F : WFS s) (B : CB va th Q h sp s) (C : CNW s h f) (G : WFN s f) (x : Int32) : X0_been 128 x h = some (q_been s f x, h) := by
  have h4 := F.2.2.2.2.1
  have h8 := F.2.2.1
  have K := B.1
  rw [X0_been, co_128 K, Option.bind_some, b2_of (C_isBoard F B x), q_been]
  cases e : inR x (z_nb s) with
  | false => simp [bI]
  | true =>
    obtain ⟨b, h1, rfl⟩ := inR_ex (by omega) e
    rw [if_neg (by decide), if_pos rfl, nt_n (by omega), X0_been_14, ← Ev_is]
    refine ev_for (z_nw s) (fun w st => st = (itr (fun w t => if chb s f b w = true then t ||| jshl 1 (nI w) else t) w 0, nI w, h)) ?_ ?_ 0 _ (Nat.zero_le _) rfl
    · rintro w _ hw rfl
      simp (disch := first | assumption | ((repeat (first | with_reducible refine TKI ?_ | with_reducible refine TKL ?_ | with_reducible refine CKI ?_ | with_reducible refine CKL ?_)); assumption) | omega) only [X0_been_14b, X0_been_39, ↓bci_128, ci_128, ↓bcp_128, cp_128, ↓bco_128, co_128, ↓bcx_140, cx_140, ↓bcs_140, cs_140, ↓bcxl_140, cxl_140, ↓bcsl_140, csl_140, ↓bci_141, ci_141, ↓bcp_141, cp_141, ↓bco_141, co_141, ↓bci_142, ci_142, ↓bcp_142, cp_142, ↓bco_142, co_142, ↓bci_143, ci_143, ↓bcp_143, cp_143, ↓bco_143, co_143, ↓bcx_144, cx_144, ↓bcs_144, cs_144, ↓bcxl_144, cxl_144, ↓bcsl_144, csl_144, ↓bci_145, ci_145, ↓bcp_145, cp_145, ↓bco_145, co_145, ↓bcx_146, cx_146, ↓bcs_146, cs_146, ↓bcxl_146, cxl_146, ↓bcsl_146, csl_146, ↓bcx_147, cx_147, ↓bcs_147, cs_147, ↓bcxl_147, cxl_147, ↓bcsl_147, csl_147, ↓bci_256, ci_256, ↓bcp_256, cp_256, ↓bco_256, co_256, ↓bcx_258, cx_258, ↓bcs_258, cs_258, ↓bcxl_258, cxl_258, ↓bcsl_258, csl_258, ↓bcx_259, cx_259, ↓bcs_259, cs_259, ↓bcxl_259, cxl_259, ↓bcsl_259, csl_259, ↓bcx_260, cx_260, ↓bcs_260, cs_260, ↓bcxl_260, cxl_260, ↓bcsl_260, csl_260, ↓bcx_261, cx_261, ↓bcs_261, cs_261, ↓bcxl_261, cxl_261, ↓bcsl_261, csl_261, ↓bcx_262, cx_262, ↓bcs_262, cs_262, ↓bcxl_262, cxl_262, ↓bcsl_262, csl_262, ↓bcx_263, cx_263, ↓bcs_263, cs_263, ↓bcxl_263, cxl_263, ↓bcsl_263, csl_263, ↓bcx_264, cx_264, ↓bcs_264, cs_264, ↓bcxl_264, cxl_264, ↓bcsl_264, csl_264, ↓bcx_265, cx_265, ↓bcs_265, cs_265, ↓bcxl_265, cxl_265, ↓bcsl_265, csl_265, ↓bcx_266, cx_266, ↓bcs_266, cs_266, ↓bcxl_266, cxl_266, ↓bcsl_266, csl_266, ↓bcx_1348, cx_1348, ↓bcs_1348, cs_1348, ↓bcxl_1348, cxl_1348, ↓bcsl_1348, csl_1348, ↓bcg_128_1, cg_128_1, ↓bcg_128_5, cg_128_5, ↓bcg_128_6, cg_128_6, ↓bcg_128_7, cg_128_7, ↓bcg_128_8, cg_128_8, ↓bcg_128_9, cg_128_9, ↓bcg_128_10, cg_128_10, ↓bcg_128_11, cg_128_11, ↓bcg_128_12, cg_128_12, ↓bcg_128_16, cg_128_16, ↓bcg_141_0, cg_141_0, ↓bcg_141_7, cg_141_7, ↓bcg_143_0, cg_143_0, ↓bcg_145_0, cg_145_0, ↓bcg_256_6, cg_256_6, ↓bcg_256_7, cg_256_7, ↓bcg_256_8, cg_256_8, ↓bcg_256_9, cg_256_9, ↓Option.bind_some, ↓b2_some, ↓bX_l, ↓bX_r, Option.bind_some, Option.bind_none, b2_some, bX_l, bX_r, nn_e, if_true, if_false, reduceCtorEq, ↓reduceIte, Nat.reduceEqDiff, Nat.reduceLT, Nat.reduceLeDiff, Nat.reduceSubDiff, Nat.reduceAdd, Nat.reduceMul, nA1, nA2, nM1, nM2, n_add, n_mul, n_sub, nS1, nS2, nL0, nL1, nL2, nE0, nE1, nE2, nE3, bI_0, bI_1, bI_m, rz_b, rz_0, rz_1, ↓b2_of (C_words B), hw, ↓b2_of (C_canHaveBeen F B C G h1 hw)]
      cases e5 : chb s f b w with
      | false =>
        rw [if_pos rfl, Ev_some]
        show _ = ((if chb s f b w = true then _ else _), _, _)
        rw [e5, if_neg (by decide), or0]
      | true =>
        rw [if_neg (by decide), Ev_some]
        show _ = ((if chb s f b w = true then _ else _), _, _)
        rw [e5, if_pos rfl]
    · rintro _ rfl
      simp (disch := first | assumption | ((repeat (first | with_reducible refine TKI ?_ | with_reducible refine TKL ?_ | with_reducible refine CKI ?_ | with_reducible refine CKL ?_)); assumption) | omega) only [X0_been_14b, ↓bci_128, ci_128, ↓bcp_128, cp_128, ↓bco_128, co_128, ↓bcx_140, cx_140, ↓bcs_140, cs_140, ↓bcxl_140, cxl_140, ↓bcsl_140, csl_140, ↓bci_141, ci_141, ↓bcp_141, cp_141, ↓bco_141, co_141, ↓bci_142, ci_142, ↓bcp_142, cp_142, ↓bco_142, co_142, ↓bci_143, ci_143, ↓bcp_143, cp_143, ↓bco_143, co_143, ↓bcx_144, cx_144, ↓bcs_144, cs_144, ↓bcxl_144, cxl_144, ↓bcsl_144, csl_144, ↓bci_145, ci_145, ↓bcp_145, cp_145, ↓bco_145, co_145, ↓bcx_146, cx_146, ↓bcs_146, cs_146, ↓bcxl_146, cxl_146, ↓bcsl_146, csl_146, ↓bcx_147, cx_147, ↓bcs_147, cs_147, ↓bcxl_147, cxl_147, ↓bcsl_147, csl_147, ↓bci_256, ci_256, ↓bcp_256, cp_256, ↓bco_256, co_256, ↓bcx_258, cx_258, ↓bcs_258, cs_258, ↓bcxl_258, cxl_258, ↓bcsl_258, csl_258, ↓bcx_259, cx_259, ↓bcs_259, cs_259, ↓bcxl_259, cxl_259, ↓bcsl_259, csl_259, ↓bcx_260, cx_260, ↓bcs_260, cs_260, ↓bcxl_260, cxl_260, ↓bcsl_260, csl_260, ↓bcx_261, cx_261, ↓bcs_261, cs_261, ↓bcxl_261, cxl_261, ↓bcsl_261, csl_261, ↓bcx_262, cx_262, ↓bcs_262, cs_262, ↓bcxl_262, cxl_262, ↓bcsl_262, csl_262, ↓bcx_263, cx_263, ↓bcs_263, cs_263, ↓bcxl_263, cxl_263, ↓bcsl_263, csl_263, ↓bcx_264, cx_264, ↓bcs_264, cs_264, ↓bcxl_264, cxl_264, ↓bcsl_264, csl_264, ↓bcx_265, cx_265, ↓bcs_265, cs_265, ↓bcxl_265, cxl_265, ↓bcsl_265, csl_265, ↓bcx_266, cx_266, ↓bcs_266, cs_266, ↓bcxl_266, cxl_266, ↓bcsl_266, csl_266, ↓bcx_1348, cx_1348, ↓bcs_1348, cs_1348, ↓bcxl_1348, cxl_1348, ↓bcsl_1348, csl_1348, ↓bcg_128_1, cg_128_1, ↓bcg_128_5, cg_128_5, ↓bcg_128_6, cg_128_6, ↓bcg_128_7, cg_128_7, ↓bcg_128_8, cg_128_8, ↓bcg_128_9, cg_128_9, ↓bcg_128_10, cg_128_10, ↓bcg_128_11, cg_128_11, ↓bcg_128_12, cg_128_12, ↓bcg_128_16, cg_128_16, ↓bcg_141_0, cg_141_0, ↓bcg_141_7, cg_141_7, ↓bcg_143_0, cg_143_0, ↓bcg_145_0, cg_145_0, ↓bcg_256_6, cg_256_6, ↓bcg_256_7, cg_256_7, ↓bcg_256_8, cg_256_8, ↓bcg_256_9, cg_256_9, ↓Option.bind_some, ↓b2_some, ↓bX_l, ↓bX_r, Option.bind_some, Option.bind_none, b2_some, bX_l, bX_r, nn_e, if_true, if_false, reduceCtorEq, ↓reduceIte, Nat.reduceEqDiff, Nat.reduceLT, Nat.reduceLeDiff, Nat.reduceSubDiff, Nat.reduceAdd, Nat.reduceMul, nA1, nA2, nM1, nM2, n_add, n_mul, n_sub, nS1, nS2, nL0, nL1, nL2, nE0, nE1, nE2, nE3, bI_0, bI_1, bI_m, rz_b, rz_0, rz_1, ↓b2_of (C_words B), Nat.lt_irrefl, Ev_some]
theorem C_asP (F : WFS s) (hQ : ∀ a, Q a → Im a) (B : CB va th Q h sp s) (C : CST s h st f) (hz : SZ st) (G : WFN s f) {b : Nat} (h1 : b < z_nb s) : Ev (X5_isAsPainted va st (nI b) h) (fun z => z.1 = bI (asP s f b) ∧ FT PC1 h z.2) := by
  have h4 := F.2.2.2.2.1
  have q8 := F.2.2.1
  have zz := hz
  unfold SZ at zz
  obtain ⟨g1, g2, -, g3⟩ := G.2.1 b h1
  obtain ⟨w1, w2, w3, -⟩ := F.2.2.2.1 _ g1
  have hb : b < 4 := by omega
  rw [X5_isAsPainted, X5_isAsPainted_2]
  refine ev_for (z_wl s (f (1 + 8 * b))) (fun k z => z.1 = nI k ∧ FT PC1 h z.2 ∧ ∀ j, j < k → (sdf s f b j == z_wc s (f (1 + 8 * b)) j) = true) ?_ ?_ 0 _ (Nat.zero_le _) ⟨rfl, FT.refl _ _, fun j q => absurd q (Nat.not_lt_zero _)⟩
  · rintro k ⟨x, H⟩ hk ⟨hx, F2, hj⟩
    simp only at hx F2
    subst hx
    have B2 := B.ft hQ F2 PC1_Mc
    have C2 : CST s H st f := C.fc F2.fc h4 G.2.2 (fun a k z => by unfold PC1; omega)
    have S2 := C2.1
    obtain ⟨c1, c2, c3⟩ := C2.b h1
    have hk6 : k < 6 := by omega
    simp (disch := first | assumption | ((repeat (first | with_reducible refine TKI ?_ | with_reducible refine TKL ?_ | with_reducible refine CKI ?_ | with_reducible refine CKL ?_)); assumption) | omega) only [X5_isAsPainted_2b, ↓Option.bind_some, ↓b2_some, ↓bX_l, ↓bX_r, Option.bind_some, Option.bind_none, b2_some, bX_l, bX_r, nn_e, if_true, if_false, reduceCtorEq, ↓reduceIte, Nat.reduceEqDiff, Nat.reduceLT, Nat.reduceLeDiff, Nat.reduceSubDiff, Nat.reduceAdd, Nat.reduceMul, nA1, nA2, nM1, nM2, n_add, n_mul, n_sub, nS1, nS2, nL0, nL1, nL2, nE0, nE1, nE2, nE3, bI_0, bI_1, bI_m, rz_b, rz_0, rz_1, ↓bd_of S2.o, ↓b2_of (C_places F B2 S2 hb g1 c1), hk, Ev_b2]
    refine ev_mono (C_ssays F hQ B2 S2 (how := 0) hb g1 g2 (by decide) hk c1 c2 (by rw [plH0]; exact c3 k hk6) (g3 k hk6)) ?_
    rintro ⟨v, H3⟩ ⟨hv, F3⟩
    simp only at hv F3
    subst hv
    have B3 := B2.ft hQ F3 PC1_Mc
    have K3 := B3.1
    have S3 := S2.ft F3
    obtain ⟨L, o, l1, l2, l3, l4, l5, l6⟩ := C_wordAt B3 g1
    have ta := l6.at B3.2.1 (k := k) (by omega) (fun j hj => (w3 j hj).1)
    rw [if_pos hk] at ta
    have d1 : hI H3 (st + 1) b = nI (f (1 + 8 * b)) := (F3.i (by unfold PC1; omega)).trans c1
    have e1 := w3 k hk
    have e2 : sdf s f b k ≤ 26 := rd_lt F g2 _ _ (Nat.le_refl _)
    rw [tN_0 (g3 k hk6), show rd s (f (2 + 8 * b)) (f (3 + 8 * b + k)) = sdf s f b k from rfl]
    simp (disch := first | assumption | ((repeat (first | with_reducible refine TKI ?_ | with_reducible refine TKL ?_ | with_reducible refine CKI ?_ | with_reducible refine CKL ?_)); assumption) | omega) only [↓Option.bind_some, ↓b2_some, ↓bX_l, ↓bX_r, Option.bind_some, Option.bind_none, b2_some, bX_l, bX_r, nn_e, if_true, if_false, reduceCtorEq, ↓reduceIte, Nat.reduceEqDiff, Nat.reduceLT, Nat.reduceLeDiff, Nat.reduceSubDiff, Nat.reduceAdd, Nat.reduceMul, ↓bd_of S3.g9, ↓bd_of (C_g0 B3), ↓bd_of l1, ↓bd_of S3.g4, ↓bd_of (S3.x1 hb), d1, ↓bd_of l2, ↓b2_of l3, ↓bd_of l4, ↓bd_of (isO_e l5), ↓b2_of ta, nE0, nA1]
    by_cases e5 : sdf s f b k = z_wc s (f (1 + 8 * b)) k
    · rw [if_pos e5, Ev_some]
      refine ⟨rfl, F2.trans F3, fun j h5 => ?_⟩
      by_cases ej : j = k
      · rw [ej]; simpa using e5
      · exact hj j (by omega)
    · rw [if_neg e5, Ev_some]
      refine ⟨?_, F2.trans F3⟩
      rw [asP, alln_no hk (by simpa using e5)]
      rfl
  · rintro ⟨x, H⟩ ⟨hx, F2, hj⟩
    simp only at hx F2
    subst hx
    have B2 := B.ft hQ F2 PC1_Mc
    have C2 : CST s H st f := C.fc F2.fc h4 G.2.2 (fun a k z => by unfold PC1; omega)
    have S2 := C2.1
    simp (disch := first | assumption | ((repeat (first | with_reducible refine TKI ?_ | with_reducible refine TKL ?_ | with_reducible refine CKI ?_ | with_reducible refine CKL ?_)); assumption) | omega) only [X5_isAsPainted_2b, ↓Option.bind_some, ↓b2_some, ↓bX_l, ↓bX_r, Option.bind_some, Option.bind_none, b2_some, bX_l, bX_r, nn_e, if_true, if_false, reduceCtorEq, ↓reduceIte, Nat.reduceEqDiff, Nat.reduceLT, Nat.reduceLeDiff, Nat.reduceSubDiff, Nat.reduceAdd, Nat.reduceMul, nA1, nA2, nM1, nM2, n_add, n_mul, n_sub, nS1, nS2, nL0, nL1, nL2, nE0, nE1, nE2, nE3, bI_0, bI_1, bI_m, rz_b, rz_0, rz_1, ↓bd_of S2.o, ↓b2_of (C_places F B2 S2 hb g1 (C2.b h1).1), Nat.lt_irrefl]
    rw [Ev_some]
    refine ⟨?_, F2⟩
    rw [asP, (alln_iff _).mpr hj]
    rfl
theorem C_lasts (F : WFS s) (hQ : ∀ a, Q a → Im a) (B : CB va th Q h sp s) (C : CNW s h f) (G : WFN s f) (x : Int32) : Ev (X0_lasts va th 128 x h) (fun z => z.1 = q_lasts s f x ∧ FC PTR h z.2 ∧ CNW s z.2 f) := by
  have h4 := F.2.2.2.2.1
  have K := B.1
  have z1 : SZ 148 := by unfold SZ; omega
  have z2 : SZ 202 := by unfold SZ; omega
  have PT : ∀ {H H' : AH}, FT PC1 H H' → FC PTR H H' := fun F => F.fc.mono (fun a k z => by unfold PC1 at z; unfold PTR; omega)
  have h0 := G.1
  rw [X0_lasts, co_128 K, Option.bind_some, b2_of (C_isBoard F B x), q_lasts]
  cases e : inR x (z_nb s) with
  | false => rw [if_pos (show bI false = 0 from rfl), Ev_some]; exact ⟨rfl, FC.refl _ _, C⟩
  | true =>
    obtain ⟨b, h1, rfl⟩ := inR_ex (by omega) e
    rw [if_neg (by decide), if_pos rfl, nt_n (by omega), cg_128_9 K, Option.bind_some, C.1.1.o, Option.bind_some, Ev_b2]
    refine ev_mono (C_asP F hQ B C.1 z1 G h1) ?_
    rintro ⟨v, H⟩ ⟨hv, F2⟩
    simp only at hv F2
    subst hv
    have B2 := B.ft hQ F2 PC1_Mc
    have K2 := B2.1
    have C2 : CNW s H f := C.fc F2.fc h4 G.2.2 (fun a k z => by unfold PC1; omega)
    cases ea : asP s f b with
    | false => rw [if_pos (show bI false = 0 from rfl), Ev_some]; exact ⟨rfl, PT F2, C2⟩
    | true =>
      rw [if_neg (show ¬ bI true = 0 by decide), if_pos rfl, cg_128_10 K2, Option.bind_some, cg_128_9 K2, Option.bind_some, C2.2.1.o, Option.bind_some, Ev_b2]
      refine ev_mono (C_tried F hQ B2 C2 G) ?_
      rintro ⟨y, H3⟩ ⟨rfl, F3, C3, N3⟩
      simp only at F3 C3 N3
      have F4 := (PT F2).trans F3
      rw [X0_lasts_35]
      refine ev_for 61 (fun n z => z.1 = nI n ∧ FC PTR h z.2 ∧ CST s z.2 202 (ygs s n f) ∧ CNW s z.2 f ∧ lst s f b (61 - n) n = lst s f b 61 0 ∧ n ≤ 60 ∧ f 0 + n ≤ 999) ?_ ?_ 0 _ (by decide) ⟨rfl, F4, C3, N3, rfl, by decide, by omega⟩
      · rintro n ⟨x, H5⟩ hn ⟨hx, F5, C5, N5, L5, l1, l2⟩
        simp only at hx F5 C5 N5 L5
        subst hx
        have B5 := B.fc hQ F5 McP_PTR
        have K5 := B5.1
        have ia := C_isAhead B5 N5 G.1 (nI (n + 1)) (l := 1) (m := 60) (by decide) (by decide)
        have ia2 : isA f (nI (n + 1)) 1 60 = decide (n < 60 ∧ f 0 + n < 999) := by
          unfold isA
          rw [n_int (by omega)]
          exact decide_eq_decide.mpr (by omega)
        rw [ia2] at ia
        have ia3 : X0_isAhead 128 (nI (n + 1)) 1 60 H5 = some (bI (decide (n < 60 ∧ f 0 + n < 999)), H5) := ia
        rw [show 61 - n = (60 - n) + 1 by omega, lst] at L5
        simp (disch := first | assumption | ((repeat (first | with_reducible refine TKI ?_ | with_reducible refine TKL ?_ | with_reducible refine CKI ?_ | with_reducible refine CKL ?_)); assumption) | omega) only [X0_lasts_35b, ↓bci_128, ci_128, ↓bcp_128, cp_128, ↓bco_128, co_128, ↓bcx_140, cx_140, ↓bcs_140, cs_140, ↓bcxl_140, cxl_140, ↓bcsl_140, csl_140, ↓bci_141, ci_141, ↓bcp_141, cp_141, ↓bco_141, co_141, ↓bci_142, ci_142, ↓bcp_142, cp_142, ↓bco_142, co_142, ↓bci_143, ci_143, ↓bcp_143, cp_143, ↓bco_143, co_143, ↓bcx_144, cx_144, ↓bcs_144, cs_144, ↓bcxl_144, cxl_144, ↓bcsl_144, csl_144, ↓bci_145, ci_145, ↓bcp_145, cp_145, ↓bco_145, co_145, ↓bcx_146, cx_146, ↓bcs_146, cs_146, ↓bcxl_146, cxl_146, ↓bcsl_146, csl_146, ↓bcx_147, cx_147, ↓bcs_147, cs_147, ↓bcxl_147, cxl_147, ↓bcsl_147, csl_147, ↓bci_256, ci_256, ↓bcp_256, cp_256, ↓bco_256, co_256, ↓bcx_258, cx_258, ↓bcs_258, cs_258, ↓bcxl_258, cxl_258, ↓bcsl_258, csl_258, ↓bcx_259, cx_259, ↓bcs_259, cs_259, ↓bcxl_259, cxl_259, ↓bcsl_259, csl_259, ↓bcx_260, cx_260, ↓bcs_260, cs_260, ↓bcxl_260, cxl_260, ↓bcsl_260, csl_260, ↓bcx_261, cx_261, ↓bcs_261, cs_261, ↓bcxl_261, cxl_261, ↓bcsl_261, csl_261, ↓bcx_262, cx_262, ↓bcs_262, cs_262, ↓bcxl_262, cxl_262, ↓bcsl_262, csl_262, ↓bcx_263, cx_263, ↓bcs_263, cs_263, ↓bcxl_263, cxl_263, ↓bcsl_263, csl_263, ↓bcx_264, cx_264, ↓bcs_264, cs_264, ↓bcxl_264, cxl_264, ↓bcsl_264, csl_264, ↓bcx_265, cx_265, ↓bcs_265, cs_265, ↓bcxl_265, cxl_265, ↓bcsl_265, csl_265, ↓bcx_266, cx_266, ↓bcs_266, cs_266, ↓bcxl_266, cxl_266, ↓bcsl_266, csl_266, ↓bcx_1348, cx_1348, ↓bcs_1348, cs_1348, ↓bcxl_1348, cxl_1348, ↓bcsl_1348, csl_1348, ↓bcg_128_1, cg_128_1, ↓bcg_128_5, cg_128_5, ↓bcg_128_6, cg_128_6, ↓bcg_128_7, cg_128_7, ↓bcg_128_8, cg_128_8, ↓bcg_128_9, cg_128_9, ↓bcg_128_10, cg_128_10, ↓bcg_128_11, cg_128_11, ↓bcg_128_12, cg_128_12, ↓bcg_128_16, cg_128_16, ↓bcg_141_0, cg_141_0, ↓bcg_141_7, cg_141_7, ↓bcg_143_0, cg_143_0, ↓bcg_145_0, cg_145_0, ↓bcg_256_6, cg_256_6, ↓bcg_256_7, cg_256_7, ↓bcg_256_8, cg_256_8, ↓bcg_256_9, cg_256_9, ↓Option.bind_some, ↓b2_some, ↓bX_l, ↓bX_r, Option.bind_some, Option.bind_none, b2_some, bX_l, bX_r, nn_e, if_true, if_false, reduceCtorEq, ↓reduceIte, Nat.reduceEqDiff, Nat.reduceLT, Nat.reduceLeDiff, Nat.reduceSubDiff, Nat.reduceAdd, Nat.reduceMul, nA1, ↓b2_of ia3, bI_0]
        by_cases z : n < 60 ∧ f 0 + n < 999
        · rw [if_pos z] at L5
          rw [decide_eq_true z, if_neg (show ¬ true = false from fun y => by cases y)]
          obtain ⟨G5, y5⟩ := ygs_ok F G n (by omega)
          obtain ⟨G6, y6⟩ := ygs_ok F G (n + 1) (by omega)
          rw [C5.1.o, Option.bind_some, show X5_years va th 202 1 H5 = X5_years va th 202 (nI 1) H5 from rfl, Ev_b2]
          refine ev_mono (C_years F hQ B5 G5 z2 C5 (n := 1) (by omega)) ?_
          rintro ⟨y, H6⟩ ⟨rfl, F6, C6, -⟩
          simp only at F6 C6
          have C6 : CST s H6 202 (ygs s (n + 1) f) := C6
          have F6' := F6.mono PYR_PTR
          have B6 := B5.fc hQ F6' McP_PTR
          have N6 : CNW s H6 f := CNW.tr F6' h4 G.2.2 N5 (by obtain ⟨-, p, P, -⟩ := C6; exact ⟨p, P⟩)
          rw [C6.1.o, Option.bind_some, Ev_b2]
          refine ev_mono (C_asP F hQ B6 C6 z2 G6 h1) ?_
          rintro ⟨v, H7⟩ ⟨hv, F7⟩
          simp only at hv F7
          subst hv
          rw [asP_congr h4 F G6 (fun i hi => ygs_lo h4 f (n + 1) i hi) h1]
          have F8 := (F5.trans F6').trans (PT F7)
          have N8 : CNW s H7 f := N6.fc F7.fc h4 G.2.2 (fun a k z => by unfold PC1; omega)
          have C8 : CST s H7 202 (ygs s (n + 1) f) := C6.fc F7.fc h4 G6.2.2 (fun a k z => by unfold PC1; omega)
          cases eb : asP s (yts s (n + 1) f) b with
          | false =>
            rw [eb, if_neg (by decide)] at L5
            rw [if_pos (show bI false = 0 from rfl), Ev_some]
            exact ⟨by rw [← L5], F8, N8⟩
          | true =>
            rw [eb, if_pos rfl] at L5
            rw [if_neg (show ¬ bI true = 0 by decide), Ev_some]
            exact ⟨rfl, F8, C8, N8, L5, by omega, by omega⟩
        · rw [if_neg z] at L5
          rw [decide_eq_false z, if_pos rfl, Ev_some]
          exact ⟨by rw [← L5], F5, N5⟩
      · rintro ⟨x, H5⟩ ⟨hx, F5, C5, N5, L5, l1, l2⟩
        omega
end CWorn
