set_option maxRecDepth 100000
/-! ===== the class: mend ===== -/
section CMend
variable {va : VaT} {th : ThT} {Q : Nat → Prop} {h : AH} {sp : Nat} {s : SH} {f : RW}
theorem C_mend (F : WFS s) (hQ : ∀ a, Q a → Im a) (B : CB va th Q h sp s) (C : CNW s h f) (G : WFN s f) (x y k : Int32) : Ev (X0_mend va 128 x y k h) (fun z => z.1 = q_mend s f x y k ∧ FT PC1 h z.2) := by
  have K := B.1
  have S := C.1.1
  rw [X0_mend, co_128 K, Option.bind_some, b2_of (C_isPlace F B C G x y), q_mend]
  cases e : isP s f x y with
  | false => rw [if_pos (show bI false = 0 from rfl), Ev_some]; exact ⟨rfl, FT.refl _ _⟩
  | true =>
    obtain ⟨b, p, rfl, rfl, h1, h2, h3, h4⟩ := isP_ex F G e
    obtain ⟨g1, g2, -, g3⟩ := G.2.1 b h1
    have qn := F.1 _ g2
    have hr2 : inR (nI (f (2 + 8 * b))) 2 = true := inR_n g2 (by decide)
    obtain ⟨c1, c2, c3⟩ := C.1.b h1
    have tL := C_isLetterOf F B (nI (f (2 + 8 * b))) k
    rw [hr2, Bool.true_and, nt_n (by omega)] at tL
    rw [if_neg (by decide), if_pos rfl, nt_n (by omega), nt_n (by omega), cg_128_9 K, Option.bind_some, S.g5, Option.bind_some, S.x2 h4, Option.bind_some, c2, co_128 K, Option.bind_some, b2_of tL]
    cases e2 : inR k (z_nl s (f (2 + 8 * b))) with
    | false => rw [if_pos (show bI false = 0 from rfl), Ev_some]; exact ⟨rfl, FT.refl _ _⟩
    | true =>
      obtain ⟨k, hk, rfl⟩ := inR_ex (by omega) e2
      have l1 := F.2.1 _ k g2 hk
      obtain ⟨o, o1, o2, o3, o4, o5⟩ := C_letterOf B g2 hk
      have gp := g3 p h3
      have c3p := c3 p h3
      rw [if_neg (show ¬ bI true = 0 by decide), if_pos rfl, nt_n (by omega), cg_128_9 K, Option.bind_some, S.g5, Option.bind_some, S.x2 h4, Option.bind_some, c2, co_128 K, Option.bind_some, b2_of o1, cg_128_9 K, Option.bind_some, S.g6, Option.bind_some, S.x3 h4, Option.bind_some, S.x4 h4 h3, Option.bind_some, c3p, X0_mend_63]
      generalize hhd : f (2 + 8 * b) = hd at *
      generalize hg0 : f (3 + 8 * b + p) = g0 at *
      have rl : ∀ g, rd s hd g ≤ 26 := fun g => rd_lt F g2 g _ (Nat.le_refl _)
      refine ev_for 15 (fun bit st => ∃ g n, g < 32768 ∧ n ≤ bit ∧ st.1 = nI g ∧ st.2.1 = nI n ∧ st.2.2.1 = nI bit ∧ FT PC1 h st.2.2.2 ∧ (if rd s hd g0 = z_lw s hd k then (0 : Int32) else mnd s hd (z_lw s hd k) (z_lg s hd k) 16 0 g0 0) = (if rd s hd g = z_lw s hd k then nI n else mnd s hd (z_lw s hd k) (z_lg s hd k) (16 - bit) bit g n)) ?_ ?_ 0 _ (by decide) ⟨g0, 0, gp, Nat.le_refl _, rfl, rfl, rfl, FT.refl _ _, rfl⟩
      · rintro bit ⟨a, c, d, H2⟩ hb ⟨g, n, hg, hn, ha, hc, hd', F2, hm⟩
        simp only at ha hc hd' F2
        subst ha hc hd'
        have B2 := B.ft hQ F2 PC1_Mc
        have K2 := B2.1
        have S2 := S.ft F2
        have c22 : hI H2 (148 + 2) b = nI hd := (F2.i (by unfold PC1; omega)).trans c2
        have og := or_lt hg hb
        have hstep : mnd s hd (z_lw s hd k) (z_lg s hd k) (16 - bit) bit g n = if bN g bit = 1 then mnd s hd (z_lw s hd k) (z_lg s hd k) (15 - bit) (bit + 1) g n else if bN (z_lg s hd k) bit = 0 then mnd s hd (z_lw s hd k) (z_lg s hd k) (15 - bit) (bit + 1) g n else if rd s hd (g ||| 2 ^ bit) = z_lw s hd k then nI (n + 1) else mnd s hd (z_lw s hd k) (z_lg s hd k) (15 - bit) (bit + 1) (g ||| 2 ^ bit) (n + 1) := by
          rw [show 16 - bit = (15 - bit) + 1 by omega, mnd, if_pos hb]
        have b1 := bN_01 g bit
        have b2 := bN_01 (z_lg s hd k) bit
        have rlg := rl g
        simp (disch := first | assumption | ((repeat (first | with_reducible refine TKI ?_ | with_reducible refine TKL ?_ | with_reducible refine CKI ?_ | with_reducible refine CKL ?_)); assumption) | omega) only [X0_mend_63b, ↓bci_128, ci_128, ↓bcp_128, cp_128, ↓bco_128, co_128, ↓bcx_140, cx_140, ↓bcs_140, cs_140, ↓bcxl_140, cxl_140, ↓bcsl_140, csl_140, ↓bci_141, ci_141, ↓bcp_141, cp_141, ↓bco_141, co_141, ↓bci_142, ci_142, ↓bcp_142, cp_142, ↓bco_142, co_142, ↓bci_143, ci_143, ↓bcp_143, cp_143, ↓bco_143, co_143, ↓bcx_144, cx_144, ↓bcs_144, cs_144, ↓bcxl_144, cxl_144, ↓bcsl_144, csl_144, ↓bci_145, ci_145, ↓bcp_145, cp_145, ↓bco_145, co_145, ↓bcx_146, cx_146, ↓bcs_146, cs_146, ↓bcxl_146, cxl_146, ↓bcsl_146, csl_146, ↓bcx_147, cx_147, ↓bcs_147, cs_147, ↓bcxl_147, cxl_147, ↓bcsl_147, csl_147, ↓bci_256, ci_256, ↓bcp_256, cp_256, ↓bco_256, co_256, ↓bcx_258, cx_258, ↓bcs_258, cs_258, ↓bcxl_258, cxl_258, ↓bcsl_258, csl_258, ↓bcx_259, cx_259, ↓bcs_259, cs_259, ↓bcxl_259, cxl_259, ↓bcsl_259, csl_259, ↓bcx_260, cx_260, ↓bcs_260, cs_260, ↓bcxl_260, cxl_260, ↓bcsl_260, csl_260, ↓bcx_261, cx_261, ↓bcs_261, cs_261, ↓bcxl_261, cxl_261, ↓bcsl_261, csl_261, ↓bcx_262, cx_262, ↓bcs_262, cs_262, ↓bcxl_262, cxl_262, ↓bcsl_262, csl_262, ↓bcx_263, cx_263, ↓bcs_263, cs_263, ↓bcxl_263, cxl_263, ↓bcsl_263, csl_263, ↓bcx_264, cx_264, ↓bcs_264, cs_264, ↓bcxl_264, cxl_264, ↓bcsl_264, csl_264, ↓bcx_265, cx_265, ↓bcs_265, cs_265, ↓bcxl_265, cxl_265, ↓bcsl_265, csl_265, ↓bcx_266, cx_266, ↓bcs_266, cs_266, ↓bcxl_266, cxl_266, ↓bcsl_266, csl_266, ↓bcx_1348, cx_1348, ↓bcs_1348, cs_1348, ↓bcxl_1348, cxl_1348, ↓bcsl_1348, csl_1348, ↓bcg_128_1, cg_128_1, ↓bcg_128_5, cg_128_5, ↓bcg_128_6, cg_128_6, ↓bcg_128_7, cg_128_7, ↓bcg_128_8, cg_128_8, ↓bcg_128_9, cg_128_9, ↓bcg_128_10, cg_128_10, ↓bcg_128_11, cg_128_11, ↓bcg_128_12, cg_128_12, ↓bcg_128_16, cg_128_16, ↓bcg_141_0, cg_141_0, ↓bcg_141_7, cg_141_7, ↓bcg_143_0, cg_143_0, ↓bcg_145_0, cg_145_0, ↓bcg_256_6, cg_256_6, ↓bcg_256_7, cg_256_7, ↓bcg_256_8, cg_256_8, ↓bcg_256_9, cg_256_9, ↓Option.bind_some, ↓b2_some, ↓bX_l, ↓bX_r, Option.bind_some, Option.bind_none, b2_some, bX_l, bX_r, nn_e, if_true, if_false, reduceCtorEq, ↓reduceIte, Nat.reduceEqDiff, Nat.reduceLT, Nat.reduceLeDiff, Nat.reduceSubDiff, Nat.reduceAdd, Nat.reduceMul, nA1, nA2, nM1, nM2, n_add, n_mul, n_sub, nS1, nS2, nL0, nL1, nL2, nE0, nE1, nE2, nE3, bI_0, bI_1, bI_m, rz_b, rz_0, rz_1, hb, ↓bd_of S2.g5, ↓bd_of (S2.x2 h4), c22, Ev_b2]
        refine ev_mono (C_readAs F hQ B2 g2 hg) ?_
        rintro ⟨v, H3⟩ ⟨hv, F3⟩
        simp only at hv F3
        subst hv
        have F4 := F2.trans F3
        have qo : o ≠ 144 := fun z => by have := hQ o o3; unfold Im at this; omega
        have k3 : hK H3 o = (8, 0) := by rw [F4.1]; exact o2
        have i0 : gI 8 0 (some o) H3 = some (nI (z_lw s hd k)) := by rw [gI_e k3, F4.i (by unfold PC1; omega), o4]
        have i1 : gI 8 1 (some o) H3 = some (nI (z_lg s hd k)) := by rw [gI_e k3, F4.i (by unfold PC1; omega), o5]
        simp (disch := first | assumption | ((repeat (first | with_reducible refine TKI ?_ | with_reducible refine TKL ?_ | with_reducible refine CKI ?_ | with_reducible refine CKL ?_)); assumption) | omega) only [↓Option.bind_some, ↓b2_some, ↓bX_l, ↓bX_r, Option.bind_some, Option.bind_none, b2_some, bX_l, bX_r, nn_e, if_true, if_false, reduceCtorEq, ↓reduceIte, Nat.reduceEqDiff, Nat.reduceLT, Nat.reduceLeDiff, Nat.reduceSubDiff, Nat.reduceAdd, Nat.reduceMul, ↓bd_of i0, nE0, ↓b2_of (X0_has_e hg hb H3), ↓bd_of i1, ↓b2_of (X0_has_e l1.2.2 hb H3), nA1, jbit1 hb, n_or]
        have n0 : ∀ m : Nat, m < 2 → (nI m = 0 ↔ m = 0) := fun m hm => n_eq (b := 0) (by omega) (by decide)
        by_cases q : rd s hd g = z_lw s hd k
        · rw [if_pos q] at hm
          rw [if_pos q, Ev_some]
          exact ⟨hm.symm, F4⟩
        · rw [if_neg q, hstep] at hm
          rw [if_neg q]
          by_cases d1 : bN g bit = 1
          · rw [if_pos d1] at hm
            rw [if_neg (fun z => by have := (n0 _ (by omega)).mp z; omega), Ev_some]
            exact ⟨g, n, hg, by omega, rfl, rfl, rfl, F4, by rw [hm, if_neg q]⟩
          · rw [if_neg d1] at hm
            rw [if_pos ((n0 _ (by omega)).mpr (by omega))]
            by_cases d2 : bN (z_lg s hd k) bit = 0
            · rw [if_pos d2] at hm
              rw [if_pos ((n0 _ (by omega)).mpr d2), Ev_some]
              exact ⟨g, n, hg, by omega, rfl, rfl, rfl, F4, by rw [hm, if_neg q]⟩
            · rw [if_neg d2] at hm
              rw [if_neg (fun z => d2 ((n0 _ (by omega)).mp z)), Ev_some]
              exact ⟨g ||| 2 ^ bit, n + 1, og, by omega, rfl, rfl, rfl, F4, hm⟩
      · rintro ⟨a, c, d, H2⟩ ⟨g, n, hg, hn, ha, hc, hd', F2, hm⟩
        simp only at ha hc hd' F2
        subst ha hc hd'
        have B2 := B.ft hQ F2 PC1_Mc
        have K2 := B2.1
        have S2 := S.ft F2
        have c22 : hI H2 (148 + 2) b = nI hd := (F2.i (by unfold PC1; omega)).trans c2
        have rlg := rl g
        simp (disch := first | assumption | ((repeat (first | with_reducible refine TKI ?_ | with_reducible refine TKL ?_ | with_reducible refine CKI ?_ | with_reducible refine CKL ?_)); assumption) | omega) only [X0_mend_63b, X0_mend_140, ↓bci_128, ci_128, ↓bcp_128, cp_128, ↓bco_128, co_128, ↓bcx_140, cx_140, ↓bcs_140, cs_140, ↓bcxl_140, cxl_140, ↓bcsl_140, csl_140, ↓bci_141, ci_141, ↓bcp_141, cp_141, ↓bco_141, co_141, ↓bci_142, ci_142, ↓bcp_142, cp_142, ↓bco_142, co_142, ↓bci_143, ci_143, ↓bcp_143, cp_143, ↓bco_143, co_143, ↓bcx_144, cx_144, ↓bcs_144, cs_144, ↓bcxl_144, cxl_144, ↓bcsl_144, csl_144, ↓bci_145, ci_145, ↓bcp_145, cp_145, ↓bco_145, co_145, ↓bcx_146, cx_146, ↓bcs_146, cs_146, ↓bcxl_146, cxl_146, ↓bcsl_146, csl_146, ↓bcx_147, cx_147, ↓bcs_147, cs_147, ↓bcxl_147, cxl_147, ↓bcsl_147, csl_147, ↓bci_256, ci_256, ↓bcp_256, cp_256, ↓bco_256, co_256, ↓bcx_258, cx_258, ↓bcs_258, cs_258, ↓bcxl_258, cxl_258, ↓bcsl_258, csl_258, ↓bcx_259, cx_259, ↓bcs_259, cs_259, ↓bcxl_259, cxl_259, ↓bcsl_259, csl_259, ↓bcx_260, cx_260, ↓bcs_260, cs_260, ↓bcxl_260, cxl_260, ↓bcsl_260, csl_260, ↓bcx_261, cx_261, ↓bcs_261, cs_261, ↓bcxl_261, cxl_261, ↓bcsl_261, csl_261, ↓bcx_262, cx_262, ↓bcs_262, cs_262, ↓bcxl_262, cxl_262, ↓bcsl_262, csl_262, ↓bcx_263, cx_263, ↓bcs_263, cs_263, ↓bcxl_263, cxl_263, ↓bcsl_263, csl_263, ↓bcx_264, cx_264, ↓bcs_264, cs_264, ↓bcxl_264, cxl_264, ↓bcsl_264, csl_264, ↓bcx_265, cx_265, ↓bcs_265, cs_265, ↓bcxl_265, cxl_265, ↓bcsl_265, csl_265, ↓bcx_266, cx_266, ↓bcs_266, cs_266, ↓bcxl_266, cxl_266, ↓bcsl_266, csl_266, ↓bcx_1348, cx_1348, ↓bcs_1348, cs_1348, ↓bcxl_1348, cxl_1348, ↓bcsl_1348, csl_1348, ↓bcg_128_1, cg_128_1, ↓bcg_128_5, cg_128_5, ↓bcg_128_6, cg_128_6, ↓bcg_128_7, cg_128_7, ↓bcg_128_8, cg_128_8, ↓bcg_128_9, cg_128_9, ↓bcg_128_10, cg_128_10, ↓bcg_128_11, cg_128_11, ↓bcg_128_12, cg_128_12, ↓bcg_128_16, cg_128_16, ↓bcg_141_0, cg_141_0, ↓bcg_141_7, cg_141_7, ↓bcg_143_0, cg_143_0, ↓bcg_145_0, cg_145_0, ↓bcg_256_6, cg_256_6, ↓bcg_256_7, cg_256_7, ↓bcg_256_8, cg_256_8, ↓bcg_256_9, cg_256_9, ↓Option.bind_some, ↓b2_some, ↓bX_l, ↓bX_r, Option.bind_some, Option.bind_none, b2_some, bX_l, bX_r, nn_e, if_true, if_false, reduceCtorEq, ↓reduceIte, Nat.reduceEqDiff, Nat.reduceLT, Nat.reduceLeDiff, Nat.reduceSubDiff, Nat.reduceAdd, Nat.reduceMul, nA1, nA2, nM1, nM2, n_add, n_mul, n_sub, nS1, nS2, nL0, nL1, nL2, nE0, nE1, nE2, nE3, bI_0, bI_1, bI_m, rz_b, rz_0, rz_1, Nat.lt_irrefl, ↓bd_of S2.g5, ↓bd_of (S2.x2 h4), c22, Ev_b2, Ev_bind]
        refine ev_mono (C_readAs F hQ B2 g2 hg) ?_
        rintro ⟨v, H3⟩ ⟨hv, F3⟩
        simp only at hv F3
        subst hv
        have F4 := F2.trans F3
        have qo : o ≠ 144 := fun z => by have := hQ o o3; unfold Im at this; omega
        have k3 : hK H3 o = (8, 0) := by rw [F4.1]; exact o2
        have i0 : gI 8 0 (some o) H3 = some (nI (z_lw s hd k)) := by rw [gI_e k3, F4.i (by unfold PC1; omega), o4]
        have nq : nI (rd s hd g) = nI (z_lw s hd k) ↔ rd s hd g = z_lw s hd k := n_eq (by omega) (by omega)
        rw [i0, Ev_some]
        by_cases q : rd s hd g = z_lw s hd k
        · rw [if_pos q] at hm
          rw [if_pos (nq.mpr q), Ev_some, Ev_some]
          exact ⟨hm.symm, F4⟩
        · rw [if_neg q] at hm
          rw [if_neg (fun z => q (nq.mp z)), Ev_some, Ev_some]
          exact ⟨hm.symm, F4⟩
end CMend
