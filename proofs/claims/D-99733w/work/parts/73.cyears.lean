set_option maxRecDepth 100000
/-! ===== the class: years ===== -/
def PYR (st a k : Nat) : Prop := PPS st a k ∨ PAH st a k
theorem McP_PYR {st : Nat} (hz : SZ st) : McP (PYR st) := fun a k z => z.elim (McP_PPS hz a k) (McP_PAH hz a k)
theorem cR_0 {s : SH} (F : WFS s) {f : RW} (G : WFN s f) (sd : Nat → Nat → Nat) : cR s f sd 0 0 = f := by
  funext i
  unfold cR
  split
  · rw [pr_00]
  · exact rnR_ng F G (by omega)
section CYears
variable {va : VaT} {th : ThT} {Q : Nat → Prop} {h : AH} {sp st : Nat} {s : SH} {f : RW}
theorem CST.yr (C : CST s h st f) (h4 : z_nb s ≤ 4) (h40 : f 33 ≤ 40) : CST s (wI st 0 (nI (f 0 + 1)) h) st (yr1 f) := by
  obtain ⟨S, p, P, ⟨v1, v2⟩, v3, v4⟩ := C
  have hy : ∀ i, i ≠ 0 → yr1 f i = f i := fun i hi => by unfold yr1; rw [if_neg hi]
  refine ⟨S, p, P, ⟨?_, ?_⟩, fun b' hb' => ⟨?_, ?_, fun k' hk' => ?_⟩, fun i j hi hj => ?_⟩
  · rw [p_II, if_pos ⟨rfl, rfl⟩]; rfl
  · rw [p_II, if_neg (by omega), hy _ (by omega)]; exact v2
  · rw [p_II, if_neg (by omega), hy _ (by omega)]; exact (v3 b' hb').1
  · rw [p_II, if_neg (by omega), hy _ (by omega)]; exact (v3 b' hb').2.1
  · rw [p_II, if_neg (by omega), hy _ (by omega)]; exact (v3 b' hb').2.2 k' hk'
  · rw [hy _ (by omega)] at hi
    have := (P.1 i (by omega)).1
    rw [p_II, if_neg (by omega), hy _ (by omega)]
    exact v4 i j hi hj
theorem C_passes61 (F : WFS s) (hQ : ∀ a, Q a → Im a) (B : CB va th Q h sp s) (G : WFN s f) (hz : SZ st) {sd : Nat → Nat → Nat} (hsd : ∀ b k, b < z_nb s → sd b k < 1000) (C : CST s h st f) (D : ASD h st s f sd) :
    Ev (X5_passes_61 va th st 0 h) (fun H => FC (PPS st) h H ∧ CST s H st (yg s sd f) ∧ hI H st 2 = hI h st 2 + nI (lc s f)) := by
  have q4 := F.2.2.2.2.1
  have zz := hz
  unfold SZ at zz
  rw [X5_passes_61]
  refine ev_for (z_nb s) (fun b z => z.1 = nI b ∧ FC (PPS st) h z.2 ∧ CST s z.2 st (cR s f sd b 0) ∧ hI z.2 st 2 = hI h st 2 + nI (itr (fun b a => a + sB s f b) b 0)) ?_ ?_ 0 _ (Nat.zero_le _) ⟨rfl, FC.refl _ _, by rw [cR_0 F G]; exact C, by rw [itr]; exact (Int32.add_zero _).symm⟩
  · rintro b ⟨x, H⟩ hb ⟨hx, F2, C2, E2⟩
    simp only at hx F2 C2 E2
    subst hx
    have B2 := B.fc hQ F2 (McP_PPS hz)
    have K2 := B2.1
    have S2 := C2.1
    have D2 : ASD H st s f sd := fun b' k' hb' hk' => by rw [F2.i (by unfold PPS; omega)]; exact D b' k' hb' hk'
    simp (disch := first | assumption | ((repeat (first | with_reducible refine TKI ?_ | with_reducible refine TKL ?_ | with_reducible refine CKI ?_ | with_reducible refine CKL ?_)); assumption) | omega) only [X5_passes_61b, ↓bci_128, ci_128, ↓bcp_128, cp_128, ↓bco_128, co_128, ↓bcx_140, cx_140, ↓bcs_140, cs_140, ↓bcxl_140, cxl_140, ↓bcsl_140, csl_140, ↓bci_141, ci_141, ↓bcp_141, cp_141, ↓bco_141, co_141, ↓bci_142, ci_142, ↓bcp_142, cp_142, ↓bco_142, co_142, ↓bci_143, ci_143, ↓bcp_143, cp_143, ↓bco_143, co_143, ↓bcx_144, cx_144, ↓bcs_144, cs_144, ↓bcxl_144, cxl_144, ↓bcsl_144, csl_144, ↓bci_145, ci_145, ↓bcp_145, cp_145, ↓bco_145, co_145, ↓bcx_146, cx_146, ↓bcs_146, cs_146, ↓bcxl_146, cxl_146, ↓bcsl_146, csl_146, ↓bcx_147, cx_147, ↓bcs_147, cs_147, ↓bcxl_147, cxl_147, ↓bcsl_147, csl_147, ↓bci_256, ci_256, ↓bcp_256, cp_256, ↓bco_256, co_256, ↓bcx_258, cx_258, ↓bcs_258, cs_258, ↓bcxl_258, cxl_258, ↓bcsl_258, csl_258, ↓bcx_259, cx_259, ↓bcs_259, cs_259, ↓bcxl_259, cxl_259, ↓bcsl_259, csl_259, ↓bcx_260, cx_260, ↓bcs_260, cs_260, ↓bcxl_260, cxl_260, ↓bcsl_260, csl_260, ↓bcx_261, cx_261, ↓bcs_261, cs_261, ↓bcxl_261, cxl_261, ↓bcsl_261, csl_261, ↓bcx_262, cx_262, ↓bcs_262, cs_262, ↓bcxl_262, cxl_262, ↓bcsl_262, csl_262, ↓bcx_263, cx_263, ↓bcs_263, cs_263, ↓bcxl_263, cxl_263, ↓bcsl_263, csl_263, ↓bcx_264, cx_264, ↓bcs_264, cs_264, ↓bcxl_264, cxl_264, ↓bcsl_264, csl_264, ↓bcx_265, cx_265, ↓bcs_265, cs_265, ↓bcxl_265, cxl_265, ↓bcsl_265, csl_265, ↓bcx_266, cx_266, ↓bcs_266, cs_266, ↓bcxl_266, cxl_266, ↓bcsl_266, csl_266, ↓bcx_1348, cx_1348, ↓bcs_1348, cs_1348, ↓bcxl_1348, cxl_1348, ↓bcsl_1348, csl_1348, ↓bcg_128_1, cg_128_1, ↓bcg_128_5, cg_128_5, ↓bcg_128_6, cg_128_6, ↓bcg_128_7, cg_128_7, ↓bcg_128_8, cg_128_8, ↓bcg_128_9, cg_128_9, ↓bcg_128_10, cg_128_10, ↓bcg_128_11, cg_128_11, ↓bcg_128_12, cg_128_12, ↓bcg_128_16, cg_128_16, ↓bcg_141_0, cg_141_0, ↓bcg_141_7, cg_141_7, ↓bcg_143_0, cg_143_0, ↓bcg_145_0, cg_145_0, ↓bcg_256_6, cg_256_6, ↓bcg_256_7, cg_256_7, ↓bcg_256_8, cg_256_8, ↓bcg_256_9, cg_256_9, ↓Option.bind_some, ↓b2_some, ↓bX_l, ↓bX_r, Option.bind_some, Option.bind_none, b2_some, bX_l, bX_r, nn_e, if_true, if_false, reduceCtorEq, ↓reduceIte, Nat.reduceEqDiff, Nat.reduceLT, Nat.reduceLeDiff, Nat.reduceSubDiff, Nat.reduceAdd, Nat.reduceMul, nL0, nL1, nL2, ↓bd_of S2.g9, ↓b2_of (C_boards B2), hb]
    refine ev_mono (C_board77 F hQ B2 G hz hsd hb C2 D2) ?_
    rintro _ ⟨H3, rfl, F3, C3, E3⟩
    refine ⟨rfl, F2.trans F3, C3, ?_⟩
    rw [E3, E2, Int32.add_assoc, n_add]
    rfl
  · rintro ⟨x, H⟩ ⟨hx, F2, C2, E2⟩
    simp only at hx F2 C2 E2
    subst hx
    have B2 := B.fc hQ F2 (McP_PPS hz)
    have K2 := B2.1
    have S2 := C2.1
    simp (disch := first | assumption | ((repeat (first | with_reducible refine TKI ?_ | with_reducible refine TKL ?_ | with_reducible refine CKI ?_ | with_reducible refine CKL ?_)); assumption) | omega) only [X5_passes_61b, X5_passes_192, ↓bci_128, ci_128, ↓bcp_128, cp_128, ↓bco_128, co_128, ↓bcx_140, cx_140, ↓bcs_140, cs_140, ↓bcxl_140, cxl_140, ↓bcsl_140, csl_140, ↓bci_141, ci_141, ↓bcp_141, cp_141, ↓bco_141, co_141, ↓bci_142, ci_142, ↓bcp_142, cp_142, ↓bco_142, co_142, ↓bci_143, ci_143, ↓bcp_143, cp_143, ↓bco_143, co_143, ↓bcx_144, cx_144, ↓bcs_144, cs_144, ↓bcxl_144, cxl_144, ↓bcsl_144, csl_144, ↓bci_145, ci_145, ↓bcp_145, cp_145, ↓bco_145, co_145, ↓bcx_146, cx_146, ↓bcs_146, cs_146, ↓bcxl_146, cxl_146, ↓bcsl_146, csl_146, ↓bcx_147, cx_147, ↓bcs_147, cs_147, ↓bcxl_147, cxl_147, ↓bcsl_147, csl_147, ↓bci_256, ci_256, ↓bcp_256, cp_256, ↓bco_256, co_256, ↓bcx_258, cx_258, ↓bcs_258, cs_258, ↓bcxl_258, cxl_258, ↓bcsl_258, csl_258, ↓bcx_259, cx_259, ↓bcs_259, cs_259, ↓bcxl_259, cxl_259, ↓bcsl_259, csl_259, ↓bcx_260, cx_260, ↓bcs_260, cs_260, ↓bcxl_260, cxl_260, ↓bcsl_260, csl_260, ↓bcx_261, cx_261, ↓bcs_261, cs_261, ↓bcxl_261, cxl_261, ↓bcsl_261, csl_261, ↓bcx_262, cx_262, ↓bcs_262, cs_262, ↓bcxl_262, cxl_262, ↓bcsl_262, csl_262, ↓bcx_263, cx_263, ↓bcs_263, cs_263, ↓bcxl_263, cxl_263, ↓bcsl_263, csl_263, ↓bcx_264, cx_264, ↓bcs_264, cs_264, ↓bcxl_264, cxl_264, ↓bcsl_264, csl_264, ↓bcx_265, cx_265, ↓bcs_265, cs_265, ↓bcxl_265, cxl_265, ↓bcsl_265, csl_265, ↓bcx_266, cx_266, ↓bcs_266, cs_266, ↓bcxl_266, cxl_266, ↓bcsl_266, csl_266, ↓bcx_1348, cx_1348, ↓bcs_1348, cs_1348, ↓bcxl_1348, cxl_1348, ↓bcsl_1348, csl_1348, ↓bcg_128_1, cg_128_1, ↓bcg_128_5, cg_128_5, ↓bcg_128_6, cg_128_6, ↓bcg_128_7, cg_128_7, ↓bcg_128_8, cg_128_8, ↓bcg_128_9, cg_128_9, ↓bcg_128_10, cg_128_10, ↓bcg_128_11, cg_128_11, ↓bcg_128_12, cg_128_12, ↓bcg_128_16, cg_128_16, ↓bcg_141_0, cg_141_0, ↓bcg_141_7, cg_141_7, ↓bcg_143_0, cg_143_0, ↓bcg_145_0, cg_145_0, ↓bcg_256_6, cg_256_6, ↓bcg_256_7, cg_256_7, ↓bcg_256_8, cg_256_8, ↓bcg_256_9, cg_256_9, ↓Option.bind_some, ↓b2_some, ↓bX_l, ↓bX_r, Option.bind_some, Option.bind_none, b2_some, bX_l, bX_r, nn_e, if_true, if_false, reduceCtorEq, ↓reduceIte, Nat.reduceEqDiff, Nat.reduceLT, Nat.reduceLeDiff, Nat.reduceSubDiff, Nat.reduceAdd, Nat.reduceMul, nL0, nL1, nL2, ↓bd_of S2.g9, ↓b2_of (C_boards B2), Nat.lt_irrefl, ↓bd_of (S2.gi 0), ↓bd_of (S2.pi 0 _), C2.y.1, nA1]
    rw [Ev_some]
    refine ⟨F2.wI (by unfold PPS; omega), ?_, ?_⟩
    · rw [← cR_end]
      exact C2.yr q4 (cR_wf F G sd _ _).2.2
    · rw [p_II, if_neg (by omega)]
      exact E2
theorem C_ahead (F : WFS s) (hQ : ∀ a, Q a → Im a) (B : CB va th Q h sp s) (G : WFN s f) (hz : SZ st) (C : CST s h st f) {x1 : Int32} {P : AH → Prop} (K : ∀ H, FC (PAH st) h H → ASD H st s f (sdf s f) → Ev (X5_passes_51 va th st x1 H) P) : Ev (X5_passes va th st x1 h) P := by
  have q4 := F.2.2.2.2.1
  have zz := hz
  unfold SZ at zz
  have h40 := G.2.2
  rw [X5_passes, X5_passes_2]
  refine ev_for (z_nb s) (fun b z => z.1 = nI b ∧ FC (PAH st) h z.2 ∧ ∀ b' k', b' < b → k' < z_wl s (f (1 + 8 * b')) → hI z.2 (st + 50 + b') k' = nI (sdf s f b' k')) ?_ ?_ 0 _ (Nat.zero_le _) ⟨rfl, FC.refl _ _, fun b' k' z => absurd z (Nat.not_lt_zero _)⟩
  · rintro b ⟨x, H⟩ hb ⟨hx, F2, A2⟩
    simp only at hx F2 A2
    subst hx
    have B2 := B.fc hQ F2 (McP_PAH hz)
    have K2 := B2.1
    have C2 : CST s H st f := C.fc F2 q4 h40 (fun a k z => by unfold PAH; omega)
    have S2 := C2.1
    obtain ⟨g1, g2, -, g3⟩ := G.2.1 b hb
    have h6b := WFN_6 F G b hb
    have hb4 : b < 4 := by omega
    simp (disch := first | assumption | ((repeat (first | with_reducible refine TKI ?_ | with_reducible refine TKL ?_ | with_reducible refine CKI ?_ | with_reducible refine CKL ?_)); assumption) | omega) only [X5_passes_2b, ↓bci_128, ci_128, ↓bcp_128, cp_128, ↓bco_128, co_128, ↓bcx_140, cx_140, ↓bcs_140, cs_140, ↓bcxl_140, cxl_140, ↓bcsl_140, csl_140, ↓bci_141, ci_141, ↓bcp_141, cp_141, ↓bco_141, co_141, ↓bci_142, ci_142, ↓bcp_142, cp_142, ↓bco_142, co_142, ↓bci_143, ci_143, ↓bcp_143, cp_143, ↓bco_143, co_143, ↓bcx_144, cx_144, ↓bcs_144, cs_144, ↓bcxl_144, cxl_144, ↓bcsl_144, csl_144, ↓bci_145, ci_145, ↓bcp_145, cp_145, ↓bco_145, co_145, ↓bcx_146, cx_146, ↓bcs_146, cs_146, ↓bcxl_146, cxl_146, ↓bcsl_146, csl_146, ↓bcx_147, cx_147, ↓bcs_147, cs_147, ↓bcxl_147, cxl_147, ↓bcsl_147, csl_147, ↓bci_256, ci_256, ↓bcp_256, cp_256, ↓bco_256, co_256, ↓bcx_258, cx_258, ↓bcs_258, cs_258, ↓bcxl_258, cxl_258, ↓bcsl_258, csl_258, ↓bcx_259, cx_259, ↓bcs_259, cs_259, ↓bcxl_259, cxl_259, ↓bcsl_259, csl_259, ↓bcx_260, cx_260, ↓bcs_260, cs_260, ↓bcxl_260, cxl_260, ↓bcsl_260, csl_260, ↓bcx_261, cx_261, ↓bcs_261, cs_261, ↓bcxl_261, cxl_261, ↓bcsl_261, csl_261, ↓bcx_262, cx_262, ↓bcs_262, cs_262, ↓bcxl_262, cxl_262, ↓bcsl_262, csl_262, ↓bcx_263, cx_263, ↓bcs_263, cs_263, ↓bcxl_263, cxl_263, ↓bcsl_263, csl_263, ↓bcx_264, cx_264, ↓bcs_264, cs_264, ↓bcxl_264, cxl_264, ↓bcsl_264, csl_264, ↓bcx_265, cx_265, ↓bcs_265, cs_265, ↓bcxl_265, cxl_265, ↓bcsl_265, csl_265, ↓bcx_266, cx_266, ↓bcs_266, cs_266, ↓bcxl_266, cxl_266, ↓bcsl_266, csl_266, ↓bcx_1348, cx_1348, ↓bcs_1348, cs_1348, ↓bcxl_1348, cxl_1348, ↓bcsl_1348, csl_1348, ↓bcg_128_1, cg_128_1, ↓bcg_128_5, cg_128_5, ↓bcg_128_6, cg_128_6, ↓bcg_128_7, cg_128_7, ↓bcg_128_8, cg_128_8, ↓bcg_128_9, cg_128_9, ↓bcg_128_10, cg_128_10, ↓bcg_128_11, cg_128_11, ↓bcg_128_12, cg_128_12, ↓bcg_128_16, cg_128_16, ↓bcg_141_0, cg_141_0, ↓bcg_141_7, cg_141_7, ↓bcg_143_0, cg_143_0, ↓bcg_145_0, cg_145_0, ↓bcg_256_6, cg_256_6, ↓bcg_256_7, cg_256_7, ↓bcg_256_8, cg_256_8, ↓bcg_256_9, cg_256_9, ↓Option.bind_some, ↓b2_some, ↓bX_l, ↓bX_r, Option.bind_some, Option.bind_none, b2_some, bX_l, bX_r, nn_e, if_true, if_false, reduceCtorEq, ↓reduceIte, Nat.reduceEqDiff, Nat.reduceLT, Nat.reduceLeDiff, Nat.reduceSubDiff, Nat.reduceAdd, Nat.reduceMul, nL0, nL1, nL2, ↓bd_of S2.g9, ↓b2_of (C_boards B2), hb, X5_passes_15]
    have inner : Ev (loopC (fun z : Int32 × AH => X5_passes_15b va th st x1 (nI b) z.1 z.2) (0, H)) (fun o => ∃ H', o = .inl (nI (b + 1), H') ∧ FC (PAH st) h H' ∧ ∀ b' k', b' < b + 1 → k' < z_wl s (f (1 + 8 * b')) → hI H' (st + 50 + b') k' = nI (sdf s f b' k')) := by
      refine ev_for (z_wl s (f (1 + 8 * b))) (fun k z => z.1 = nI k ∧ FC (PAH st) h z.2 ∧ ∀ b' k', (b' < b ∨ (b' = b ∧ k' < k)) → k' < z_wl s (f (1 + 8 * b')) → hI z.2 (st + 50 + b') k' = nI (sdf s f b' k')) ?_ ?_ 0 _ (Nat.zero_le _) ⟨rfl, F2, fun b' k' z => A2 b' k' (by omega)⟩
      · rintro k ⟨x, H3⟩ hk ⟨hx, F3, A3⟩
        simp only at hx F3 A3
        subst hx
        have B3 := B.fc hQ F3 (McP_PAH hz)
        have C3 : CST s H3 st f := C.fc F3 q4 h40 (fun a k z => by unfold PAH; omega)
        have S3 := C3.1
        obtain ⟨c1, c2, c3⟩ := C3.b hb
        have hk6 : k < 6 := by omega
        simp (disch := first | assumption | ((repeat (first | with_reducible refine TKI ?_ | with_reducible refine TKL ?_ | with_reducible refine CKI ?_ | with_reducible refine CKL ?_)); assumption) | omega) only [X5_passes_15b, ↓Option.bind_some, ↓b2_some, ↓bX_l, ↓bX_r, Option.bind_some, Option.bind_none, b2_some, bX_l, bX_r, nn_e, if_true, if_false, reduceCtorEq, ↓reduceIte, Nat.reduceEqDiff, Nat.reduceLT, Nat.reduceLeDiff, Nat.reduceSubDiff, Nat.reduceAdd, Nat.reduceMul, nL0, nL1, nL2, ↓bd_of S3.o, ↓b2_of (C_places F B3 S3 hb4 g1 c1), hk, ↓bd_of S3.g8, ↓bd_of (S3.x49 hb4), Ev_b2]
        refine ev_mono (C_ssays F hQ B3 S3 (how := 0) hb4 g1 g2 (by decide) hk c1 c2 (by rw [plH0]; exact c3 k hk6) (g3 k hk6)) ?_
        rintro ⟨v, H4⟩ ⟨hv, F4⟩
        simp only at hv F4
        subst hv
        have S4 := S3.ft F4
        rw [tN_0 (g3 k hk6), show rd s (f (2 + 8 * b)) (f (3 + 8 * b + k)) = sdf s f b k from rfl]
        simp (disch := first | assumption | ((repeat (first | with_reducible refine TKI ?_ | with_reducible refine TKL ?_ | with_reducible refine CKI ?_ | with_reducible refine CKL ?_)); assumption) | omega) only [↓Option.bind_some, ↓b2_some, ↓bX_l, ↓bX_r, Option.bind_some, Option.bind_none, b2_some, bX_l, bX_r, nn_e, if_true, if_false, reduceCtorEq, ↓reduceIte, Nat.reduceEqDiff, Nat.reduceLT, Nat.reduceLeDiff, Nat.reduceSubDiff, Nat.reduceAdd, Nat.reduceMul, ↓bd_of (S4.s50 hb4 hk6), nA1]
        rw [Ev_some]
        refine ⟨rfl, (F3.trans (F4.fc.mono (fun a k z => by unfold PC1 at z; unfold PAH; omega))).wI (by unfold PAH; omega), fun b' k' z1 z2 => ?_⟩
        simp only
        rw [p_II]
        by_cases e : b' = b ∧ k' = k
        · rw [if_pos (by omega), e.1, e.2]
        · rw [if_neg (by omega), F4.i (by unfold PC1; omega)]
          exact A3 b' k' (by omega) z2
      · rintro ⟨x, H3⟩ ⟨hx, F3, A3⟩
        simp only at hx F3 A3
        subst hx
        have B3 := B.fc hQ F3 (McP_PAH hz)
        have C3 : CST s H3 st f := C.fc F3 q4 h40 (fun a k z => by unfold PAH; omega)
        have S3 := C3.1
        obtain ⟨c1, c2, c3⟩ := C3.b hb
        simp (disch := first | assumption | ((repeat (first | with_reducible refine TKI ?_ | with_reducible refine TKL ?_ | with_reducible refine CKI ?_ | with_reducible refine CKL ?_)); assumption) | omega) only [X5_passes_15b, ↓Option.bind_some, ↓b2_some, ↓bX_l, ↓bX_r, Option.bind_some, Option.bind_none, b2_some, bX_l, bX_r, nn_e, if_true, if_false, reduceCtorEq, ↓reduceIte, Nat.reduceEqDiff, Nat.reduceLT, Nat.reduceLeDiff, Nat.reduceSubDiff, Nat.reduceAdd, Nat.reduceMul, nL0, nL1, nL2, ↓bd_of S3.o, ↓b2_of (C_places F B3 S3 hb4 g1 c1), Nat.lt_irrefl, nA1]
        rw [Ev_some]
        exact ⟨H3, rfl, F3, fun b' k' z1 z2 => A3 b' k' (by
          rcases Nat.lt_or_ge b' b with y | y
          · exact Or.inl y
          · have : b' = b := by omega
            subst this
            exact Or.inr ⟨rfl, z2⟩) z2⟩
    refine ev_mono inner ?_
    rintro _ ⟨H', rfl, F5, A5⟩
    exact ⟨rfl, F5, A5⟩
  · rintro ⟨x, H⟩ ⟨hx, F2, A2⟩
    simp only at hx F2 A2
    subst hx
    have B2 := B.fc hQ F2 (McP_PAH hz)
    have K2 := B2.1
    have C2 : CST s H st f := C.fc F2 q4 h40 (fun a k z => by unfold PAH; omega)
    have S2 := C2.1
    simp (disch := first | assumption | ((repeat (first | with_reducible refine TKI ?_ | with_reducible refine TKL ?_ | with_reducible refine CKI ?_ | with_reducible refine CKL ?_)); assumption) | omega) only [X5_passes_2b, ↓bci_128, ci_128, ↓bcp_128, cp_128, ↓bco_128, co_128, ↓bcx_140, cx_140, ↓bcs_140, cs_140, ↓bcxl_140, cxl_140, ↓bcsl_140, csl_140, ↓bci_141, ci_141, ↓bcp_141, cp_141, ↓bco_141, co_141, ↓bci_142, ci_142, ↓bcp_142, cp_142, ↓bco_142, co_142, ↓bci_143, ci_143, ↓bcp_143, cp_143, ↓bco_143, co_143, ↓bcx_144, cx_144, ↓bcs_144, cs_144, ↓bcxl_144, cxl_144, ↓bcsl_144, csl_144, ↓bci_145, ci_145, ↓bcp_145, cp_145, ↓bco_145, co_145, ↓bcx_146, cx_146, ↓bcs_146, cs_146, ↓bcxl_146, cxl_146, ↓bcsl_146, csl_146, ↓bcx_147, cx_147, ↓bcs_147, cs_147, ↓bcxl_147, cxl_147, ↓bcsl_147, csl_147, ↓bci_256, ci_256, ↓bcp_256, cp_256, ↓bco_256, co_256, ↓bcx_258, cx_258, ↓bcs_258, cs_258, ↓bcxl_258, cxl_258, ↓bcsl_258, csl_258, ↓bcx_259, cx_259, ↓bcs_259, cs_259, ↓bcxl_259, cxl_259, ↓bcsl_259, csl_259, ↓bcx_260, cx_260, ↓bcs_260, cs_260, ↓bcxl_260, cxl_260, ↓bcsl_260, csl_260, ↓bcx_261, cx_261, ↓bcs_261, cs_261, ↓bcxl_261, cxl_261, ↓bcsl_261, csl_261, ↓bcx_262, cx_262, ↓bcs_262, cs_262, ↓bcxl_262, cxl_262, ↓bcsl_262, csl_262, ↓bcx_263, cx_263, ↓bcs_263, cs_263, ↓bcxl_263, cxl_263, ↓bcsl_263, csl_263, ↓bcx_264, cx_264, ↓bcs_264, cs_264, ↓bcxl_264, cxl_264, ↓bcsl_264, csl_264, ↓bcx_265, cx_265, ↓bcs_265, cs_265, ↓bcxl_265, cxl_265, ↓bcsl_265, csl_265, ↓bcx_266, cx_266, ↓bcs_266, cs_266, ↓bcxl_266, cxl_266, ↓bcsl_266, csl_266, ↓bcx_1348, cx_1348, ↓bcs_1348, cs_1348, ↓bcxl_1348, cxl_1348, ↓bcsl_1348, csl_1348, ↓bcg_128_1, cg_128_1, ↓bcg_128_5, cg_128_5, ↓bcg_128_6, cg_128_6, ↓bcg_128_7, cg_128_7, ↓bcg_128_8, cg_128_8, ↓bcg_128_9, cg_128_9, ↓bcg_128_10, cg_128_10, ↓bcg_128_11, cg_128_11, ↓bcg_128_12, cg_128_12, ↓bcg_128_16, cg_128_16, ↓bcg_141_0, cg_141_0, ↓bcg_141_7, cg_141_7, ↓bcg_143_0, cg_143_0, ↓bcg_145_0, cg_145_0, ↓bcg_256_6, cg_256_6, ↓bcg_256_7, cg_256_7, ↓bcg_256_8, cg_256_8, ↓bcg_256_9, cg_256_9, ↓Option.bind_some, ↓b2_some, ↓bX_l, ↓bX_r, Option.bind_some, Option.bind_none, b2_some, bX_l, bX_r, nn_e, if_true, if_false, reduceCtorEq, ↓reduceIte, Nat.reduceEqDiff, Nat.reduceLT, Nat.reduceLeDiff, Nat.reduceSubDiff, Nat.reduceAdd, Nat.reduceMul, nL0, nL1, nL2, ↓bd_of S2.g9, ↓b2_of (C_boards B2), Nat.lt_irrefl]
    obtain ⟨H3, h3, p3⟩ := K H F2 A2
    rw [h3, Option.bind_some, Ev_some]
    exact p3
theorem C_passes0 (F : WFS s) (hQ : ∀ a, Q a → Im a) (B : CB va th Q h sp s) (G : WFN s f) (hz : SZ st) (C : CST s h st f) : Ev (X5_passes va th st 0 h) (fun H => FC (PYR st) h H ∧ CST s H st (yg s (sdf s f) f) ∧ hI H st 2 = hI h st 2 + nI (lc s f)) := by
  have q4 := F.2.2.2.2.1
  have zz := hz
  unfold SZ at zz
  refine C_ahead F hQ B G hz C (fun H F2 D => ?_)
  have B2 := B.fc hQ F2 (McP_PAH hz)
  have C2 : CST s H st f := C.fc F2 q4 G.2.2 (fun a k z => by unfold PAH; omega)
  rw [X5_passes_51, if_pos rfl]
  refine ev_mono (C_passes61 F hQ B2 G hz (fun b k hb => sdf_lt F G hb) C2 D) ?_
  rintro H3 ⟨F3, C3, E3⟩
  exact ⟨(F2.mono (fun a k z => Or.inr z)).trans (F3.mono (fun a k z => Or.inl z)), C3, by rw [E3, F2.i (by unfold PAH; omega)]⟩
theorem C_years (F : WFS s) (hQ : ∀ a, Q a → Im a) (B : CB va th Q h sp s) (G : WFN s f) (hz : SZ st) (C : CST s h st f) {n : Nat} (hn : f 0 + n ≤ 999) : Ev (X5_years va th st (nI n) h) (fun z => z.1 = some st ∧ FC (PYR st) h z.2 ∧ CST s z.2 st (ygs s n f) ∧ hI z.2 st 2 = hI h st 2 + nI (ysm s n f)) := by
  rw [X5_years, X5_years_2]
  refine ev_for n (fun k z => z.1 = nI k ∧ FC (PYR st) h z.2 ∧ CST s z.2 st (ygs s k f) ∧ hI z.2 st 2 = hI h st 2 + nI (ysm s k f)) ?_ ?_ 0 _ (Nat.zero_le _) ⟨rfl, FC.refl _ _, C, by rw [ysm, itr]; exact (Int32.add_zero _).symm⟩
  · rintro k ⟨x, H⟩ hk ⟨hx, F2, C2, E2⟩
    simp only at hx F2 C2 E2
    subst hx
    have B2 := B.fc hQ F2 (McP_PYR hz)
    obtain ⟨G2, -⟩ := ygs_ok F G k (by omega)
    obtain ⟨H3, h3, F3, C3, E3⟩ := C_passes0 F hQ B2 G2 hz C2
    simp (disch := first | assumption | ((repeat (first | with_reducible refine TKI ?_ | with_reducible refine TKL ?_ | with_reducible refine CKI ?_ | with_reducible refine CKL ?_)); assumption) | omega) only [X5_years_2b, ↓Option.bind_some, ↓b2_some, ↓bX_l, ↓bX_r, Option.bind_some, Option.bind_none, b2_some, bX_l, bX_r, nn_e, if_true, if_false, reduceCtorEq, ↓reduceIte, Nat.reduceEqDiff, Nat.reduceLT, Nat.reduceLeDiff, Nat.reduceSubDiff, Nat.reduceAdd, Nat.reduceMul, nL0, nL1, nL2, hk, ↓bd_of C2.1.o, ↓bd_of h3, nA1]
    rw [Ev_some]
    refine ⟨rfl, F2.trans F3, C3, ?_⟩
    simp only
    rw [E3, E2, Int32.add_assoc, n_add]
    rfl
  · rintro ⟨x, H⟩ ⟨hx, F2, C2, E2⟩
    simp only at hx F2 C2 E2
    subst hx
    simp (disch := first | assumption | ((repeat (first | with_reducible refine TKI ?_ | with_reducible refine TKL ?_ | with_reducible refine CKI ?_ | with_reducible refine CKL ?_)); assumption) | omega) only [X5_years_2b, ↓Option.bind_some, ↓b2_some, ↓bX_l, ↓bX_r, Option.bind_some, Option.bind_none, b2_some, bX_l, bX_r, nn_e, if_true, if_false, reduceCtorEq, ↓reduceIte, Nat.reduceEqDiff, Nat.reduceLT, Nat.reduceLeDiff, Nat.reduceSubDiff, Nat.reduceAdd, Nat.reduceMul, nL0, nL1, nL2, Nat.lt_irrefl]
    rw [Ev_some]
    exact ⟨rfl, F2, C2, E2⟩
end CYears
