set_option maxRecDepth 100000
/-! ===== the class: what is kept to come back to ===== -/
/-- n states are kept, in the order p, with rows V -/
def CU1 (h : AH) (s : SH) (n : Nat) (p : Nat → Nat) (V : Nat → RW) : Prop := hI h 128 13 = nI n ∧ ((∀ i, i < 20 → p i < 20 ∧ hR h 267 i = some (268 + 54 * p i)) ∧ ∀ i j, i < 20 → j < 20 → p i = p j → i = j) ∧ (∀ j, j < 20 → STK h (268 + 54 * j) ∧ ∃ q, PRM h (268 + 54 * j) q) ∧ ∀ i, i < n → CST s h (268 + 54 * p i) (V i) ∧ V i 33 ≤ 40
def CUN (h : AH) (s : SH) (U : List RW) : Prop := U.length ≤ 20 ∧ ∃ p, CU1 h s U.length p (fun i => U.getD (U.length - 1 - i) (fun _ => 0))
def PKP (a k : Nat) : Prop := (a = 128 ∧ k = 13) ∨ (267 ≤ a ∧ a < 1348)
theorem McP_PKP : McP PKP := fun a k z => by unfold PKP at z; unfold Mc PRT; omega
theorem CU1.fc {P : Nat → Nat → Prop} {h h' : AH} {s : SH} {n : Nat} {p : Nat → Nat} {V : Nat → RW} (F : FC P h h') (h4 : z_nb s ≤ 4) (hn : n ≤ 20) (hP : ∀ a k, (a = 128 ∧ k = 13) ∨ (267 ≤ a ∧ a < 1348) → ¬ P a k) (C : CU1 h s n p V) : CU1 h' s n p V := by
  obtain ⟨c1, ⟨c2, c3⟩, c4, c5⟩ := C
  refine ⟨(F.i (hP _ _ (by omega))).trans c1, ⟨fun i hi => ⟨(c2 i hi).1, (F.r (hP _ _ (by omega))).trans (c2 i hi).2⟩, c3⟩, fun j hj => ⟨(c4 j hj).1.fc F (fun a k z => hP a k (by omega)), ?_⟩, fun i hi => ⟨(c5 i hi).1.fc F h4 (c5 i hi).2 (fun a k z => hP a k (by have := (c2 i (by omega)).1; omega)), (c5 i hi).2⟩⟩
  obtain ⟨q, R⟩ := (c4 j hj).2
  exact ⟨q, R.fc F (fun k => hP _ _ (by omega))⟩
section CKeep
variable {va : VaT} {th : ThT} {Q : Nat → Prop} {h : AH} {sp : Nat} {s : SH} {f : RW}
theorem C_keeps62 (F : WFS s) (hQ : ∀ a, Q a → Im a) (B : CB va th Q h sp s) (C : CNW s h f) (G : WFN s f) {n : Nat} {p : Nat → Nat} {V : Nat → RW} (hn : n < 20) (U : CU1 h s n p V) : Ev (X0_keeps_62 128 h) (fun H => FC PKP h H ∧ CU1 H s (n + 1) p (fun i => if i = n then f else V i) ∧ CNW s H f) := by
  have h4 := F.2.2.2.2.1
  have K := B.1
  obtain ⟨c1, ⟨c2, c3⟩, c4, c5⟩ := U
  obtain ⟨pn, rn⟩ := c2 n hn
  have xn : xR 107 (some 267) (nI n) h = some (some (268 + 54 * p n)) := by rw [xR_e (ck_267 K) hn (by decide), rn]
  obtain ⟨T, q, R⟩ := c4 _ pn
  simp (disch := first | assumption | ((repeat (first | with_reducible refine TKI ?_ | with_reducible refine TKL ?_ | with_reducible refine CKI ?_ | with_reducible refine CKL ?_)); assumption) | omega) only [X0_keeps_62, ↓bci_128, ci_128, ↓bcp_128, cp_128, ↓bco_128, co_128, ↓bcx_140, cx_140, ↓bcs_140, cs_140, ↓bcxl_140, cxl_140, ↓bcsl_140, csl_140, ↓bci_141, ci_141, ↓bcp_141, cp_141, ↓bco_141, co_141, ↓bci_142, ci_142, ↓bcp_142, cp_142, ↓bco_142, co_142, ↓bci_143, ci_143, ↓bcp_143, cp_143, ↓bco_143, co_143, ↓bcx_144, cx_144, ↓bcs_144, cs_144, ↓bcxl_144, cxl_144, ↓bcsl_144, csl_144, ↓bci_145, ci_145, ↓bcp_145, cp_145, ↓bco_145, co_145, ↓bcx_146, cx_146, ↓bcs_146, cs_146, ↓bcxl_146, cxl_146, ↓bcsl_146, csl_146, ↓bcx_147, cx_147, ↓bcs_147, cs_147, ↓bcxl_147, cxl_147, ↓bcsl_147, csl_147, ↓bci_256, ci_256, ↓bcp_256, cp_256, ↓bco_256, co_256, ↓bcx_258, cx_258, ↓bcs_258, cs_258, ↓bcxl_258, cxl_258, ↓bcsl_258, csl_258, ↓bcx_259, cx_259, ↓bcs_259, cs_259, ↓bcxl_259, cxl_259, ↓bcsl_259, csl_259, ↓bcx_260, cx_260, ↓bcs_260, cs_260, ↓bcxl_260, cxl_260, ↓bcsl_260, csl_260, ↓bcx_261, cx_261, ↓bcs_261, cs_261, ↓bcxl_261, cxl_261, ↓bcsl_261, csl_261, ↓bcx_262, cx_262, ↓bcs_262, cs_262, ↓bcxl_262, cxl_262, ↓bcsl_262, csl_262, ↓bcx_263, cx_263, ↓bcs_263, cs_263, ↓bcxl_263, cxl_263, ↓bcsl_263, csl_263, ↓bcx_264, cx_264, ↓bcs_264, cs_264, ↓bcxl_264, cxl_264, ↓bcsl_264, csl_264, ↓bcx_265, cx_265, ↓bcs_265, cs_265, ↓bcxl_265, cxl_265, ↓bcsl_265, csl_265, ↓bcx_266, cx_266, ↓bcs_266, cs_266, ↓bcxl_266, cxl_266, ↓bcsl_266, csl_266, ↓bcx_1348, cx_1348, ↓bcs_1348, cs_1348, ↓bcxl_1348, cxl_1348, ↓bcsl_1348, csl_1348, ↓bcg_128_1, cg_128_1, ↓bcg_128_5, cg_128_5, ↓bcg_128_6, cg_128_6, ↓bcg_128_7, cg_128_7, ↓bcg_128_8, cg_128_8, ↓bcg_128_9, cg_128_9, ↓bcg_128_10, cg_128_10, ↓bcg_128_11, cg_128_11, ↓bcg_128_12, cg_128_12, ↓bcg_128_16, cg_128_16, ↓bcg_141_0, cg_141_0, ↓bcg_141_7, cg_141_7, ↓bcg_143_0, cg_143_0, ↓bcg_145_0, cg_145_0, ↓bcg_256_6, cg_256_6, ↓bcg_256_7, cg_256_7, ↓bcg_256_8, cg_256_8, ↓bcg_256_9, cg_256_9, ↓Option.bind_some, ↓b2_some, ↓bX_l, ↓bX_r, Option.bind_some, Option.bind_none, b2_some, bX_l, bX_r, nn_e, if_true, if_false, reduceCtorEq, ↓reduceIte, Nat.reduceEqDiff, Nat.reduceLT, Nat.reduceLeDiff, Nat.reduceSubDiff, Nat.reduceAdd, Nat.reduceMul, c1, ↓bd_of xn, ↓bd_of T.o, Ev_b2]
  refine ev_mono (C_copy C.1 h4 G.2.2 T R (by omega)) ?_
  rintro ⟨y, H⟩ ⟨rfl, F2, C2⟩
  simp only at F2 C2
  have F3 : FC PKP h H := F2.mono (fun a k z => by unfold PCP at z; unfold PKP; omega)
  have B3 := B.fc hQ F3 McP_PKP
  have K3 := B3.1
  have e13 : hI H 128 13 = nI n := (F2.i (by unfold PCP; omega)).trans c1
  simp (disch := first | assumption | ((repeat (first | with_reducible refine TKI ?_ | with_reducible refine TKL ?_ | with_reducible refine CKI ?_ | with_reducible refine CKL ?_)); assumption) | omega) only [↓bci_128, ci_128, ↓bcp_128, cp_128, ↓bco_128, co_128, ↓bcx_140, cx_140, ↓bcs_140, cs_140, ↓bcxl_140, cxl_140, ↓bcsl_140, csl_140, ↓bci_141, ci_141, ↓bcp_141, cp_141, ↓bco_141, co_141, ↓bci_142, ci_142, ↓bcp_142, cp_142, ↓bco_142, co_142, ↓bci_143, ci_143, ↓bcp_143, cp_143, ↓bco_143, co_143, ↓bcx_144, cx_144, ↓bcs_144, cs_144, ↓bcxl_144, cxl_144, ↓bcsl_144, csl_144, ↓bci_145, ci_145, ↓bcp_145, cp_145, ↓bco_145, co_145, ↓bcx_146, cx_146, ↓bcs_146, cs_146, ↓bcxl_146, cxl_146, ↓bcsl_146, csl_146, ↓bcx_147, cx_147, ↓bcs_147, cs_147, ↓bcxl_147, cxl_147, ↓bcsl_147, csl_147, ↓bci_256, ci_256, ↓bcp_256, cp_256, ↓bco_256, co_256, ↓bcx_258, cx_258, ↓bcs_258, cs_258, ↓bcxl_258, cxl_258, ↓bcsl_258, csl_258, ↓bcx_259, cx_259, ↓bcs_259, cs_259, ↓bcxl_259, cxl_259, ↓bcsl_259, csl_259, ↓bcx_260, cx_260, ↓bcs_260, cs_260, ↓bcxl_260, cxl_260, ↓bcsl_260, csl_260, ↓bcx_261, cx_261, ↓bcs_261, cs_261, ↓bcxl_261, cxl_261, ↓bcsl_261, csl_261, ↓bcx_262, cx_262, ↓bcs_262, cs_262, ↓bcxl_262, cxl_262, ↓bcsl_262, csl_262, ↓bcx_263, cx_263, ↓bcs_263, cs_263, ↓bcxl_263, cxl_263, ↓bcsl_263, csl_263, ↓bcx_264, cx_264, ↓bcs_264, cs_264, ↓bcxl_264, cxl_264, ↓bcsl_264, csl_264, ↓bcx_265, cx_265, ↓bcs_265, cs_265, ↓bcxl_265, cxl_265, ↓bcsl_265, csl_265, ↓bcx_266, cx_266, ↓bcs_266, cs_266, ↓bcxl_266, cxl_266, ↓bcsl_266, csl_266, ↓bcx_1348, cx_1348, ↓bcs_1348, cs_1348, ↓bcxl_1348, cxl_1348, ↓bcsl_1348, csl_1348, ↓bcg_128_1, cg_128_1, ↓bcg_128_5, cg_128_5, ↓bcg_128_6, cg_128_6, ↓bcg_128_7, cg_128_7, ↓bcg_128_8, cg_128_8, ↓bcg_128_9, cg_128_9, ↓bcg_128_10, cg_128_10, ↓bcg_128_11, cg_128_11, ↓bcg_128_12, cg_128_12, ↓bcg_128_16, cg_128_16, ↓bcg_141_0, cg_141_0, ↓bcg_141_7, cg_141_7, ↓bcg_143_0, cg_143_0, ↓bcg_145_0, cg_145_0, ↓bcg_256_6, cg_256_6, ↓bcg_256_7, cg_256_7, ↓bcg_256_8, cg_256_8, ↓bcg_256_9, cg_256_9, ↓Option.bind_some, ↓b2_some, ↓bX_l, ↓bX_r, Option.bind_some, Option.bind_none, b2_some, bX_l, bX_r, nn_e, if_true, if_false, reduceCtorEq, ↓reduceIte, Nat.reduceEqDiff, Nat.reduceLT, Nat.reduceLeDiff, Nat.reduceSubDiff, Nat.reduceAdd, Nat.reduceMul, e13, nA1]
  rw [Ev_some]
  have FW : FC (fun a k => a = 128 ∧ k = 13) H (wI 128 13 (nI (n + 1)) H) := (FC.refl _ H).wI ⟨rfl, rfl⟩
  have N2 : CNW s H f := C.fc F2 h4 G.2.2 (fun a k z => by unfold PCP; omega)
  refine ⟨F3.wI (by unfold PKP; omega), ⟨by rw [p_II, if_pos ⟨rfl, rfl⟩], ⟨fun i hi => ⟨(c2 i hi).1, (F2.r (by unfold PCP; omega)).trans (c2 i hi).2⟩, c3⟩, fun j hj => ?_, fun i hi => ?_⟩, N2.fc FW h4 G.2.2 (fun a k z => by omega)⟩
  · by_cases e : j = p n
    · subst e
      obtain ⟨K2, q2, R2, -⟩ := C2
      exact ⟨K2, q2, R2⟩
    · obtain ⟨T2, q2, R2⟩ := c4 j hj
      have T3 : STK H (268 + 54 * j) := T2.fc F2 (fun a k z => by unfold PCP; omega)
      have R3 : PRM H (268 + 54 * j) q2 := R2.fc F2 (fun k => by unfold PCP; omega)
      exact ⟨T3, q2, R3⟩
  · have pi := (c2 i (by omega)).1
    by_cases e : i = n
    · subst e
      simp only [if_true]
      exact ⟨C2.fc FW h4 G.2.2 (fun a k z => by omega), G.2.2⟩
    · have ne : p i ≠ p n := fun z => e (c3 i n (by omega) hn z)
      simp only [if_neg e]
      obtain ⟨a5, b5⟩ := c5 i (by omega)
      exact ⟨(a5.fc F2 h4 b5 (fun a k z => by unfold PCP; omega)).fc FW h4 b5 (fun a k z => by omega), b5⟩
theorem sR_e5 {t a b n l L : Nat} {h : AH} {T : List Nat} (hk : hK h a = (t, L)) (ha : NC ≤ a) (hn : n < L) (hB : L ≤ 2147483647) (hb : hK h b = (5, l)) (hT : 5 ∈ T) : sR t T (some a) (nI n) (some b) h = some (wR a n (some b) h) := by
  have e := n_toN (a := n) (by omega)
  simp only [sR, hk, hb, e]
  rw [if_pos ⟨trivial, ha, ⟨n_neg (by omega), hn⟩, hT, fun z => absurd z (by decide)⟩]
theorem C_keeps (F : WFS s) (hQ : ∀ a, Q a → Im a) (B : CB va th Q h sp s) (C : CNW s h f) (G : WFN s f) {U : List RW} (T : CUN h s U) : Ev (X0_keeps 128 h) (fun H => FC PKP h H ∧ CUN H s (kpU f U) ∧ CNW s H f) := by
  have h4 := F.2.2.2.2.1
  have K := B.1
  obtain ⟨hl, p, T⟩ := T
  have TT := T
  obtain ⟨c1, ⟨c2, c3⟩, c4, c5⟩ := T
  have kl := kpU_len f U hl
  have c20 : nI U.length = 20 ↔ U.length = 20 := n_eq (b := 20) (by omega) (by decide)
  rw [X0_keeps, ci_128 K, Option.bind_some, c1]
  by_cases q : U.length = 20
  · have x0 : xR 107 (some 267) 0 h = some (some (268 + 54 * p 0)) := by
      rw [show xR 107 (some 267) 0 h = xR 107 (some 267) (nI 0) h from rfl, xR_e (ck_267 K) (by decide) (by decide), (c2 0 (by decide)).2]
    rw [if_pos (c20.mpr q), cg_128_12 K, Option.bind_some, x0, Option.bind_some, X0_keeps_18]
    rw [if_neg (by omega)] at kl
    refine ev_for 20 (fun k z => 1 ≤ k ∧ z.1 = nI k ∧ FC (fun a _ => a = 267) h z.2 ∧ ∀ i, i < 20 → hR z.2 267 i = some (268 + 54 * if i + 1 < k then p (i + 1) else p i)) ?_ ?_ 1 _ (by decide) ⟨Nat.le_refl _, rfl, FC.refl _ _, fun i hi => by rw [if_neg (by omega)]; exact (c2 i hi).2⟩
    · rintro k ⟨x, H⟩ hk ⟨k1, hx, F2, R⟩
      simp only at hx F2 R
      subst hx
      have B2 := B.fc hQ F2 (fun a k z => by unfold Mc PRT; omega)
      have K2 := B2.1
      have xk : xR 107 (some 267) (nI k) H = some (some (268 + 54 * p k)) := by rw [xR_e (ck_267 K2) hk (by decide), R k hk, if_neg (by omega)]
      have kk : hK H (268 + 54 * p k) = (5, 0) := by rw [F2.1]; exact (c4 _ (c2 k hk).1).1.1.2
      have sk : sR 107 [5] (some 267) (nI (k - 1)) (some (268 + 54 * p k)) H = some (wR 267 (k - 1) (some (268 + 54 * p k)) H) := sR_e5 (ck_267 K2) (by decide) (by omega) (by decide) kk (by decide)
      have mk : nI k - 1 = nI (k - 1) := nS1 k1
      simp (disch := first | assumption | ((repeat (first | with_reducible refine TKI ?_ | with_reducible refine TKL ?_ | with_reducible refine CKI ?_ | with_reducible refine CKL ?_)); assumption) | omega) only [X0_keeps_18b, ↓bci_128, ci_128, ↓bcp_128, cp_128, ↓bco_128, co_128, ↓bcx_140, cx_140, ↓bcs_140, cs_140, ↓bcxl_140, cxl_140, ↓bcsl_140, csl_140, ↓bci_141, ci_141, ↓bcp_141, cp_141, ↓bco_141, co_141, ↓bci_142, ci_142, ↓bcp_142, cp_142, ↓bco_142, co_142, ↓bci_143, ci_143, ↓bcp_143, cp_143, ↓bco_143, co_143, ↓bcx_144, cx_144, ↓bcs_144, cs_144, ↓bcxl_144, cxl_144, ↓bcsl_144, csl_144, ↓bci_145, ci_145, ↓bcp_145, cp_145, ↓bco_145, co_145, ↓bcx_146, cx_146, ↓bcs_146, cs_146, ↓bcxl_146, cxl_146, ↓bcsl_146, csl_146, ↓bcx_147, cx_147, ↓bcs_147, cs_147, ↓bcxl_147, cxl_147, ↓bcsl_147, csl_147, ↓bci_256, ci_256, ↓bcp_256, cp_256, ↓bco_256, co_256, ↓bcx_258, cx_258, ↓bcs_258, cs_258, ↓bcxl_258, cxl_258, ↓bcsl_258, csl_258, ↓bcx_259, cx_259, ↓bcs_259, cs_259, ↓bcxl_259, cxl_259, ↓bcsl_259, csl_259, ↓bcx_260, cx_260, ↓bcs_260, cs_260, ↓bcxl_260, cxl_260, ↓bcsl_260, csl_260, ↓bcx_261, cx_261, ↓bcs_261, cs_261, ↓bcxl_261, cxl_261, ↓bcsl_261, csl_261, ↓bcx_262, cx_262, ↓bcs_262, cs_262, ↓bcxl_262, cxl_262, ↓bcsl_262, csl_262, ↓bcx_263, cx_263, ↓bcs_263, cs_263, ↓bcxl_263, cxl_263, ↓bcsl_263, csl_263, ↓bcx_264, cx_264, ↓bcs_264, cs_264, ↓bcxl_264, cxl_264, ↓bcsl_264, csl_264, ↓bcx_265, cx_265, ↓bcs_265, cs_265, ↓bcxl_265, cxl_265, ↓bcsl_265, csl_265, ↓bcx_266, cx_266, ↓bcs_266, cs_266, ↓bcxl_266, cxl_266, ↓bcsl_266, csl_266, ↓bcx_1348, cx_1348, ↓bcs_1348, cs_1348, ↓bcxl_1348, cxl_1348, ↓bcsl_1348, csl_1348, ↓bcg_128_1, cg_128_1, ↓bcg_128_5, cg_128_5, ↓bcg_128_6, cg_128_6, ↓bcg_128_7, cg_128_7, ↓bcg_128_8, cg_128_8, ↓bcg_128_9, cg_128_9, ↓bcg_128_10, cg_128_10, ↓bcg_128_11, cg_128_11, ↓bcg_128_12, cg_128_12, ↓bcg_128_16, cg_128_16, ↓bcg_141_0, cg_141_0, ↓bcg_141_7, cg_141_7, ↓bcg_143_0, cg_143_0, ↓bcg_145_0, cg_145_0, ↓bcg_256_6, cg_256_6, ↓bcg_256_7, cg_256_7, ↓bcg_256_8, cg_256_8, ↓bcg_256_9, cg_256_9, ↓Option.bind_some, ↓b2_some, ↓bX_l, ↓bX_r, Option.bind_some, Option.bind_none, b2_some, bX_l, bX_r, nn_e, if_true, if_false, reduceCtorEq, ↓reduceIte, Nat.reduceEqDiff, Nat.reduceLT, Nat.reduceLeDiff, Nat.reduceSubDiff, Nat.reduceAdd, Nat.reduceMul, nL1, nL2, nA1, hk, ↓bd_of xk, mk, ↓bd_of sk]
      rw [Ev_some]
      refine ⟨trivial, rfl, F2.wR rfl, fun i hi => ?_⟩
      rw [p_RR]
      by_cases ei : i = k - 1
      · rw [if_pos ⟨rfl, ei⟩, if_pos (by omega), show i + 1 = k by omega]
      · rw [if_neg (fun z => ei z.2), R i hi]
        by_cases e2 : i + 1 < k
        · rw [if_pos e2, if_pos (by omega)]
        · rw [if_neg e2, if_neg (by omega)]
    · rintro ⟨x, H⟩ ⟨-, hx, F2, R⟩
      simp only at hx F2 R
      subst hx
      have B2 := B.fc hQ F2 (fun a k z => by unfold Mc PRT; omega)
      have K2 := B2.1
      have kk : hK H (268 + 54 * p 0) = (5, 0) := by rw [F2.1]; exact (c4 _ (c2 0 (by decide)).1).1.1.2
      have s19 : sR 107 [5] (some 267) 19 (some (268 + 54 * p 0)) H = some (wR 267 19 (some (268 + 54 * p 0)) H) := sR_e5 (n := 19) (ck_267 K2) (by decide) (by decide) (by decide) kk (by decide)
      have F3 : FC (fun a _ => a = 267) h (wR 267 19 (some (268 + 54 * p 0)) H) := F2.wR rfl
      have B3 := B.fc hQ F3 (fun a k z => by unfold Mc PRT; omega)
      have K3 := B3.1
      have e13 : hI (wR 267 19 (some (268 + 54 * p 0)) H) 128 13 = nI 20 := by rw [F3.i (by omega), c1, q]
      have m1 : nI 20 - 1 = nI 19 := by decide
      have R3 : ∀ i, i < 20 → hR (wR 267 19 (some (268 + 54 * p 0)) H) 267 i = some (268 + 54 * if i = 19 then p 0 else p (i + 1)) := by
        intro i hi
        rw [p_RR]
        by_cases ei : i = 19
        · rw [if_pos ⟨rfl, ei⟩, if_pos ei]
        · rw [if_neg (fun z => ei z.2), if_neg ei, R i hi, if_pos (by omega)]
      simp (disch := first | assumption | ((repeat (first | with_reducible refine TKI ?_ | with_reducible refine TKL ?_ | with_reducible refine CKI ?_ | with_reducible refine CKL ?_)); assumption) | omega) only [X0_keeps_18b, X0_keeps_44, ↓bci_128, ci_128, ↓bcp_128, cp_128, ↓bco_128, co_128, ↓bcx_140, cx_140, ↓bcs_140, cs_140, ↓bcxl_140, cxl_140, ↓bcsl_140, csl_140, ↓bci_141, ci_141, ↓bcp_141, cp_141, ↓bco_141, co_141, ↓bci_142, ci_142, ↓bcp_142, cp_142, ↓bco_142, co_142, ↓bci_143, ci_143, ↓bcp_143, cp_143, ↓bco_143, co_143, ↓bcx_144, cx_144, ↓bcs_144, cs_144, ↓bcxl_144, cxl_144, ↓bcsl_144, csl_144, ↓bci_145, ci_145, ↓bcp_145, cp_145, ↓bco_145, co_145, ↓bcx_146, cx_146, ↓bcs_146, cs_146, ↓bcxl_146, cxl_146, ↓bcsl_146, csl_146, ↓bcx_147, cx_147, ↓bcs_147, cs_147, ↓bcxl_147, cxl_147, ↓bcsl_147, csl_147, ↓bci_256, ci_256, ↓bcp_256, cp_256, ↓bco_256, co_256, ↓bcx_258, cx_258, ↓bcs_258, cs_258, ↓bcxl_258, cxl_258, ↓bcsl_258, csl_258, ↓bcx_259, cx_259, ↓bcs_259, cs_259, ↓bcxl_259, cxl_259, ↓bcsl_259, csl_259, ↓bcx_260, cx_260, ↓bcs_260, cs_260, ↓bcxl_260, cxl_260, ↓bcsl_260, csl_260, ↓bcx_261, cx_261, ↓bcs_261, cs_261, ↓bcxl_261, cxl_261, ↓bcsl_261, csl_261, ↓bcx_262, cx_262, ↓bcs_262, cs_262, ↓bcxl_262, cxl_262, ↓bcsl_262, csl_262, ↓bcx_263, cx_263, ↓bcs_263, cs_263, ↓bcxl_263, cxl_263, ↓bcsl_263, csl_263, ↓bcx_264, cx_264, ↓bcs_264, cs_264, ↓bcxl_264, cxl_264, ↓bcsl_264, csl_264, ↓bcx_265, cx_265, ↓bcs_265, cs_265, ↓bcxl_265, cxl_265, ↓bcsl_265, csl_265, ↓bcx_266, cx_266, ↓bcs_266, cs_266, ↓bcxl_266, cxl_266, ↓bcsl_266, csl_266, ↓bcx_1348, cx_1348, ↓bcs_1348, cs_1348, ↓bcxl_1348, cxl_1348, ↓bcsl_1348, csl_1348, ↓bcg_128_1, cg_128_1, ↓bcg_128_5, cg_128_5, ↓bcg_128_6, cg_128_6, ↓bcg_128_7, cg_128_7, ↓bcg_128_8, cg_128_8, ↓bcg_128_9, cg_128_9, ↓bcg_128_10, cg_128_10, ↓bcg_128_11, cg_128_11, ↓bcg_128_12, cg_128_12, ↓bcg_128_16, cg_128_16, ↓bcg_141_0, cg_141_0, ↓bcg_141_7, cg_141_7, ↓bcg_143_0, cg_143_0, ↓bcg_145_0, cg_145_0, ↓bcg_256_6, cg_256_6, ↓bcg_256_7, cg_256_7, ↓bcg_256_8, cg_256_8, ↓bcg_256_9, cg_256_9, ↓Option.bind_some, ↓b2_some, ↓bX_l, ↓bX_r, Option.bind_some, Option.bind_none, b2_some, bX_l, bX_r, nn_e, if_true, if_false, reduceCtorEq, ↓reduceIte, Nat.reduceEqDiff, Nat.reduceLT, Nat.reduceLeDiff, Nat.reduceSubDiff, Nat.reduceAdd, Nat.reduceMul, nL1, nL2, Nat.lt_irrefl, ↓bd_of s19, e13, m1]
      have F4 : FC PKP h (wI 128 13 (nI 19) (wR 267 19 (some (268 + 54 * p 0)) H)) := (F3.mono (fun a k z => by unfold PKP; omega)).wI (by unfold PKP; omega)
      have F5 : FC (fun a k => a = 267 ∨ (a = 128 ∧ k = 13)) h (wI 128 13 (nI 19) (wR 267 19 (some (268 + 54 * p 0)) H)) := (F3.mono (fun a k z => Or.inl z)).wI (Or.inr ⟨rfl, rfl⟩)
      have B4 := B.fc hQ F4 McP_PKP
      have C4 := C.fc F5 h4 G.2.2 (fun a k z => by omega)
      have U4 : CU1 (wI 128 13 (nI 19) (wR 267 19 (some (268 + 54 * p 0)) H)) s 19 (fun i => if i = 19 then p 0 else p (i + 1)) (fun i => U.getD (18 - i) (fun _ => 0)) := by
        refine ⟨by rw [p_II, if_pos ⟨rfl, rfl⟩], ⟨fun i hi => ⟨?_, R3 i hi⟩, fun i j hi hj hij => ?_⟩, fun j hj => ?_, fun i hi => ?_⟩
        · simp only
          split
          · exact (c2 0 (by decide)).1
          · exact (c2 (i + 1) (by omega)).1
        · simp only at hij
          split at hij <;> split at hij
          · omega
          · have := c3 0 (j + 1) (by decide) (by omega) hij; omega
          · have := c3 (i + 1) 0 (by omega) (by decide) hij; omega
          · have := c3 (i + 1) (j + 1) (by omega) (by omega) hij; omega
        · obtain ⟨T2, q2, R2⟩ := c4 j hj
          exact ⟨T2.fc F5 (fun a k z => by omega), q2, R2.fc F5 (fun k => by omega)⟩
        · obtain ⟨a5, b5⟩ := c5 (i + 1) (by omega)
          have pi := (c2 (i + 1) (by omega)).1
          simp only [if_neg (show ¬ i = 19 by omega)]
          simp only at a5 b5
          rw [show U.length - 1 - (i + 1) = 18 - i by omega] at a5 b5
          exact ⟨a5.fc F5 h4 b5 (fun a k z => by omega), b5⟩
      obtain ⟨H6, h6, F6, U6, N6⟩ := C_keeps62 F hQ B4 C4 G (by decide) U4
      rw [h6, Option.bind_some, Ev_some]
      refine ⟨F4.trans F6, ⟨by omega, (fun i => if i = 19 then p 0 else p (i + 1)), ?_⟩, N6⟩
      rw [kl, q]
      obtain ⟨d1, d2, d3, d4⟩ := U6
      refine ⟨d1, d2, d3, fun i hi => ?_⟩
      have := d4 i hi
      show CST s H6 (268 + 54 * (if i = 19 then p 0 else p (i + 1))) ((kpU f U).getD (20 - 1 - i) (fun _ => 0)) ∧ (kpU f U).getD (20 - 1 - i) (fun _ => 0) 33 ≤ 40
      rw [kpU_at f U (by omega)]
      by_cases e : i = 19
      · subst e
        exact this
      · rw [if_neg e, if_neg (show ¬ 20 - 1 - i = 0 by omega), show 20 - 1 - i - 1 = 18 - i by omega]
        simp only [if_neg e] at this
        exact this
  · rw [if_neg (fun z => q (c20.mp z))]
    rw [if_pos (by omega)] at kl
    refine ev_mono (C_keeps62 F hQ B C G (by omega) TT) ?_
    rintro H ⟨F6, U6, N6⟩
    refine ⟨F6, ⟨by omega, p, ?_⟩, N6⟩
    rw [kl]
    obtain ⟨d1, d2, d3, d4⟩ := U6
    refine ⟨d1, d2, d3, fun i hi => ?_⟩
    have := d4 i hi
    show CST s H (268 + 54 * p i) ((kpU f U).getD (U.length + 1 - 1 - i) (fun _ => 0)) ∧ (kpU f U).getD (U.length + 1 - 1 - i) (fun _ => 0) 33 ≤ 40
    rw [kpU_at f U (by omega)]
    by_cases e : i = U.length
    · subst e
      rw [if_pos (by omega)]
      simp only [if_true] at this
      exact this
    · rw [if_neg (by omega), show U.length + 1 - 1 - i - 1 = U.length - 1 - i by omega]
      simp only [if_neg e] at this
      exact this
end CKeep
