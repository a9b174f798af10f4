set_option maxRecDepth 100000
/-! ===== the class: rain, what is kept ===== -/
theorem tn1_0 {g r c : Nat} (hg : g < 32768) (hr : r < 5) (hc : c < 3) {j : Nat} (hj : j = 3 * r + c) : tn1 0 (nI g) r c (nI (g % 2 ^ j)) = nI (g % 2 ^ (j + 1)) := by
  subst hj
  have e1 : rwH 0 r = r := rfl
  have e2 : clH 0 c = c := rfl
  have hb : bN g (3 * r + c) = g / 2 ^ (3 * r + c) % 2 := rfl
  rw [tn1_alt, jbit hg (by omega), e1, e2, jbit1 (by omega), Nat.mod_pow_succ, ← hb]
  rcases bN_01 g (3 * r + c) with e | e
  · rw [e, if_pos (show nI 0 = 0 from rfl), Nat.mul_zero, Nat.add_zero]
  · rw [e, if_neg (show ¬ nI 1 = 0 by decide), n_or, Nat.add_comm (g % _), Nat.two_pow_add_eq_or_of_lt (Nat.mod_lt _ (Nat.two_pow_pos _)), Nat.mul_one, Nat.or_comm]
theorem tN_0 {g : Nat} (hg : g < 32768) : tN 0 g = g := by
  have e : tn 0 (nI g) = nI g := by
    simp only [tn, tnr, itr]
    rw [show (0 : Int32) = nI (g % 2 ^ 0) by rw [Nat.pow_zero, Nat.mod_one]; rfl]
    rw [tn1_0 hg (r := 0) (c := 0) (by decide) (by decide) rfl, tn1_0 hg (r := 0) (c := 1) (by decide) (by decide) rfl, tn1_0 hg (r := 0) (c := 2) (by decide) (by decide) rfl]
    rw [tn1_0 hg (r := 1) (c := 0) (by decide) (by decide) rfl, tn1_0 hg (r := 1) (c := 1) (by decide) (by decide) rfl, tn1_0 hg (r := 1) (c := 2) (by decide) (by decide) rfl]
    rw [tn1_0 hg (r := 2) (c := 0) (by decide) (by decide) rfl, tn1_0 hg (r := 2) (c := 1) (by decide) (by decide) rfl, tn1_0 hg (r := 2) (c := 2) (by decide) (by decide) rfl]
    rw [tn1_0 hg (r := 3) (c := 0) (by decide) (by decide) rfl, tn1_0 hg (r := 3) (c := 1) (by decide) (by decide) rfl, tn1_0 hg (r := 3) (c := 2) (by decide) (by decide) rfl]
    rw [tn1_0 hg (r := 4) (c := 0) (by decide) (by decide) rfl, tn1_0 hg (r := 4) (c := 1) (by decide) (by decide) rfl, tn1_0 hg (r := 4) (c := 2) (by decide) (by decide) rfl]
    rw [Nat.mod_eq_of_lt hg]
  rw [tN, e, n_int (by omega), Int.toNat_natCast]
/-- where a state may lie -/
def SZ (st : Nat) : Prop := (148 ≤ st ∧ st + 54 ≤ 256) ∨ (268 ≤ st ∧ st + 54 ≤ 1348)
theorem STK.ft {P : Nat → Nat → Prop} {h h' : AH} {st : Nat} (F : FT P h h') (S : STK h st) : STK h' st := by
  unfold STK at S ⊢
  rw [F.1, F.2.1]
  exact S
theorem CST.congr {s : SH} {h : AH} {st : Nat} {f g : RW} (S : CST s h st f) (h4 : z_nb s ≤ 4) (h40 : f 33 ≤ 40) (e : ∀ k, k < 154 → f k = g k) : CST s h st g := by
  obtain ⟨K, p, P, ⟨v1, v2⟩, v3, v4⟩ := S
  refine ⟨K, p, P, ⟨by rw [← e 0 (by decide)]; exact v1, by rw [← e 33 (by decide)]; exact v2⟩, fun b hb => ?_, fun i j hi hj => ?_⟩
  · obtain ⟨w1, w2, w3⟩ := v3 b hb
    exact ⟨by rw [← e _ (by omega)]; exact w1, by rw [← e _ (by omega)]; exact w2, fun k hk => by rw [← e _ (by omega)]; exact w3 k hk⟩
  · rw [← e 33 (by decide)] at hi
    rw [← e _ (by omega)]
    exact v4 i j hi hj
theorem sR_e {t a b n l L : Nat} {h : AH} {T : List Nat} (hk : hK h a = (t, L)) (ha : NC ≤ a) (hn : n < L) (hB : L ≤ 2147483647) (hb : hK h b = (100, l)) (hT : 100 ∈ T) (hb2 : NC ≤ b) : sR t T (some a) (nI n) (some b) h = some (wR a n (some b) h) := by
  have e := n_toN (a := n) (by omega)
  simp only [sR, hk, hb, e]
  rw [if_pos ⟨trivial, ha, ⟨n_neg (by omega), hn⟩, hT, fun _ => hb2⟩]
section CRain
variable {va : VaT} {th : ThT} {Q : Nat → Prop} {h : AH} {sp st : Nat} {s : SH} {f : RW}
theorem C_rainedOn (F : WFS s) (hQ : ∀ a, Q a → Im a) (B : CB va th Q h sp s) (S : STK h st) (hz : SZ st) {g place year : Nat} (hg : g < 32768) (hp : place < 6) (hy : year ≤ 999) (ey : hI h st 0 = nI year) : Ev (X5_rainedOn th st (nI g) (nI place) h) (fun z => z.1 = nI (rn s g place year) ∧ FT PC1 h z.2) := by
  have nz3 : nz 3 = some () := nz_e (by decide)
  have dc := B.2.2.2.2.2.2.2.2.2
  have g8 : ∀ {H}, CB va th Q H sp s → gR 1 8 (some sp) H = some (hR H sp 8) := fun B => gR_e B.2.2.2.1.1
  rw [X5_rainedOn, X5_rainedOn_5]
  cases hc : z_rc s with
  | none =>
    rw [hc] at dc
    have dc : hR h sp 8 = none := dc
    refine ev_for 15 (fun k z => z = (nI g, nI k, h)) ?_ ?_ 0 _ (by decide) rfl
    · rintro k _ hk rfl
      simp (disch := first | assumption | ((repeat (first | with_reducible refine TKI ?_ | with_reducible refine TKL ?_ | with_reducible refine CKI ?_ | with_reducible refine CKL ?_)); assumption) | omega) only [X5_rainedOn_5b, ↓Option.bind_some, ↓b2_some, ↓bX_l, ↓bX_r, Option.bind_some, Option.bind_none, b2_some, bX_l, bX_r, nn_e, if_true, if_false, reduceCtorEq, ↓reduceIte, Nat.reduceEqDiff, Nat.reduceLT, Nat.reduceLeDiff, Nat.reduceSubDiff, Nat.reduceAdd, Nat.reduceMul, nA1, nA2, nM1, nM2, n_add, n_mul, n_sub, nS1, nS2, nL0, nL1, nL2, nE0, nE1, nE2, nE3, bI_0, bI_1, bI_m, rz_b, rz_0, rz_1, hk, ↓bd_of S.g9, ↓bd_of (C_g0 B), ↓bd_of (g8 B), dc]
      rw [Ev_some]
      exact ⟨by rw [rn_none hc], FT.refl _ _⟩
    · rintro _ rfl
      simp (disch := first | assumption | ((repeat (first | with_reducible refine TKI ?_ | with_reducible refine TKL ?_ | with_reducible refine CKI ?_ | with_reducible refine CKL ?_)); assumption) | omega) only [X5_rainedOn_5b, ↓Option.bind_some, ↓b2_some, ↓bX_l, ↓bX_r, Option.bind_some, Option.bind_none, b2_some, bX_l, bX_r, nn_e, if_true, if_false, reduceCtorEq, ↓reduceIte, Nat.reduceEqDiff, Nat.reduceLT, Nat.reduceLeDiff, Nat.reduceSubDiff, Nat.reduceAdd, Nat.reduceMul, nA1, nA2, nM1, nM2, n_add, n_mul, n_sub, nS1, nS2, nL0, nL1, nL2, nE0, nE1, nE2, nE3, bI_0, bI_1, bI_m, rz_b, rz_0, rz_1, Nat.lt_irrefl]
      rw [Ev_some]
      exact ⟨by rw [rn_none hc], FT.refl _ _⟩
  | some L =>
    rw [hc] at dc
    obtain ⟨d, d1, d2⟩ := dc
    refine ev_for 15 (fun k z => z.1 = nI (itr (rn1 s g place year) k g) ∧ z.2.1 = nI k ∧ FT PC1 h z.2.2) ?_ ?_ 0 _ (by decide) ⟨rfl, rfl, FT.refl _ _⟩
    · rintro k ⟨v, x, H⟩ hk ⟨hv, hx, F2⟩
      simp only at hv hx F2
      subst hv hx
      have B2 := B.ft hQ F2 PC1_Mc
      have S2 := S.ft F2
      have K2 := B2.1
      obtain ⟨q1, q2⟩ := n_div3 hk
      have r8 : hR H sp 8 = some d := by rw [F2.2.1]; exact d1
      have hnr : nr g k ≤ 4 := by
        unfold nr
        have a1 := bN_01 g (k - 3); have a2 := bN_01 g (k + 3); have a3 := bN_01 g (k - 1); have a4 := bN_01 g (k + 1)
        repeat' split
        all_goals omega
      simp (disch := first | assumption | ((repeat (first | with_reducible refine TKI ?_ | with_reducible refine TKL ?_ | with_reducible refine CKI ?_ | with_reducible refine CKL ?_)); assumption) | omega) only [X5_rainedOn_5b, ↓Option.bind_some, ↓b2_some, ↓bX_l, ↓bX_r, Option.bind_some, Option.bind_none, b2_some, bX_l, bX_r, nn_e, if_true, if_false, reduceCtorEq, ↓reduceIte, Nat.reduceEqDiff, Nat.reduceLT, Nat.reduceLeDiff, Nat.reduceSubDiff, Nat.reduceAdd, Nat.reduceMul, nA1, nA2, nM1, nM2, n_add, n_mul, n_sub, nS1, nS2, nL0, nL1, nL2, nE0, nE1, nE2, nE3, bI_0, bI_1, bI_m, rz_b, rz_0, rz_1, hk, ↓bd_of S2.g9, ↓bd_of (C_g0 B2), ↓bd_of (g8 B2), r8, ↓b2_of (X0_has_e hg hk H)]
      have rb := bN_01 g k
      have rbn : nI (bN g k) = 0 ↔ bN g k = 0 := by rw [show (0 : Int32) = nI 0 from rfl, n_eq (by omega) (by decide)]
      by_cases e0 : bN g k = 0
      · rw [if_pos (rbn.mpr e0), Ev_some]
        exact ⟨by rw [itr, rn1, if_neg (by omega)], rfl, F2⟩
      · rw [if_neg (fun z => e0 (rbn.mp z))]
        have e1 : Int32.toInt64 (nI (k % 3)) = iL ((k % 3 : Nat) : Int) := by rw [i2L, n_int (by omega)]
        have e2 : Int32.toInt64 (nI (k / 3)) = iL ((k / 3 : Nat) : Int) := by rw [i2L, n_int (by omega)]
        have e3 : Int32.toInt64 (nI place) = iL (place : Int) := by rw [i2L, n_int (by omega)]
        have e4 : Int32.toInt64 (nI (nr g k)) = iL ((nr g k : Nat) : Int) := by rw [i2L, n_int (by omega)]
        have e5 : Int32.toInt64 (nI year) = iL (year : Int) := by rw [i2L, n_int (by omega)]
        have ey2 : hI H st 0 = nI year := (F2.i (by unfold PC1; unfold SZ at hz; omega)).trans ey
        have F3 : FT PC1 H (wL 144 7 (iL (year : Int)) (wL 144 6 (iL ((nr g k : Nat) : Int)) (wL 144 5 (iL (place : Int)) (wL 144 4 (iL ((k / 3 : Nat) : Int)) (wL 144 3 (iL ((k % 3 : Nat) : Int)) H))))) := (((((FT.refl PC1 H).wL (by unfold PC1; omega)).wL (by unfold PC1; omega)).wL (by unfold PC1; omega)).wL (by unfold PC1; omega)).wL (by unfold PC1; omega)
        have B3 := B2.ft hQ F3 PC1_Mc
        have r83 : hR (wL 144 7 (iL (year : Int)) (wL 144 6 (iL ((nr g k : Nat) : Int)) (wL 144 5 (iL (place : Int)) (wL 144 4 (iL ((k / 3 : Nat) : Int)) (wL 144 3 (iL ((k % 3 : Nat) : Int)) H))))) sp 8 = some d := r8
        have sg : ∀ v1, gR 5 9 (some st) (wL 144 3 v1 H) = some (some 128) := fun v1 => STK.g9 S2
        have sg2 : ∀ v1 v2, gR 5 9 (some st) (wL 144 4 v2 (wL 144 3 v1 H)) = some (some 128) := fun v1 v2 => STK.g9 S2
        have sg3 : ∀ v1 v2 v3, gR 5 9 (some st) (wL 144 5 v3 (wL 144 4 v2 (wL 144 3 v1 H))) = some (some 128) := fun v1 v2 v3 => STK.g9 S2
        have so3 : ∀ v1 v2 v3, isO 5 (some st) (wL 144 5 v3 (wL 144 4 v2 (wL 144 3 v1 H))) = some st := fun v1 v2 v3 => STK.o S2
        have sg4 : ∀ v1 v2 v3 v4, gR 5 9 (some st) (wL 144 6 v4 (wL 144 5 v3 (wL 144 4 v2 (wL 144 3 v1 H)))) = some (some 128) := fun v1 v2 v3 v4 => STK.g9 S2
        have si4 : ∀ v1 v2 v3 v4, gI 5 0 (some st) (wL 144 6 v4 (wL 144 5 v3 (wL 144 4 v2 (wL 144 3 v1 H)))) = some (nI year) := fun v1 v2 v3 v4 => (STK.gi S2 0).trans (congrArg some ey2)
        have sg5 : ∀ v1 v2 v3 v4 v5, gR 5 9 (some st) (wL 144 7 v5 (wL 144 6 v4 (wL 144 5 v3 (wL 144 4 v2 (wL 144 3 v1 H))))) = some (some 128) := fun v1 v2 v3 v4 v5 => STK.g9 S2
        have m1 : MOM (wL 144 7 (iL (year : Int)) (wL 144 6 (iL ((nr g k : Nat) : Int)) (wL 144 5 (iL (place : Int)) (wL 144 4 (iL ((k / 3 : Nat) : Int)) (wL 144 3 (iL ((k % 3 : Nat) : Int)) H))))) (env1 k g place year) 3 8 := by
          refine ⟨ck_143 (h := H) K2, K2.2 (143, 0, 144) (by decide), ck_144 (h := H) K2, fun j h1 h2 => ?_⟩
          rcases (by omega : j = 3 ∨ j = 4 ∨ j = 5 ∨ j = 6 ∨ j = 7) with rfl | rfl | rfl | rfl | rfl
          · exact ⟨rfl, by show rng ((k % 3 : Nat) : Int); unfold rng; omega⟩
          · exact ⟨rfl, by show rng ((k / 3 : Nat) : Int); unfold rng; omega⟩
          · exact ⟨rfl, by show rng (place : Int); unfold rng; omega⟩
          · exact ⟨rfl, by show rng ((nr g k : Nat) : Int); unfold rng; omega⟩
          · exact ⟨rfl, by show rng (year : Int); unfold rng; omega⟩
        have vv := d2 _ _ ((F2.trans F3).ag fun a k q z => Mc_Im (PC1_Mc a k z) (hQ a q)) m1
        simp (disch := first | assumption | ((repeat (first | with_reducible refine TKI ?_ | with_reducible refine TKL ?_ | with_reducible refine CKI ?_ | with_reducible refine CKL ?_)); assumption) | omega) only [↓bci_128, ci_128, ↓bcp_128, cp_128, ↓bco_128, co_128, ↓bcx_140, cx_140, ↓bcs_140, cs_140, ↓bcxl_140, cxl_140, ↓bcsl_140, csl_140, ↓bci_141, ci_141, ↓bcp_141, cp_141, ↓bco_141, co_141, ↓bci_142, ci_142, ↓bcp_142, cp_142, ↓bco_142, co_142, ↓bci_143, ci_143, ↓bcp_143, cp_143, ↓bco_143, co_143, ↓bcx_144, cx_144, ↓bcs_144, cs_144, ↓bcxl_144, cxl_144, ↓bcsl_144, csl_144, ↓bci_145, ci_145, ↓bcp_145, cp_145, ↓bco_145, co_145, ↓bcx_146, cx_146, ↓bcs_146, cs_146, ↓bcxl_146, cxl_146, ↓bcsl_146, csl_146, ↓bcx_147, cx_147, ↓bcs_147, cs_147, ↓bcxl_147, cxl_147, ↓bcsl_147, csl_147, ↓bci_256, ci_256, ↓bcp_256, cp_256, ↓bco_256, co_256, ↓bcx_258, cx_258, ↓bcs_258, cs_258, ↓bcxl_258, cxl_258, ↓bcsl_258, csl_258, ↓bcx_259, cx_259, ↓bcs_259, cs_259, ↓bcxl_259, cxl_259, ↓bcsl_259, csl_259, ↓bcx_260, cx_260, ↓bcs_260, cs_260, ↓bcxl_260, cxl_260, ↓bcsl_260, csl_260, ↓bcx_261, cx_261, ↓bcs_261, cs_261, ↓bcxl_261, cxl_261, ↓bcsl_261, csl_261, ↓bcx_262, cx_262, ↓bcs_262, cs_262, ↓bcxl_262, cxl_262, ↓bcsl_262, csl_262, ↓bcx_263, cx_263, ↓bcs_263, cs_263, ↓bcxl_263, cxl_263, ↓bcsl_263, csl_263, ↓bcx_264, cx_264, ↓bcs_264, cs_264, ↓bcxl_264, cxl_264, ↓bcsl_264, csl_264, ↓bcx_265, cx_265, ↓bcs_265, cs_265, ↓bcxl_265, cxl_265, ↓bcsl_265, csl_265, ↓bcx_266, cx_266, ↓bcs_266, cs_266, ↓bcxl_266, cxl_266, ↓bcsl_266, csl_266, ↓bcx_1348, cx_1348, ↓bcs_1348, cs_1348, ↓bcxl_1348, cxl_1348, ↓bcsl_1348, csl_1348, ↓bcg_128_1, cg_128_1, ↓bcg_128_5, cg_128_5, ↓bcg_128_6, cg_128_6, ↓bcg_128_7, cg_128_7, ↓bcg_128_8, cg_128_8, ↓bcg_128_9, cg_128_9, ↓bcg_128_10, cg_128_10, ↓bcg_128_11, cg_128_11, ↓bcg_128_12, cg_128_12, ↓bcg_128_16, cg_128_16, ↓bcg_141_0, cg_141_0, ↓bcg_141_7, cg_141_7, ↓bcg_143_0, cg_143_0, ↓bcg_145_0, cg_145_0, ↓bcg_256_6, cg_256_6, ↓bcg_256_7, cg_256_7, ↓bcg_256_8, cg_256_8, ↓bcg_256_9, cg_256_9, ↓Option.bind_some, ↓b2_some, ↓bX_l, ↓bX_r, Option.bind_some, Option.bind_none, b2_some, bX_l, bX_r, nn_e, if_true, if_false, reduceCtorEq, ↓reduceIte, Nat.reduceEqDiff, Nat.reduceLT, Nat.reduceLeDiff, Nat.reduceSubDiff, Nat.reduceAdd, Nat.reduceMul, e1, e2, e3, e4, e5, q1, q2, nz3, ↓bd_of S2.g9, ↓bd_of (sg _), ↓bd_of (sg2 _ _), ↓bd_of (sg3 _ _ _), ↓bd_of (so3 _ _ _), ↓bd_of (sg4 _ _ _ _), ↓bd_of (si4 _ _ _ _), ↓bd_of (sg5 _ _ _ _ _), ↓b2_of (C_near hg hk), ↓bd_of (C_g0 B3), ↓bd_of (g8 B3), r83, ↓b2_of vv, bI_0, n_clr hk, nA1]
        have lo : lost s g place year k = decide (evl (env1 k g place year) L = 1) := by simp only [lost, hc]
        rw [← lo]
        cases el : lost s g place year k with
        | false =>
          rw [if_pos (show false = false from rfl), Ev_some]
          exact ⟨by rw [itr, rn1, el, if_neg (by simp)], rfl, F2.trans F3⟩
        | true =>
          rw [if_neg (show ¬ true = false from fun z => by cases z), Ev_some]
          exact ⟨by rw [itr, rn1, el, if_pos ⟨by omega, rfl⟩], rfl, F2.trans F3⟩
    · rintro ⟨v, x, H⟩ ⟨hv, hx, F2⟩
      simp only at hv hx F2
      subst hv hx
      simp (disch := first | assumption | ((repeat (first | with_reducible refine TKI ?_ | with_reducible refine TKL ?_ | with_reducible refine CKI ?_ | with_reducible refine CKL ?_)); assumption) | omega) only [X5_rainedOn_5b, ↓Option.bind_some, ↓b2_some, ↓bX_l, ↓bX_r, Option.bind_some, Option.bind_none, b2_some, bX_l, bX_r, nn_e, if_true, if_false, reduceCtorEq, ↓reduceIte, Nat.reduceEqDiff, Nat.reduceLT, Nat.reduceLeDiff, Nat.reduceSubDiff, Nat.reduceAdd, Nat.reduceMul, nA1, nA2, nM1, nM2, n_add, n_mul, n_sub, nS1, nS2, nL0, nL1, nL2, nE0, nE1, nE2, nE3, bI_0, bI_1, bI_m, rz_b, rz_0, rz_1, Nat.lt_irrefl]
      rw [Ev_some]
      exact ⟨rfl, F2⟩
end CRain
