set_option maxRecDepth 100000
/-! ===== a line is laid: the table, the pieces ===== -/
theorem n_dec (a : Nat) : nI (a + 1) + (-1) = nI a := by
  rw [← n_add, Int32.add_assoc, show nI 1 + (-1) = (0 : Int32) by decide, Int32.add_zero]
theorem n_dec0 : nI 0 + (-1) = (-1 : Int32) := by decide
def TLN (H : AH) (s : SH) (one oth hd : Nat) (P : Nat → Nat → Prop) : Prop := ∀ i j, P i j → i ≤ z_wl s one → j ≤ z_wl s oth → hI H 1393 (7 * i + j) = nI (lq s one oth hd i j).1 ∧ hI H 1394 (7 * i + j) = nI (lq s one oth hd i j).2 ∧ hI H 1395 (7 * i + j) = enB (lb s one oth hd i j)
def PDM (a k : Nat) : Prop := PD2 a k ∨ (1393 ≤ a ∧ a ≤ 1395) ∨ a = 1397 ∨ a = 1398 ∨ (a = 1349 ∧ k = 74)
theorem PDM_stn : ∀ a k, Stn a k → ¬ PDM a k := by intro a k h; unfold Stn at h; unfold PDM PD2; omega
theorem PDL_M {K : Nat} : ∀ a k, PDL K a k → PDM a k := by intro a k h; unfold PDL PD2 at h; unfold PDM PD2; omega
theorem RB_ln {H : AH} {s : SH} {one oth hd i j : Nat} (h1 : z_wl s one ≤ 6) (h2 : z_wl s oth ≤ 6) (hne : i < z_wl s one ∨ j < z_wl s oth) (B : RB H (7 * i + j) (lb s one oth hd i j)) :
    hI H 1393 (7 * i + j) = nI (lq s one oth hd i j).1 ∧ hI H 1394 (7 * i + j) = nI (lq s one oth hd i j).2 ∧ hI H 1395 (7 * i + j) = enB (lb s one oth hd i j) := by
  have e := lq_eq h1 h2 hd i j
  cases q : lb s one oth hd i j with
  | none => have := lb_none.mp q; omega
  | some p =>
    obtain ⟨k, d, n⟩ := p
    rw [q] at e B
    simp only at e
    rw [e]
    obtain ⟨a, b⟩ := B.2 _ rfl
    exact ⟨a, b, B.1⟩
section Lay
variable {h : AH} {s : SH}
theorem gl_lt (F : WFS s) {hd c : Nat} (h1 : hd < 2) (h2 : isn s hd c) : gl s hd c < 32768 := (F.2.1 hd _ h1 (la_in h2).1).2.2
theorem T_linePuts (W : TKK (hK h) (hR h)) (F : WFS s) (S : TSH h s) {one oth hd i j : Nat} (h1 : one < z_nw s) (h2 : oth < z_nw s) (h3 : hd < 2) (c1 : cp s one hd = true) (c2 : cp s oth hd = true) (hi : i ≤ z_wl s one) (hj : j ≤ z_wl s oth)
    (a1 : i < z_wl s one → j < z_wl s oth → hI h 1393 (7 * i + j + 8) = nI (lq s one oth hd (i + 1) (j + 1)).1 ∧ hI h 1394 (7 * i + j + 8) = nI (lq s one oth hd (i + 1) (j + 1)).2)
    (a2 : i < z_wl s one → hI h 1393 (7 * i + j + 7) = nI (lq s one oth hd (i + 1) j).1 ∧ hI h 1394 (7 * i + j + 7) = nI (lq s one oth hd (i + 1) j).2)
    (a3 : j < z_wl s oth → hI h 1393 (7 * i + j + 1) = nI (lq s one oth hd i (j + 1)).1 ∧ hI h 1394 (7 * i + j + 1) = nI (lq s one oth hd i (j + 1)).2) :
    Ev (X7_linePuts 1349 (nI one) (nI oth) (nI hd) (nI i) (nI j) h) (fun H => FT (PDL (7 * i + j)) h H ∧ RB H (7 * i + j) (lb s one oth hd i j)) := by
  obtain ⟨w1, w2, w3, -⟩ := F.2.2.2.1 one h1
  obtain ⟨v1, v2, v3, -⟩ := F.2.2.2.1 oth h2
  have qn := F.1 hd h3
  have core := fun (A T : Nat) (hA : i < z_wl s one → A = lA s one hd i) (hT : j < z_wl s oth → T = lB s oth hd j) (gA : A < 32768) (gT : T < 32768) => T_linePuts70 W F S h1 h2 h3 c1 c2 hi hj a1 a2 a3 hA hT gA gT
  have z0 : (0 : Int32) = nI 0 := rfl
  simp (disch := first | assumption | ((repeat (first | with_reducible refine TKI ?_ | with_reducible refine TKL ?_)); assumption) | omega) only [X7_linePuts, X7_linePuts_47, ↓btgI, ↓btpI, ↓btgL, ↓btpL, ↓btisO, tgI, tpI, tgL, tpL, tisO, ↓Option.bind_some, ↓b2_some, ↓bX_l, ↓bX_r, Option.bind_some, Option.bind_none, b2_some, bX_l, bX_r, nn_e, if_true, if_false, reduceCtorEq, ↓reduceIte, Nat.reduceEqDiff, Nat.reduceLT, Nat.reduceLeDiff, Nat.reduceSubDiff, Nat.reduceAdd, Nat.reduceMul, nA1, nA2, nM1, nM2, n_add, n_mul, n_sub, nS1, nS2, nL0, nL1, nL2, nE0, nE1, nE2, nE3, bI_0, bI_1, bI_m, rz_b, rz_0, rz_1, ↓b2_of (T_oneAt W F S h1 h3 c1 (show i < 100 by omega)), ↓b2_of (T_otherAt W F S h2 h3 c2 (show j < 100 by omega))]
  by_cases qi : i < z_wl s one
  · have li := la_in ((cp_iff qn).mp c1 i qi)
    have n1 : (nI (lp s hd (z_wc s one i)) = -1) = False := nE2 (by omega)
    have tA := T_glyphOf W F S h3 li.1
    by_cases qj : j < z_wl s oth
    · have lj := la_in ((cp_iff qn).mp c2 (z_wl s oth - 1 - j) (by omega))
      have n2 : (nI (lp s hd (z_wc s oth (z_wl s oth - 1 - j))) = -1) = False := nE2 (by omega)
      have tB := T_glyphOf W F S h3 lj.1
      have ts := T_seenN (h := h) (how := 1) (by decide) (z_lg s hd (lp s hd (z_wc s oth (z_wl s oth - 1 - j))))
      have k := core (lA s one hd i) (lB s oth hd j) (fun _ => rfl) (fun _ => rfl) (gl_lt F h3 ((cp_iff qn).mp c1 i qi)) (tN_n 1 _).2
      simp only [qi, qj, if_true] at k
      simp (disch := first | assumption | ((repeat (first | with_reducible refine TKI ?_ | with_reducible refine TKL ?_)); assumption) | omega) only [↓btgI, ↓btpI, ↓btgL, ↓btpL, ↓btisO, tgI, tpI, tgL, tpL, tisO, ↓Option.bind_some, ↓b2_some, ↓bX_l, ↓bX_r, Option.bind_some, Option.bind_none, b2_some, bX_l, bX_r, nn_e, if_true, if_false, reduceCtorEq, ↓reduceIte, Nat.reduceEqDiff, Nat.reduceLT, Nat.reduceLeDiff, Nat.reduceSubDiff, Nat.reduceAdd, Nat.reduceMul, qi, qj, n1, n2, ↓b2_of tA, ↓b2_of tB]
      rw [show ∀ x, X7_seenBy x 1 h = X7_seenBy x (nI 1) h from fun _ => rfl, b2_of ts]
      exact k
    · have k := core (lA s one hd i) 0 (fun _ => rfl) (fun q => absurd q qj) (gl_lt F h3 ((cp_iff qn).mp c1 i qi)) (by decide)
      simp only [qi, qj, if_true, if_false] at k
      simp (disch := first | assumption | ((repeat (first | with_reducible refine TKI ?_ | with_reducible refine TKL ?_)); assumption) | omega) only [↓btgI, ↓btpI, ↓btgL, ↓btpL, ↓btisO, tgI, tpI, tgL, tpL, tisO, ↓Option.bind_some, ↓b2_some, ↓bX_l, ↓bX_r, Option.bind_some, Option.bind_none, b2_some, bX_l, bX_r, nn_e, if_true, if_false, reduceCtorEq, ↓reduceIte, Nat.reduceEqDiff, Nat.reduceLT, Nat.reduceLeDiff, Nat.reduceSubDiff, Nat.reduceAdd, Nat.reduceMul, qi, qj, n1, ↓b2_of tA]
      exact k
  · by_cases qj : j < z_wl s oth
    · have lj := la_in ((cp_iff qn).mp c2 (z_wl s oth - 1 - j) (by omega))
      have n2 : (nI (lp s hd (z_wc s oth (z_wl s oth - 1 - j))) = -1) = False := nE2 (by omega)
      have tB := T_glyphOf W F S h3 lj.1
      have ts := T_seenN (h := h) (how := 1) (by decide) (z_lg s hd (lp s hd (z_wc s oth (z_wl s oth - 1 - j))))
      have k := core 0 (lB s oth hd j) (fun q => absurd q qi) (fun _ => rfl) (by decide) (tN_n 1 _).2
      simp only [qi, qj, if_true, if_false] at k
      simp (disch := first | assumption | ((repeat (first | with_reducible refine TKI ?_ | with_reducible refine TKL ?_)); assumption) | omega) only [↓btgI, ↓btpI, ↓btgL, ↓btpL, ↓btisO, tgI, tpI, tgL, tpL, tisO, ↓Option.bind_some, ↓b2_some, ↓bX_l, ↓bX_r, Option.bind_some, Option.bind_none, b2_some, bX_l, bX_r, nn_e, if_true, if_false, reduceCtorEq, ↓reduceIte, Nat.reduceEqDiff, Nat.reduceLT, Nat.reduceLeDiff, Nat.reduceSubDiff, Nat.reduceAdd, Nat.reduceMul, qi, qj, n2, ↓b2_of tB]
      rw [show ∀ x, X7_seenBy x 1 h = X7_seenBy x (nI 1) h from fun _ => rfl, b2_of ts]
      exact k
    · have k := core 0 0 (fun q => absurd q qi) (fun q => absurd q qj) (by decide) (by decide)
      simp only [qi, qj, if_false] at k
      simp (disch := first | assumption | ((repeat (first | with_reducible refine TKI ?_ | with_reducible refine TKL ?_)); assumption) | omega) only [↓btgI, ↓btpI, ↓btgL, ↓btpL, ↓btisO, tgI, tpI, tgL, tpL, tisO, ↓Option.bind_some, ↓b2_some, ↓bX_l, ↓bX_r, Option.bind_some, Option.bind_none, b2_some, bX_l, bX_r, nn_e, if_true, if_false, reduceCtorEq, ↓reduceIte, Nat.reduceEqDiff, Nat.reduceLT, Nat.reduceLeDiff, Nat.reduceSubDiff, Nat.reduceAdd, Nat.reduceMul, qi, qj]
      exact k
/-- the table of a line -/
theorem T_table (W : TKK (hK h) (hR h)) (F : WFS s) (S : TSH h s) {one oth hd : Nat} (h1 : one < z_nw s) (h2 : oth < z_nw s) (h3 : hd < 2) (c1 : cp s one hd = true) (c2 : cp s oth hd = true) {P : AH → Prop}
    (K : ∀ H, FT PDM h H → hI H 1349 74 = hI h 1349 74 → TLN H s one oth hd (fun _ _ => True) → Ev (X7_laysLine_151 1349 (nI one) (nI oth) (nI hd) 0 0 H) P) :
    Ev (X7_laysLine_49 1349 (nI one) (nI oth) (nI hd) (nI (z_wl s one)) (nI (z_wl s oth)) (nI (z_wl s one)) h) P := by
  obtain ⟨w1, w2, w3, -⟩ := F.2.2.2.1 one h1
  obtain ⟨v1, v2, v3, -⟩ := F.2.2.2.1 oth h2
  have m1 : (-1 : Int32) < 0 := by decide
  rw [X7_laysLine_49]
  refine ev_for (z_wl s one + 1) (fun c st => (c ≤ z_wl s one → st.1 = nI (z_wl s one - c)) ∧ (z_wl s one < c → st.1 = -1) ∧ FT PDM h st.2 ∧ hI st.2 1349 74 = hI h 1349 74 ∧ TLN st.2 s one oth hd (fun i _ => z_wl s one < i + c)) ?_ ?_ 0 _ (Nat.zero_le _) ⟨fun _ => rfl, fun q => by omega, FT.refl _ _, rfl, fun i j q a _ => by omega⟩
  · rintro c ⟨x, H⟩ hc ⟨hx, -, F2, e2, L2⟩
    simp only at hx F2 e2 L2
    have hx' := hx (by omega)
    subst hx'
    have W2 := F2.tk W
    generalize hi : z_wl s one - c = i at *
    have i1 : i ≤ z_wl s one := by omega
    simp (disch := first | assumption | ((repeat (first | with_reducible refine TKI ?_ | with_reducible refine TKL ?_)); assumption) | omega) only [X7_laysLine_49b, nA1, nA2, nM1, nM2, n_add, n_mul, n_sub, nS1, nS2, nL0, nL1, nL2, nE0, nE1, nE2, nE3, bI_0, bI_1, bI_m, rz_b, rz_0, rz_1, Nat.not_lt_zero, if_false]
    rw [X7_laysLine_58]
    refine ev_for (z_wl s oth + 1) (fun b st => (b ≤ z_wl s oth → st.1 = nI (z_wl s oth - b)) ∧ (z_wl s oth < b → st.1 = -1) ∧ FT PDM h st.2 ∧ hI st.2 1349 74 = hI h 1349 74 ∧ TLN st.2 s one oth hd (fun i' j' => i < i' ∨ (i' = i ∧ z_wl s oth < j' + b))) ?_ ?_ 0 _ (Nat.zero_le _) ⟨fun _ => rfl, fun q => by omega, F2, e2, fun i' j' q a b => L2 i' j' (by omega) a b⟩
    · rintro b ⟨x, H3⟩ hb ⟨hx, -, F3, e3, L3⟩
      simp only at hx F3 e3 L3
      have hx' := hx (by omega)
      subst hx'
      have W3 := F3.tk W
      have S3 := F3.tsh PDM_stn S
      generalize hj : z_wl s oth - b = j at *
      have j1 : j ≤ z_wl s oth := by omega
      have next : ∀ H4, FT PDM H3 H4 → hI H4 1349 74 = hI H3 1349 74 → (∀ a k, a = 1393 ∨ a = 1394 ∨ a = 1395 → k ≠ 7 * i + j → hI H4 a k = hI H3 a k) → (hI H4 1393 (7 * i + j) = nI (lq s one oth hd i j).1 ∧ hI H4 1394 (7 * i + j) = nI (lq s one oth hd i j).2 ∧ hI H4 1395 (7 * i + j) = enB (lb s one oth hd i j)) →
          (b + 1 ≤ z_wl s oth → nI j + (-1) = nI (z_wl s oth - (b + 1))) ∧ (z_wl s oth < b + 1 → nI j + (-1) = -1) ∧ FT PDM h H4 ∧ hI H4 1349 74 = hI h 1349 74 ∧ TLN H4 s one oth hd (fun i' j' => i < i' ∨ (i' = i ∧ z_wl s oth < j' + (b + 1))) := by
        intro H4 F4 e4 far here
        refine ⟨fun q => ?_, fun q => ?_, F3.trans F4, e4.trans e3, fun i' j' q a1 a2 => ?_⟩
        · rw [show j = (z_wl s oth - (b + 1)) + 1 by omega, n_dec]
        · rw [show j = 0 by omega]; exact n_dec0
        · by_cases same : i' = i ∧ j' = j
          · rw [same.1, same.2]; exact here
          · rw [far 1393 _ (by omega) (by omega), far 1394 _ (by omega) (by omega), far 1395 _ (by omega) (by omega)]
            exact L3 i' j' (by omega) a1 a2
      by_cases qe : i < z_wl s one ∨ j < z_wl s oth
      · have puts := T_linePuts W3 F S3 h1 h2 h3 c1 c2 i1 j1 (fun q1 q2 => by have := L3 (i + 1) (j + 1) (by omega) (by omega) (by omega); rw [show 7 * (i + 1) + (j + 1) = 7 * i + j + 8 by omega] at this; exact ⟨this.1, this.2.1⟩) (fun q1 => by have := L3 (i + 1) j (by omega) (by omega) (by omega); rw [show 7 * (i + 1) + j = 7 * i + j + 7 by omega] at this; exact ⟨this.1, this.2.1⟩) (fun q2 => by have := L3 i (j + 1) (by omega) (by omega) (by omega); rw [show 7 * i + (j + 1) = 7 * i + j + 1 by omega] at this; exact ⟨this.1, this.2.1⟩)
        have goal : ∀ H4, FT (PDL (7 * i + j)) H3 H4 ∧ RB H4 (7 * i + j) (lb s one oth hd i j) → _ := fun H4 z => next H4 (z.1.mono PDL_M) (z.1.i (by unfold PDL PD2; omega)) (fun a k q1 q2 => z.1.i (by unfold PDL PD2; omega)) (RB_ln w2 v2 qe z.2)
        obtain ⟨H4, ep, zp⟩ := puts
        have g4 := goal H4 zp
        by_cases q1 : i < z_wl s one
        · simp (disch := first | assumption | ((repeat (first | with_reducible refine TKI ?_ | with_reducible refine TKL ?_)); assumption) | omega) only [X7_laysLine_58b, X7_laysLine_77, ↓btgI, ↓btpI, ↓btgL, ↓btpL, ↓btisO, tgI, tpI, tgL, tpL, tisO, ↓btg_70, tg_70, ↓btx_1393, tx_1393, ↓bts_1393, ts_1393, ↓btxl_1393, txl_1393, ↓btsl_1393, tsl_1393, ↓btg_71, tg_71, ↓btx_1394, tx_1394, ↓bts_1394, ts_1394, ↓btxl_1394, txl_1394, ↓btsl_1394, tsl_1394, ↓btg_72, tg_72, ↓btx_1395, tx_1395, ↓bts_1395, ts_1395, ↓btxl_1395, txl_1395, ↓btsl_1395, tsl_1395, ↓Option.bind_some, ↓b2_some, ↓bX_l, ↓bX_r, Option.bind_some, Option.bind_none, b2_some, bX_l, bX_r, nn_e, if_true, if_false, reduceCtorEq, ↓reduceIte, Nat.reduceEqDiff, Nat.reduceLT, Nat.reduceLeDiff, Nat.reduceSubDiff, Nat.reduceAdd, Nat.reduceMul, nA1, nA2, nM1, nM2, n_add, n_mul, n_sub, nS1, nS2, nL0, nL1, nL2, nE0, nE1, nE2, nE3, bI_0, bI_1, bI_m, rz_b, rz_0, rz_1, Nat.not_lt_zero, q1, ↓bd_of ep]
          rw [Ev_some]
          exact g4
        · have q2 : j < z_wl s oth := by omega
          simp (disch := first | assumption | ((repeat (first | with_reducible refine TKI ?_ | with_reducible refine TKL ?_)); assumption) | omega) only [X7_laysLine_58b, X7_laysLine_77, ↓btgI, ↓btpI, ↓btgL, ↓btpL, ↓btisO, tgI, tpI, tgL, tpL, tisO, ↓btg_70, tg_70, ↓btx_1393, tx_1393, ↓bts_1393, ts_1393, ↓btxl_1393, txl_1393, ↓btsl_1393, tsl_1393, ↓btg_71, tg_71, ↓btx_1394, tx_1394, ↓bts_1394, ts_1394, ↓btxl_1394, txl_1394, ↓btsl_1394, tsl_1394, ↓btg_72, tg_72, ↓btx_1395, tx_1395, ↓bts_1395, ts_1395, ↓btxl_1395, txl_1395, ↓btsl_1395, tsl_1395, ↓Option.bind_some, ↓b2_some, ↓bX_l, ↓bX_r, Option.bind_some, Option.bind_none, b2_some, bX_l, bX_r, nn_e, if_true, if_false, reduceCtorEq, ↓reduceIte, Nat.reduceEqDiff, Nat.reduceLT, Nat.reduceLeDiff, Nat.reduceSubDiff, Nat.reduceAdd, Nat.reduceMul, nA1, nA2, nM1, nM2, n_add, n_mul, n_sub, nS1, nS2, nL0, nL1, nL2, nE0, nE1, nE2, nE3, bI_0, bI_1, bI_m, rz_b, rz_0, rz_1, Nat.not_lt_zero, q1, q2, ↓bd_of ep]
          rw [Ev_some]
          exact g4
      · have q1 : ¬ i < z_wl s one := by omega
        have q2 : ¬ j < z_wl s oth := by omega
        have ei : i = z_wl s one := by omega
        have ej : j = z_wl s oth := by omega
        have lbn : lb s one oth hd i j = none := lb_none.mpr (by omega)
        have lqn := lq_eq w2 v2 hd i j
        rw [lbn] at lqn
        simp only at lqn
        simp (disch := first | assumption | ((repeat (first | with_reducible refine TKI ?_ | with_reducible refine TKL ?_)); assumption) | omega) only [X7_laysLine_58b, X7_laysLine_77, ↓btgI, ↓btpI, ↓btgL, ↓btpL, ↓btisO, tgI, tpI, tgL, tpL, tisO, ↓btg_70, tg_70, ↓btx_1393, tx_1393, ↓bts_1393, ts_1393, ↓btxl_1393, txl_1393, ↓btsl_1393, tsl_1393, ↓btg_71, tg_71, ↓btx_1394, tx_1394, ↓bts_1394, ts_1394, ↓btxl_1394, txl_1394, ↓btsl_1394, tsl_1394, ↓btg_72, tg_72, ↓btx_1395, tx_1395, ↓bts_1395, ts_1395, ↓btxl_1395, txl_1395, ↓btsl_1395, tsl_1395, ↓Option.bind_some, ↓b2_some, ↓bX_l, ↓bX_r, Option.bind_some, Option.bind_none, b2_some, bX_l, bX_r, nn_e, if_true, if_false, reduceCtorEq, ↓reduceIte, Nat.reduceEqDiff, Nat.reduceLT, Nat.reduceLeDiff, Nat.reduceSubDiff, Nat.reduceAdd, Nat.reduceMul, nA1, nA2, nM1, nM2, n_add, n_mul, n_sub, nS1, nS2, nL0, nL1, nL2, nE0, nE1, nE2, nE3, bI_0, bI_1, bI_m, rz_b, rz_0, rz_1, Nat.not_lt_zero, q1, q2]
        rw [Ev_some, show 7 * z_wl s one + z_wl s oth = 7 * i + j by omega]
        refine next (wI 1395 (7 * i + j) (-1) (wI 1394 (7 * i + j) 0 (wI 1393 (7 * i + j) 0 H3))) ((((FT.refl PDM H3).wI (by unfold PDM; omega)).wI (by unfold PDM; omega)).wI (by unfold PDM; omega)) (by rw [p_II, p_II, p_II, if_neg (by omega), if_neg (by omega), if_neg (by omega)]) (fun a k q3 q4 => by rw [p_II, p_II, p_II, if_neg (by omega), if_neg (by omega), if_neg (by omega)]) ?_
        rw [lqn, lbn]
        refine ⟨?_, ?_, ?_⟩
        · rw [p_II, p_II, p_II, if_neg (by omega), if_neg (by omega), if_pos ⟨rfl, rfl⟩]; rfl
        · rw [p_II, p_II, if_neg (by omega), if_pos ⟨rfl, rfl⟩]; rfl
        · rw [p_II, if_pos ⟨rfl, rfl⟩]; rfl
    · rintro ⟨x, H3⟩ ⟨-, hx, F3, e3, L3⟩
      simp only at hx F3 e3 L3
      have hx' := hx (by omega)
      subst hx'
      simp only [X7_laysLine_58b, m1, if_true]
      rw [Ev_some]
      refine ⟨fun q => ?_, fun q => ?_, F3, e3, fun i' j' q a b => L3 i' j' (by omega) a b⟩
      · rw [show i = (z_wl s one - (c + 1)) + 1 by omega, n_dec]
      · rw [show i = 0 by omega]; exact n_dec0
  · rintro ⟨x, H⟩ ⟨-, hx, F2, e2, L2⟩
    simp only at hx F2 e2 L2
    have hx' := hx (by omega)
    subst hx'
    simp only [X7_laysLine_49b, m1, if_true, Ev_bind, Ev_some]
    exact K H F2 e2 (fun i j _ a b => L2 i j (by omega) a b)
/-- the pieces lie there -/
def TPC (H : AH) (L : List (Nat × Nat)) : Prop := hI H 1349 74 = nI L.length ∧ ∀ k, k < L.length → hI H 1397 k = nI (L.getD k (0, 0)).1 ∧ hI H 1398 k = nI (L.getD k (0, 0)).2
theorem getD_app {α : Type} (L : List α) (x d : α) (k : Nat) : (L ++ [x]).getD k d = if k < L.length then L.getD k d else if k = L.length then x else d := by
  rw [List.getD_eq_getElem?_getD, List.getElem?_append]
  split
  · rw [List.getD_eq_getElem?_getD]
  · rename_i q
    by_cases e : k = L.length
    · rw [if_pos e, e, Nat.sub_self]; rfl
    · rw [if_neg e, List.getElem?_eq_none (by simp; omega)]; rfl
theorem pcs_fuel {one oth hd : Nat} : ∀ q i j, (z_wl s one - i) + (z_wl s oth - j) < q → pcs s one oth hd q i j = pcs s one oth hd (q + 1) i j
  | 0, i, j, h => by omega
  | q + 1, i, j, h => by
    rw [pcs, pcs]
    cases e : lb s one oth hd i j with
    | none => rfl
    | some p =>
      obtain ⟨k, d, n⟩ := p
      have c := bst_cand 6 _ e
      simp only at c ⊢
      unfold cand at c
      split
      · rename_i q4
        rw [if_pos q4] at c
        split at c
        · rw [pcs_fuel q (i + 1) (j + 1) (by omega)]
        · cases c
      · rename_i q4
        rw [if_neg q4] at c
        split
        · rename_i q5
          rw [if_pos q5] at c
          split at c
          · rw [pcs_fuel q (i + 1) j (by omega)]
          · cases c
        · rename_i q5
          rw [if_neg q5] at c
          split at c
          · rw [pcs_fuel q i (j + 1) (by omega)]
          · cases c
/-- one piece more -/
theorem TPC_up {H : AH} {L : List (Nat × Nat)} (T : TPC H L) (w g : Nat) : TPC (wI 1349 74 (nI (L.length + 1)) (wI 1398 L.length (nI g) (wI 1397 L.length (nI w) H))) (L ++ [(w, g)]) := by
  refine ⟨by rw [p_II, if_pos ⟨rfl, rfl⟩, List.length_append]; rfl, fun k hk => ?_⟩
  rw [List.length_append] at hk
  simp only [List.length_cons, List.length_nil] at hk
  rw [getD_app]
  by_cases e : k < L.length
  · rw [if_pos e, p_II, p_II, p_II, if_neg (by omega), if_neg (by omega), if_neg (by omega), p_II, p_II, p_II, if_neg (by omega), if_neg (by omega), if_neg (by omega)]
    exact T.2 k e
  · have ek : k = L.length := by omega
    rw [if_neg e, if_pos ek, p_II, p_II, p_II, if_neg (by omega), if_neg (by omega), if_pos ⟨rfl, ek⟩, p_II, p_II, if_neg (by omega), if_pos ⟨rfl, ek⟩]
    exact ⟨rfl, rfl⟩
theorem T_pieces (W : TKK (hK h) (hR h)) (F : WFS s) (S : TSH h s) {one oth hd : Nat} (h1 : one < z_nw s) (h2 : oth < z_nw s) (h3 : hd < 2) (c1 : cp s one hd = true) (c2 : cp s oth hd = true) (h74 : hI h 1349 74 = 0) (L : TLN h s one oth hd (fun _ _ => True)) :
    Ev (X7_laysLine_151 1349 (nI one) (nI oth) (nI hd) 0 0 h) (fun H => FT (fun a k => a = 1397 ∨ a = 1398 ∨ (a = 1349 ∧ k = 74)) h H ∧ TPC H (pcs s one oth hd 13 0 0)) := by
  obtain ⟨w1, w2, w3, -⟩ := F.2.2.2.1 one h1
  obtain ⟨v1, v2, v3, -⟩ := F.2.2.2.1 oth h2
  have qn := F.1 hd h3
  rw [X7_laysLine_151]
  refine ev_wf (I := fun q st => ∃ i j D, st.1 = nI i ∧ st.2.1 = nI j ∧ i ≤ z_wl s one ∧ j ≤ z_wl s oth ∧ q = (z_wl s one - i) + (z_wl s oth - j) ∧ FT (fun a k => a = 1397 ∨ a = 1398 ∨ (a = 1349 ∧ k = 74)) h st.2.2 ∧ TPC st.2.2 D ∧ D.length ≤ i + j ∧ pcs s one oth hd 13 0 0 = D ++ pcs s one oth hd (q + 1) i j) ?_ (z_wl s one + z_wl s oth) _ ⟨0, 0, [], rfl, rfl, Nat.zero_le _, Nat.zero_le _, by omega, FT.refl _ _, ⟨h74, fun k q => absurd q (Nat.not_lt_zero _)⟩, Nat.zero_le _, ?_⟩
  · rintro q ⟨x, y, H⟩ ⟨i, j, D, hx, hy, hi, hj, hq, F2, T2, hD, hp⟩
    simp only at hx hy F2 T2
    subst hx hy
    have W2 := F2.tk W
    have S2 : TSH H s := F2.tsh (fun a k z => by unfold Stn at z; omega) S
    have eb : hI H 1395 (7 * i + j) = enB (lb s one oth hd i j) := (F2.i (by omega)).trans (L i j trivial hi hj).2.2
    have t1 := T_oneAt W2 F S2 h1 h3 c1 (show i < 100 by omega)
    have t2 := T_otherAt W2 F S2 h2 h3 c2 (show j < 100 by omega)
    cases e : lb s one oth hd i j with
    | none =>
      rw [e] at eb
      have eb' : hI H 1395 (7 * i + j) = -1 := eb
      simp (disch := first | assumption | ((repeat (first | with_reducible refine TKI ?_ | with_reducible refine TKL ?_)); assumption) | omega) only [X7_laysLine_151b, ↓btgI, ↓btpI, ↓btgL, ↓btpL, ↓btisO, tgI, tpI, tgL, tpL, tisO, ↓btg_72, tg_72, ↓btx_1395, tx_1395, ↓bts_1395, ts_1395, ↓btxl_1395, txl_1395, ↓btsl_1395, tsl_1395, ↓btg_75, tg_75, ↓btx_1397, tx_1397, ↓bts_1397, ts_1397, ↓btxl_1397, txl_1397, ↓btsl_1397, tsl_1397, ↓btg_76, tg_76, ↓btx_1398, tx_1398, ↓bts_1398, ts_1398, ↓btxl_1398, txl_1398, ↓btsl_1398, tsl_1398, ↓Option.bind_some, ↓b2_some, ↓bX_l, ↓bX_r, Option.bind_some, Option.bind_none, b2_some, bX_l, bX_r, nn_e, if_true, if_false, reduceCtorEq, ↓reduceIte, Nat.reduceEqDiff, Nat.reduceLT, Nat.reduceLeDiff, Nat.reduceSubDiff, Nat.reduceAdd, Nat.reduceMul, nA1, nA2, nM1, nM2, n_add, n_mul, n_sub, nS1, nS2, nL0, nL1, nL2, nE0, nE1, nE2, nE3, bI_0, bI_1, bI_m, rz_b, rz_0, rz_1, eb']
      rw [Ev_some]
      refine ⟨F2, ?_⟩
      rw [hp, pcs, e]
      simp only [List.append_nil]
      exact T2
    | some p =>
      obtain ⟨k, d, n⟩ := p
      rw [e] at eb
      have eb' : hI H 1395 (7 * i + j) = nI k := eb
      have kl := (lb_le F 6 e).1
      simp only at kl
      have kn : (nI k = -1) = False := nE2 (by omega)
      have c := bst_cand 6 _ e
      simp only at c
      unfold cand at c
      have hlen : D.length < 12 := by
        have : ¬ (z_wl s one ≤ i ∧ z_wl s oth ≤ j) := fun z => by rw [lb_none.mpr z] at e; cases e
        omega
      have e74 := T2.1
      have hp2 : pcs s one oth hd (q + 1) i j = if k < 4 then (0, chs k (lA s one hd i) (lB s oth hd j)) :: pcs s one oth hd q (i + 1) (j + 1) else if k = 4 then (1, lA s one hd i) :: pcs s one oth hd q (i + 1) j else (2, lB s oth hd j) :: pcs s one oth hd q i (j + 1) := by rw [pcs, e]
      rw [hp2] at hp
      generalize hw : (if k < 4 then 0 else k - 3) = w at *
      have W1 : TKK (hK (wI 1397 D.length (nI w) H)) (hR (wI 1397 D.length (nI w) H)) := W2
      have S1 : TSH (wI 1397 D.length (nI w) H) s := S2.wI (by unfold Stn; omega)
      have e74' : hI (wI 1397 D.length (nI w) H) 1349 74 = nI D.length := by rw [p_II, if_neg (by omega)]; exact e74
      have fin : ∀ A T : Nat, X7_laysLine_274 1349 (nI one) (nI oth) (nI hd) (nI i) (nI j) (nI k) (some 1398) (nI D.length) (nI k) (nI A) (nI T) (wI 1397 D.length (nI w) H) = some (.inl (if k = 5 then nI i else nI (i + 1), if k = 4 then nI j else nI (j + 1), wI 1349 74 (nI (D.length + 1)) (wI 1398 D.length (nI (if k < 4 then chs k A T else if k = 4 then A else T)) (wI 1397 D.length (nI w) H)))) := by
        intro A T
        have e7 : hI (wI 1398 D.length (nI (if k < 4 then chs k A T else if k = 4 then A else T)) (wI 1397 D.length (nI w) H)) 1349 74 = nI D.length := by rw [p_II, if_neg (by omega)]; exact e74'
        simp (disch := first | assumption | ((repeat (first | with_reducible refine TKI ?_ | with_reducible refine TKL ?_)); assumption) | omega) only [X7_laysLine_274, X7_laysLine_297, ↓btgI, ↓btpI, ↓btgL, ↓btpL, ↓btisO, tgI, tpI, tgL, tpL, tisO, ↓btg_72, tg_72, ↓btx_1395, tx_1395, ↓bts_1395, ts_1395, ↓btxl_1395, txl_1395, ↓btsl_1395, tsl_1395, ↓btg_75, tg_75, ↓btx_1397, tx_1397, ↓bts_1397, ts_1397, ↓btxl_1397, txl_1397, ↓btsl_1397, tsl_1397, ↓btg_76, tg_76, ↓btx_1398, tx_1398, ↓bts_1398, ts_1398, ↓btxl_1398, txl_1398, ↓btsl_1398, tsl_1398, ↓Option.bind_some, ↓b2_some, ↓bX_l, ↓bX_r, Option.bind_some, Option.bind_none, b2_some, bX_l, bX_r, nn_e, if_true, if_false, reduceCtorEq, ↓reduceIte, Nat.reduceEqDiff, Nat.reduceLT, Nat.reduceLeDiff, Nat.reduceSubDiff, Nat.reduceAdd, Nat.reduceMul, nA1, nA2, nM1, nM2, n_add, n_mul, n_sub, nS1, nS2, nL0, nL1, nL2, nE0, nE1, nE2, nE3, bI_0, bI_1, bI_m, rz_b, rz_0, rz_1, ↓b2_of (T_glyphBy k A T kl (wI 1397 D.length (nI w) H)), e7]
        by_cases q5 : k = 5
        · subst q5; simp
        · by_cases q4 : k = 4
          · subst q4; simp
          · simp [q4, q5]
      have mid : ∀ A : Nat, Ev (X7_laysLine_253 1349 (nI one) (nI oth) (nI hd) (nI i) (nI j) (nI k) (if j < z_wl s oth then nI (lp s hd (z_wc s oth (z_wl s oth - 1 - j))) else -1) (some 1398) (nI D.length) (nI k) (nI A) (wI 1397 D.length (nI w) H)) (fun o => ∃ T, (j < z_wl s oth → T = lB s oth hd j) ∧ some o = X7_laysLine_274 1349 (nI one) (nI oth) (nI hd) (nI i) (nI j) (nI k) (some 1398) (nI D.length) (nI k) (nI A) (nI T) (wI 1397 D.length (nI w) H)) := by
        intro A
        by_cases qj : j < z_wl s oth
        · have lj := la_in ((cp_iff qn).mp c2 (z_wl s oth - 1 - j) (by omega))
          have n2 : (nI (lp s hd (z_wc s oth (z_wl s oth - 1 - j))) = -1) = False := nE2 (by omega)
          have tB := T_glyphOf W1 F S1 h3 lj.1
          have ts := T_seenN (h := wI 1397 D.length (nI w) H) (how := 1) (by decide) (z_lg s hd (lp s hd (z_wc s oth (z_wl s oth - 1 - j))))
          simp (disch := first | assumption | ((repeat (first | with_reducible refine TKI ?_ | with_reducible refine TKL ?_)); assumption) | omega) only [X7_laysLine_253, ↓btgI, ↓btpI, ↓btgL, ↓btpL, ↓btisO, tgI, tpI, tgL, tpL, tisO, ↓btg_72, tg_72, ↓btx_1395, tx_1395, ↓bts_1395, ts_1395, ↓btxl_1395, txl_1395, ↓btsl_1395, tsl_1395, ↓btg_75, tg_75, ↓btx_1397, tx_1397, ↓bts_1397, ts_1397, ↓btxl_1397, txl_1397, ↓btsl_1397, tsl_1397, ↓btg_76, tg_76, ↓btx_1398, tx_1398, ↓bts_1398, ts_1398, ↓btxl_1398, txl_1398, ↓btsl_1398, tsl_1398, ↓Option.bind_some, ↓b2_some, ↓bX_l, ↓bX_r, Option.bind_some, Option.bind_none, b2_some, bX_l, bX_r, nn_e, if_true, if_false, reduceCtorEq, ↓reduceIte, Nat.reduceEqDiff, Nat.reduceLT, Nat.reduceLeDiff, Nat.reduceSubDiff, Nat.reduceAdd, Nat.reduceMul, qj, n2, ↓b2_of tB]
          rw [show ∀ x, X7_seenBy x 1 (wI 1397 D.length (nI w) H) = X7_seenBy x (nI 1) (wI 1397 D.length (nI w) H) from fun _ => rfl, b2_of ts, fin A (lB s oth hd j) |> fun z => (show X7_laysLine_274 1349 (nI one) (nI oth) (nI hd) (nI i) (nI j) (nI k) (some 1398) (nI D.length) (nI k) (nI A) (nI (tN 1 (z_lg s hd (lp s hd (z_wc s oth (z_wl s oth - 1 - j)))))) (wI 1397 D.length (nI w) H) = _ from z), Ev_some]
          exact ⟨lB s oth hd j, fun _ => rfl, (fin A (lB s oth hd j)).symm⟩
        · simp (disch := first | assumption | ((repeat (first | with_reducible refine TKI ?_ | with_reducible refine TKL ?_)); assumption) | omega) only [X7_laysLine_253, ↓Option.bind_some, ↓b2_some, ↓bX_l, ↓bX_r, Option.bind_some, Option.bind_none, b2_some, bX_l, bX_r, nn_e, if_true, if_false, reduceCtorEq, ↓reduceIte, Nat.reduceEqDiff, Nat.reduceLT, Nat.reduceLeDiff, Nat.reduceSubDiff, Nat.reduceAdd, Nat.reduceMul, qj]
          rw [show X7_laysLine_274 1349 (nI one) (nI oth) (nI hd) (nI i) (nI j) (nI k) (some 1398) (nI D.length) (nI k) (nI A) 0 (wI 1397 D.length (nI w) H) = _ from fin A 0, Ev_some]
          exact ⟨0, fun z => by first | exact absurd z qj | exact z.elim, (fin A 0).symm⟩
      have top : Ev (X7_laysLine_225 1349 (nI one) (nI oth) (nI hd) (nI i) (nI j) (nI k) (if i < z_wl s one then nI (lp s hd (z_wc s one i)) else -1) (if j < z_wl s oth then nI (lp s hd (z_wc s oth (z_wl s oth - 1 - j))) else -1) (some 1397) (nI D.length) (nI w) H) (fun o => ∃ A T, (i < z_wl s one → A = lA s one hd i) ∧ (j < z_wl s oth → T = lB s oth hd j) ∧ some o = X7_laysLine_274 1349 (nI one) (nI oth) (nI hd) (nI i) (nI j) (nI k) (some 1398) (nI D.length) (nI k) (nI A) (nI T) (wI 1397 D.length (nI w) H)) := by
        by_cases qi : i < z_wl s one
        · have li := la_in ((cp_iff qn).mp c1 i qi)
          have n1 : (nI (lp s hd (z_wc s one i)) = -1) = False := nE2 (by omega)
          have tA := T_glyphOf W1 F S1 h3 li.1
          simp (disch := first | assumption | ((repeat (first | with_reducible refine TKI ?_ | with_reducible refine TKL ?_)); assumption) | omega) only [X7_laysLine_225, ↓btgI, ↓btpI, ↓btgL, ↓btpL, ↓btisO, tgI, tpI, tgL, tpL, tisO, ↓btg_72, tg_72, ↓btx_1395, tx_1395, ↓bts_1395, ts_1395, ↓btxl_1395, txl_1395, ↓btsl_1395, tsl_1395, ↓btg_75, tg_75, ↓btx_1397, tx_1397, ↓bts_1397, ts_1397, ↓btxl_1397, txl_1397, ↓btsl_1397, tsl_1397, ↓btg_76, tg_76, ↓btx_1398, tx_1398, ↓bts_1398, ts_1398, ↓btxl_1398, txl_1398, ↓btsl_1398, tsl_1398, ↓Option.bind_some, ↓b2_some, ↓bX_l, ↓bX_r, Option.bind_some, Option.bind_none, b2_some, bX_l, bX_r, nn_e, if_true, if_false, reduceCtorEq, ↓reduceIte, Nat.reduceEqDiff, Nat.reduceLT, Nat.reduceLeDiff, Nat.reduceSubDiff, Nat.reduceAdd, Nat.reduceMul, e74', qi, n1, ↓b2_of tA]
          refine ev_mono (mid (lA s one hd i)) ?_
          rintro o ⟨T, a, b⟩
          exact ⟨_, T, fun _ => rfl, a, b⟩
        · simp (disch := first | assumption | ((repeat (first | with_reducible refine TKI ?_ | with_reducible refine TKL ?_)); assumption) | omega) only [X7_laysLine_225, ↓btgI, ↓btpI, ↓btgL, ↓btpL, ↓btisO, tgI, tpI, tgL, tpL, tisO, ↓btg_72, tg_72, ↓btx_1395, tx_1395, ↓bts_1395, ts_1395, ↓btxl_1395, txl_1395, ↓btsl_1395, tsl_1395, ↓btg_75, tg_75, ↓btx_1397, tx_1397, ↓bts_1397, ts_1397, ↓btxl_1397, txl_1397, ↓btsl_1397, tsl_1397, ↓btg_76, tg_76, ↓btx_1398, tx_1398, ↓bts_1398, ts_1398, ↓btxl_1398, txl_1398, ↓btsl_1398, tsl_1398, ↓Option.bind_some, ↓b2_some, ↓bX_l, ↓bX_r, Option.bind_some, Option.bind_none, b2_some, bX_l, bX_r, nn_e, if_true, if_false, reduceCtorEq, ↓reduceIte, Nat.reduceEqDiff, Nat.reduceLT, Nat.reduceLeDiff, Nat.reduceSubDiff, Nat.reduceAdd, Nat.reduceMul, e74', qi]
          refine ev_mono (mid 0) ?_
          rintro o ⟨T, a, b⟩
          exact ⟨0, T, fun z => by first | exact absurd z qi | exact z.elim, a, b⟩
      have hw3 : (if k < 4 then X7_laysLine_225 1349 (nI one) (nI oth) (nI hd) (nI i) (nI j) (nI k) (if i < z_wl s one then nI (lp s hd (z_wc s one i)) else -1) (if j < z_wl s oth then nI (lp s hd (z_wc s oth (z_wl s oth - 1 - j))) else -1) (some 1397) (nI D.length) 0 H else X7_laysLine_225 1349 (nI one) (nI oth) (nI hd) (nI i) (nI j) (nI k) (if i < z_wl s one then nI (lp s hd (z_wc s one i)) else -1) (if j < z_wl s oth then nI (lp s hd (z_wc s oth (z_wl s oth - 1 - j))) else -1) (some 1397) (nI D.length) (nI k - 3) H) = X7_laysLine_225 1349 (nI one) (nI oth) (nI hd) (nI i) (nI j) (nI k) (if i < z_wl s one then nI (lp s hd (z_wc s one i)) else -1) (if j < z_wl s oth then nI (lp s hd (z_wc s oth (z_wl s oth - 1 - j))) else -1) (some 1397) (nI D.length) (nI w) H := by
        by_cases q4 : k < 4
        · rw [if_pos q4] at hw ⊢; rw [← hw]; rfl
        · rw [if_neg q4] at hw ⊢; rw [← hw, nS1 (by show 3 ≤ k; omega)]
      simp (disch := first | assumption | ((repeat (first | with_reducible refine TKI ?_ | with_reducible refine TKL ?_)); assumption) | omega) only [X7_laysLine_151b, ↓btgI, ↓btpI, ↓btgL, ↓btpL, ↓btisO, tgI, tpI, tgL, tpL, tisO, ↓btg_72, tg_72, ↓btx_1395, tx_1395, ↓bts_1395, ts_1395, ↓btxl_1395, txl_1395, ↓btsl_1395, tsl_1395, ↓btg_75, tg_75, ↓btx_1397, tx_1397, ↓bts_1397, ts_1397, ↓btxl_1397, txl_1397, ↓btsl_1397, tsl_1397, ↓btg_76, tg_76, ↓btx_1398, tx_1398, ↓bts_1398, ts_1398, ↓btxl_1398, txl_1398, ↓btsl_1398, tsl_1398, ↓Option.bind_some, ↓b2_some, ↓bX_l, ↓bX_r, Option.bind_some, Option.bind_none, b2_some, bX_l, bX_r, nn_e, if_true, if_false, reduceCtorEq, ↓reduceIte, Nat.reduceEqDiff, Nat.reduceLT, Nat.reduceLeDiff, Nat.reduceSubDiff, Nat.reduceAdd, Nat.reduceMul, nL1, nA1, nA2, nM2, n_add, eb', kn, ↓b2_of t1, ↓b2_of t2, e74, hw3]
      refine ev_mono top ?_
      rintro o ⟨A, T, hA, hT, ho⟩
      rw [fin A T] at ho
      cases ho
      have T3 := TPC_up T2 w (if k < 4 then chs k A T else if k = 4 then A else T)
      have F3 : FT (fun a k => a = 1397 ∨ a = 1398 ∨ (a = 1349 ∧ k = 74)) h (wI 1349 74 (nI (D.length + 1)) (wI 1398 D.length (nI (if k < 4 then chs k A T else if k = 4 then A else T)) (wI 1397 D.length (nI w) H))) := ((F2.wI (by omega)).wI (by omega)).wI (by omega)
      by_cases q4 : k < 4
      · rw [if_pos q4] at c hp hw T3
        split at c
        · rename_i qq
          rw [hA qq.1, hT qq.2] at T3
          have n5 : ¬ k = 5 := by omega
          have n4 : ¬ k = 4 := by omega
          refine ⟨q - 2, by omega, i + 1, j + 1, D ++ [(w, chs k (lA s one hd i) (lB s oth hd j))], by simp only [n5, if_false], by simp only [n4, if_false], by omega, by omega, by omega, F3, ?_, by rw [List.length_append]; simp only [List.length_cons, List.length_nil]; omega, ?_⟩
          · rw [hA qq.1, hT qq.2, if_pos q4]; exact T3
          · rw [hp, List.append_assoc, ← hw]
            show _ = D ++ (_ :: pcs s one oth hd (q - 2 + 1) (i + 1) (j + 1))
            rw [show pcs s one oth hd (q - 2 + 1) (i + 1) (j + 1) = pcs s one oth hd q (i + 1) (j + 1) by rw [pcs_fuel (q - 2 + 1) _ _ (by omega)]; rw [show q - 2 + 1 + 1 = q by omega]]
        · cases c
      · rw [if_neg q4] at c hp hw T3
        by_cases q5 : k = 4
        · rw [if_pos q5] at c hp T3
          split at c
          · rename_i qq
            rw [hA qq] at T3
            have n5 : ¬ k = 5 := by omega
            refine ⟨q - 1, by omega, i + 1, j, D ++ [(w, lA s one hd i)], by simp only [n5, if_false], by simp only [q5, if_true], by omega, by omega, by omega, F3, ?_, by rw [List.length_append]; simp only [List.length_cons, List.length_nil]; omega, ?_⟩
            · show TPC (wI 1349 74 (nI (D.length + 1)) (wI 1398 D.length (nI (if k < 4 then chs k A T else if k = 4 then A else T)) (wI 1397 D.length (nI w) H))) _
              rw [show (if k < 4 then chs k A T else if k = 4 then A else T) = lA s one hd i by rw [if_neg q4, if_pos q5, hA qq]]; exact T3
            · rw [hp, List.append_assoc, ← hw, q5]
              show _ = D ++ (_ :: pcs s one oth hd (q - 1 + 1) (i + 1) j)
              rw [show q - 1 + 1 = q by omega]
          · cases c
        · rw [if_neg q5] at c hp T3
          split at c
          · rename_i qq
            rw [hT qq] at T3
            have k5 : k = 5 := by omega
            refine ⟨q - 1, by omega, i, j + 1, D ++ [(w, lB s oth hd j)], by simp only [k5, if_true], by simp only [q5, if_false], by omega, by omega, by omega, F3, ?_, by rw [List.length_append]; simp only [List.length_cons, List.length_nil]; omega, ?_⟩
            · show TPC (wI 1349 74 (nI (D.length + 1)) (wI 1398 D.length (nI (if k < 4 then chs k A T else if k = 4 then A else T)) (wI 1397 D.length (nI w) H))) _
              rw [show (if k < 4 then chs k A T else if k = 4 then A else T) = lB s oth hd j by rw [if_neg q4, if_neg q5, hT qq]]; exact T3
            · rw [hp, List.append_assoc, ← hw, k5]
              show _ = D ++ (_ :: pcs s one oth hd (q - 1 + 1) i (j + 1))
              rw [show q - 1 + 1 = q by omega]
          · cases c
  · rw [List.nil_append]
    have : ∀ n, z_wl s one + z_wl s oth < n → ∀ m, pcs s one oth hd n 0 0 = pcs s one oth hd (n + m) 0 0 := by
      intro n hn m
      induction m with
      | zero => rfl
      | succ m ih => rw [ih, pcs_fuel (n + m) 0 0 (by omega)]; rfl
    have e := this (z_wl s one + z_wl s oth + 1) (by omega) (12 - (z_wl s one + z_wl s oth))
    rw [e, show z_wl s one + z_wl s oth + 1 + (12 - (z_wl s one + z_wl s oth)) = 13 by omega]
end Lay
