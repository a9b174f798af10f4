set_option maxRecDepth 100000
/-! ===== what may change ===== -/
def FT (P : Nat → Nat → Prop) (h h' : AH) : Prop := hK h' = hK h ∧ hR h' = hR h ∧ (hn h' = hn h ∧ hs h' = hs h) ∧ ∀ a k, ¬ P a k → hI h' a k = hI h a k ∧ hL h' a k = hL h a k
theorem FT.refl (P : Nat → Nat → Prop) (h : AH) : FT P h h := ⟨rfl, rfl, ⟨rfl, rfl⟩, fun _ _ _ => ⟨rfl, rfl⟩⟩
theorem FT.trans {P : Nat → Nat → Prop} {h h' h'' : AH} (a : FT P h h') (b : FT P h' h'') : FT P h h'' :=
  ⟨b.1.trans a.1, b.2.1.trans a.2.1, ⟨b.2.2.1.1.trans a.2.2.1.1, b.2.2.1.2.trans a.2.2.1.2⟩, fun x k q => ⟨(b.2.2.2 x k q).1.trans (a.2.2.2 x k q).1, (b.2.2.2 x k q).2.trans (a.2.2.2 x k q).2⟩⟩
theorem FT.mono {P Q : Nat → Nat → Prop} {h h' : AH} (a : FT P h h') (hq : ∀ x k, P x k → Q x k) : FT Q h h' := ⟨a.1, a.2.1, a.2.2.1, fun x k q => a.2.2.2 x k (fun z => q (hq x k z))⟩
theorem FT.i {P : Nat → Nat → Prop} {h h' : AH} (a : FT P h h') {x k : Nat} (q : ¬ P x k) : hI h' x k = hI h x k := (a.2.2.2 x k q).1
theorem FT.l {P : Nat → Nat → Prop} {h h' : AH} (a : FT P h h') {x k : Nat} (q : ¬ P x k) : hL h' x k = hL h x k := (a.2.2.2 x k q).2
theorem FT.tk {P : Nat → Nat → Prop} {h h' : AH} (a : FT P h h') (W : TKK (hK h) (hR h)) : TKK (hK h') (hR h') := by rw [a.1, a.2.1]; exact W
theorem FT.tsh {P : Nat → Nat → Prop} {h h' : AH} (a : FT P h h') {s : SH} (q : ∀ x k, Stn x k → ¬ P x k) (S : TSH h s) : TSH h' s := S.fr (fun x k z => a.i (q x k z))
theorem FT.wI {P : Nat → Nat → Prop} {h h' : AH} (a : FT P h h') {x k : Nat} {v : Int32} (q : P x k) : FT P h (wI x k v h') :=
  a.trans ⟨rfl, rfl, ⟨rfl, rfl⟩, fun y j r => ⟨by rw [p_II, if_neg (fun z => r (by rw [z.1, z.2]; exact q))], rfl⟩⟩
theorem FT.wL {P : Nat → Nat → Prop} {h h' : AH} (a : FT P h h') {x k : Nat} {v : Int64} (q : P x k) : FT P h (wL x k v h') :=
  a.trans ⟨rfl, rfl, ⟨rfl, rfl⟩, fun y j r => ⟨rfl, by rw [p_LL, if_neg (fun z => r (by rw [z.1, z.2]; exact q))]⟩⟩
/-! ===== longs as integers ===== -/
def iL (v : Int) : Int64 := Int64.ofInt v
def wide (v : Int) : Prop := -4611686018427387904 ≤ v ∧ v ≤ 4611686018427387904
theorem iL_int {v : Int} (h : wide v) : (iL v).toInt = v := Int64.toInt_ofInt_of_le (by unfold wide at h; omega) (by unfold wide at h; omega)
theorem iL_add (a b : Int) : iL a + iL b = iL (a + b) := (Int64.ofInt_add a b).symm
theorem iL_sub (a b : Int) : iL a - iL b = iL (a - b) := (Int64.ofInt_sub a b).symm
theorem iL_mul (a b : Int) : iL a * iL b = iL (a * b) := (Int64.ofInt_mul a b).symm
theorem iL_inj {a b : Int} (ha : wide a) (hb : wide b) : iL a = iL b ↔ a = b := by rw [← Int64.toInt_inj, iL_int ha, iL_int hb]
theorem lgc {a b : Int} (ha : wide a) (hb : wide b) : lg_cmp (iL a) (iL b) = if b < a then 1 else if a = b then 0 else -1 := by
  unfold lg_cmp
  simp only [gt_iff_lt, Int64.lt_iff_toInt_lt, iL_inj ha hb, iL_int ha, iL_int hb]
theorem lgc_lt {a b : Int} (ha : wide a) (hb : wide b) : (lg_cmp (iL a) (iL b) < 0) ↔ a < b := by
  rw [lgc ha hb]
  by_cases h1 : b < a
  · rw [if_pos h1]; constructor
    · intro h; exact absurd h (by decide)
    · omega
  · rw [if_neg h1]
    by_cases h2 : a = b
    · rw [if_pos h2]; constructor
      · intro h; exact absurd h (by decide)
      · omega
    · rw [if_neg h2]; constructor
      · omega
      · intro _; decide
theorem lgc_gt {a b : Int} (ha : wide a) (hb : wide b) : (0 < lg_cmp (iL a) (iL b)) ↔ b < a := by
  rw [lgc ha hb]
  by_cases h1 : b < a
  · rw [if_pos h1]; constructor
    · intro _; exact h1
    · intro _; decide
  · rw [if_neg h1]
    by_cases h2 : a = b
    · rw [if_pos h2]; constructor
      · intro h; exact absurd h (by decide)
      · omega
    · rw [if_neg h2]; constructor
      · intro h; exact absurd h (by decide)
      · omega
theorem lgc_eq {a b : Int} (ha : wide a) (hb : wide b) : (lg_cmp (iL a) (iL b) = 0) ↔ a = b := by
  rw [lgc ha hb]
  by_cases h1 : b < a
  · rw [if_pos h1]; constructor
    · intro h; exact absurd h (by decide)
    · omega
  · rw [if_neg h1]
    by_cases h2 : a = b
    · rw [if_pos h2]; exact ⟨fun _ => h2, fun _ => rfl⟩
    · rw [if_neg h2]; constructor
      · intro h; exact absurd h (by decide)
      · omega
theorem lq0 : (0 : Int64) = iL 0 := by decide
theorem lq1 : (1 : Int64) = iL 1 := by decide
theorem lqM : (1000000 : Int64) = iL 1000000 := by decide
theorem lqm : (-1000000 : Int64) = iL (-1000000) := by decide
theorem rng.w {v : Int} (h : rng v) : wide v := by unfold rng at h; unfold wide; omega
theorem wide_lit (v : Int) (h1 : -1000000 ≤ v) (h2 : v ≤ 1000000) : wide v := by unfold wide; omega
theorem i2L (x : Int32) : Int32.toInt64 x = iL x.toInt := by rw [← Int64.toInt_inj, Int32.toInt_toInt64, iL_int]; have := Int32.le_toInt x; have := Int32.toInt_lt x; unfold wide; omega
theorem L2i {v : Int} (h : rng v) : Int64.toInt32 (iL v) = Int32.ofInt v := by
  rw [← Int32.toInt_inj, Int64.toInt_toInt32, iL_int h.w, Int32.toInt_ofInt]
theorem T_qClip {v : Int} (hv : wide v) (h : AH) : X7_qClip (iL v) h = some (iL (clp v), h) := by
  unfold X7_qClip clp
  rw [lqm, lqM]
  simp only [lgc_gt hv (wide_lit 1000000 (by decide) (by decide)), lgc_lt hv (wide_lit (-1000000) (by decide) (by decide))]
  by_cases h1 : 1000000 < v
  · rw [if_pos h1, if_pos h1]
  · rw [if_neg h1, if_neg h1]
    by_cases h2 : v < -1000000
    · rw [if_pos h2, if_pos h2]
    · rw [if_neg h2, if_neg h2]
theorem iL_div {a b : Int} (ha : rng a) (hb : rng b) : iL a / iL b = iL (Int.tdiv a b) := by
  rw [← Int64.toInt_inj]
  have hq : (Int.tdiv a b).natAbs ≤ a.natAbs := Int.natAbs_tdiv_le_natAbs a b
  have hw : wide (Int.tdiv a b) := by unfold rng at ha; unfold wide; omega
  rw [iL_int hw, Int64.toInt_div, iL_int ha.w, iL_int hb.w]
  unfold wide at hw
  exact Int.bmod_eq_of_le (by omega) (by omega)
theorem T_qFloor {a b : Int} (ha : rng a) (hb : rng b) (h : AH) : X7_qFloor (iL a) (iL b) h = some (iL (fl a b), h) := by
  have w0 : wide 0 := wide_lit 0 (by decide) (by decide)
  have hq : (Int.tdiv a b).natAbs ≤ a.natAbs := Int.natAbs_tdiv_le_natAbs a b
  have hr : jremL (iL a) (iL b) = iL (Int.tmod a b) := by
    unfold jremL
    rw [iL_div ha hb, iL_mul, iL_sub]
    congr 1
    have := Int.tmod_add_tdiv_mul a b
    omega
  have hm : wide (Int.tmod a b) := by
    have : (Int.tmod a b).natAbs = a.natAbs % b.natAbs := Int.natAbs_tmod a b
    have := Nat.mod_le a.natAbs b.natAbs
    unfold rng at ha; unfold wide; omega
  have hd1 : ∀ v : Int, iL v - 1 = iL (v - 1) := fun v => by rw [lq1, iL_sub]
  unfold X7_qFloor X7_qFloor_32 X7_qFloor_43 fl
  rw [hr, iL_div ha hb, lq0]
  simp only [lgc_eq hb.w w0, lgc_eq hm w0, lgc_lt ha.w w0, lgc_lt hb.w w0, hd1]
  by_cases h0 : b = 0
  · rw [if_pos h0, if_pos h0]
  · have hb0 : iL b ≠ 0 := by rw [lq0]; exact fun e => h0 ((iL_inj hb.w w0).mp e)
    rw [if_neg h0, if_neg h0, nzL_e hb0, Option.bind_some, Option.bind_some]
    by_cases h1 : Int.tmod a b = 0
    · rw [if_pos h1, if_pos (Or.inl h1)]
    · rw [if_neg h1]
      by_cases h2 : a < 0
      · rw [if_pos h2]
        by_cases h3 : b < 0
        · rw [if_pos h3, if_pos trivial, if_pos (Or.inr ⟨fun _ => h3, fun _ => h2⟩)]
        · rw [if_neg h3, if_neg (by decide), if_neg (fun z => z.elim h1 (fun z => h3 (z.mp h2)))]
      · rw [if_neg h2]
        by_cases h3 : b < 0
        · rw [if_pos h3, if_neg (by decide), if_neg (fun z => z.elim h1 (fun z => h2 (z.mpr h3)))]
        · rw [if_neg h3, if_pos trivial, if_pos (Or.inr ⟨fun z => absurd z h2, fun z => absurd z h3⟩)]
/-! ===== the twin's pile ===== -/
def PL (h : AH) : List Int → Prop
  | [] => True
  | a :: r => hL h 1426 r.length = iL a ∧ PL h r
theorem PL_wL {h : AH} {v : Int64} : ∀ {st : List Int} {n : Nat}, st.length ≤ n → PL h st → PL (wL 1426 n v h) st
  | [], _, _, _ => trivial
  | a :: r, n, hn, H => by
    rw [List.length_cons] at hn
    refine ⟨?_, PL_wL (by omega) H.2⟩
    rw [p_LL, if_neg (by omega)]
    exact H.1
theorem PL.fr {h h' : AH} (e : ∀ k, hL h' 1426 k = hL h 1426 k) : ∀ {st : List Int}, PL h st → PL h' st
  | [], _ => trivial
  | _ :: _, H => ⟨by rw [e]; exact H.1, PL.fr e H.2⟩
/-- the pile: how many, which -/
def PLh (h : AH) (st : List Int) : Prop := hI h 1349 112 = nI st.length ∧ PL h st
/-- where telling writes -/
def PD1 (a k : Nat) : Prop := (a = 1349 ∧ k = 112) ∨ a = 1426
def PD0 (a k : Nat) : Prop := (a = 1349 ∧ (k = 56 ∨ k = 112)) ∨ a = 1426
section Tell
variable {h : AH}
theorem T_qPuts (W : TKK (hK h) (hR h)) {st : List Int} (H : PLh h st) (hn : st.length < 1700) (v : Int) : X7_qPuts 1349 (iL v) h = some (wI 1349 112 (nI (st.length + 1)) (wL 1426 st.length (iL v) h)) ∧ PLh (wI 1349 112 (nI (st.length + 1)) (wL 1426 st.length (iL v) h)) (v :: st) := by
  refine ⟨?_, by rw [p_II, if_pos ⟨rfl, rfl⟩, List.length_cons], ?_, PL.fr (h := wL 1426 st.length (iL v) h) (h' := wI 1349 112 (nI (st.length + 1)) (wL 1426 st.length (iL v) h)) (fun _ => rfl) (PL_wL (Nat.le_refl _) H.2)⟩
  · simp (disch := first | assumption | ((repeat (first | with_reducible refine TKI ?_ | with_reducible refine TKL ?_)); assumption) | omega) only [X7_qPuts, ↓btgI, ↓btpI, ↓btgL, ↓btpL, ↓btisO, tgI, tpI, tgL, tpL, tisO, ↓btg_111, tg_111, ↓btx_1426, tx_1426, ↓bts_1426, ts_1426, ↓btxl_1426, txl_1426, ↓btsl_1426, tsl_1426, ↓Option.bind_some, ↓b2_some, ↓bX_l, ↓bX_r, Option.bind_some, Option.bind_none, b2_some, bX_l, bX_r, nn_e, if_true, if_false, reduceCtorEq, ↓reduceIte, Nat.reduceEqDiff, Nat.reduceLT, Nat.reduceLeDiff, Nat.reduceSubDiff, Nat.reduceAdd, Nat.reduceMul, nA1, nA2, nM1, nM2, n_add, n_mul, n_sub, nS1, nS2, nL0, nL1, nL2, nE0, nE1, nE2, nE3, bI_0, bI_1, bI_m, rz_b, rz_0, rz_1, H.1, p_IL]
  · show hL (wL 1426 st.length (iL v) h) 1426 st.length = iL v
    rw [p_LL, if_pos ⟨rfl, rfl⟩]
theorem T_qJoins (W : TKK (hK h) (hR h)) {c : Nat} {a b : Int} {r : List Int} (H : PLh h (b :: a :: r)) (hn : r.length < 1600) (ha : rng a) (hb : rng b) (hc : (1 ≤ c ∧ c ≤ 9) ∨ ((c = 10 ∨ c = 11) ∧ (a = 0 ∨ a = 1) ∧ (b = 0 ∨ b = 1))) :
    ∃ h', X7_qJoins 1349 (nI c) h = some h' ∧ FT PD1 h h' ∧ PLh h' (jn c a b :: r) := by
  obtain ⟨H1, H2, H3, H4⟩ := H
  simp only [List.length_cons] at H1 H2 H3
  have W2 : TKK (hK (wI 1349 112 (nI r.length) h)) (hR (wI 1349 112 (nI r.length) h)) := W
  have P2 : PLh (wI 1349 112 (nI r.length) h) r := ⟨by rw [p_II, if_pos ⟨rfl, rfl⟩], PL.fr (h := h) (h' := wI 1349 112 (nI r.length) h) (fun _ => rfl) H4⟩
  have key : ∀ v, ∃ h', X7_qPuts 1349 (iL v) (wI 1349 112 (nI r.length) h) = some h' ∧ FT PD1 h h' ∧ PLh h' (v :: r) := by
    intro v
    obtain ⟨e1, e2⟩ := T_qPuts W2 P2 (by omega) v
    refine ⟨_, e1, ?_, e2⟩
    exact (((FT.refl PD1 h).wI (by unfold PD1; omega)).wL (by unfold PD1; omega)).wI (by unfold PD1; omega)
  have wa := ha.w
  have wb := hb.w
  have wab : wide (a + b) := by unfold rng at ha hb; unfold wide; omega
  have wsb : wide (a - b) := by unfold rng at ha hb; unfold wide; omega
  have wm : wide (a * b) := by
    unfold rng at ha hb
    have h1 : (a * b).natAbs = a.natAbs * b.natAbs := Int.natAbs_mul a b
    have h2 : a.natAbs * b.natAbs ≤ 1000000 * 1000000 := Nat.mul_le_mul (by omega) (by omega)
    unfold wide
    omega
  have w0 : wide 0 := wide_lit 0 (by decide) (by decide)
  have fin : ∀ v, jn c a b = v → X7_qJoins 1349 (nI c) h = X7_qPuts 1349 (iL v) (wI 1349 112 (nI r.length) h) → ∃ h', X7_qJoins 1349 (nI c) h = some h' ∧ FT PD1 h h' ∧ PLh h' (jn c a b :: r) := by
    intro v e1 e2
    obtain ⟨h', k1, k2, k3⟩ := key v
    rw [e2, e1]
    exact ⟨h', k1, k2, k3⟩
  have hc2 : c = 1 ∨ c = 2 ∨ c = 3 ∨ c = 4 ∨ c = 5 ∨ c = 6 ∨ c = 7 ∨ c = 8 ∨ c = 9 ∨ c = 10 ∨ c = 11 := by omega
  clear hc
  rcases hc2 with rfl | rfl | rfl | rfl | rfl | rfl | rfl | rfl | rfl | rfl | rfl
  · refine fin (clp (a + b)) (by simp [jn]) ?_
    simp (disch := first | assumption | ((repeat (first | with_reducible refine TKI ?_ | with_reducible refine TKL ?_)); assumption) | omega) only [X7_qJoins, X7_qJoins_161, X7_qJoins_181, X7_qJoins_200, X7_qJoins_219, X7_qJoins_238, X7_qJoins_270, ↓btgI, ↓btpI, ↓btgL, ↓btpL, ↓btisO, tgI, tpI, tgL, tpL, tisO, ↓btg_111, tg_111, ↓btx_1426, tx_1426, ↓bts_1426, ts_1426, ↓btxl_1426, txl_1426, ↓btsl_1426, tsl_1426, ↓Option.bind_some, ↓b2_some, ↓bX_l, ↓bX_r, Option.bind_some, Option.bind_none, b2_some, bX_l, bX_r, nn_e, if_true, if_false, reduceCtorEq, ↓reduceIte, Nat.reduceEqDiff, Nat.reduceLT, Nat.reduceLeDiff, Nat.reduceSubDiff, Nat.reduceAdd, Nat.reduceMul, nA1, nA2, nM1, nM2, n_add, n_mul, n_sub, nS1, nS2, nL0, nL1, nL2, nE0, nE1, nE2, nE3, bI_0, bI_1, bI_m, rz_b, rz_0, rz_1, H1, H2, H3, Nat.add_sub_cancel, Option.bind_fun_some, iL_add, T_qClip wab]
  · refine fin (clp (a - b)) (by simp [jn]) ?_
    simp (disch := first | assumption | ((repeat (first | with_reducible refine TKI ?_ | with_reducible refine TKL ?_)); assumption) | omega) only [X7_qJoins, X7_qJoins_161, X7_qJoins_181, X7_qJoins_200, X7_qJoins_219, X7_qJoins_238, X7_qJoins_270, ↓btgI, ↓btpI, ↓btgL, ↓btpL, ↓btisO, tgI, tpI, tgL, tpL, tisO, ↓btg_111, tg_111, ↓btx_1426, tx_1426, ↓bts_1426, ts_1426, ↓btxl_1426, txl_1426, ↓btsl_1426, tsl_1426, ↓Option.bind_some, ↓b2_some, ↓bX_l, ↓bX_r, Option.bind_some, Option.bind_none, b2_some, bX_l, bX_r, nn_e, if_true, if_false, reduceCtorEq, ↓reduceIte, Nat.reduceEqDiff, Nat.reduceLT, Nat.reduceLeDiff, Nat.reduceSubDiff, Nat.reduceAdd, Nat.reduceMul, nA1, nA2, nM1, nM2, n_add, n_mul, n_sub, nS1, nS2, nL0, nL1, nL2, nE0, nE1, nE2, nE3, bI_0, bI_1, bI_m, rz_b, rz_0, rz_1, H1, H2, H3, Nat.add_sub_cancel, Option.bind_fun_some, iL_sub, T_qClip wsb]
  · refine fin (clp (a * b)) (by simp [jn]) ?_
    simp (disch := first | assumption | ((repeat (first | with_reducible refine TKI ?_ | with_reducible refine TKL ?_)); assumption) | omega) only [X7_qJoins, X7_qJoins_161, X7_qJoins_181, X7_qJoins_200, X7_qJoins_219, X7_qJoins_238, X7_qJoins_270, ↓btgI, ↓btpI, ↓btgL, ↓btpL, ↓btisO, tgI, tpI, tgL, tpL, tisO, ↓btg_111, tg_111, ↓btx_1426, tx_1426, ↓bts_1426, ts_1426, ↓btxl_1426, txl_1426, ↓btsl_1426, tsl_1426, ↓Option.bind_some, ↓b2_some, ↓bX_l, ↓bX_r, Option.bind_some, Option.bind_none, b2_some, bX_l, bX_r, nn_e, if_true, if_false, reduceCtorEq, ↓reduceIte, Nat.reduceEqDiff, Nat.reduceLT, Nat.reduceLeDiff, Nat.reduceSubDiff, Nat.reduceAdd, Nat.reduceMul, nA1, nA2, nM1, nM2, n_add, n_mul, n_sub, nS1, nS2, nL0, nL1, nL2, nE0, nE1, nE2, nE3, bI_0, bI_1, bI_m, rz_b, rz_0, rz_1, H1, H2, H3, Nat.add_sub_cancel, Option.bind_fun_some, iL_mul, T_qClip wm]
  · refine fin (fl a b) (by simp [jn]) ?_
    simp (disch := first | assumption | ((repeat (first | with_reducible refine TKI ?_ | with_reducible refine TKL ?_)); assumption) | omega) only [X7_qJoins, X7_qJoins_161, X7_qJoins_181, X7_qJoins_200, X7_qJoins_219, X7_qJoins_238, X7_qJoins_270, ↓btgI, ↓btpI, ↓btgL, ↓btpL, ↓btisO, tgI, tpI, tgL, tpL, tisO, ↓btg_111, tg_111, ↓btx_1426, tx_1426, ↓bts_1426, ts_1426, ↓btxl_1426, txl_1426, ↓btsl_1426, tsl_1426, ↓Option.bind_some, ↓b2_some, ↓bX_l, ↓bX_r, Option.bind_some, Option.bind_none, b2_some, bX_l, bX_r, nn_e, if_true, if_false, reduceCtorEq, ↓reduceIte, Nat.reduceEqDiff, Nat.reduceLT, Nat.reduceLeDiff, Nat.reduceSubDiff, Nat.reduceAdd, Nat.reduceMul, nA1, nA2, nM1, nM2, n_add, n_mul, n_sub, nS1, nS2, nL0, nL1, nL2, nE0, nE1, nE2, nE3, bI_0, bI_1, bI_m, rz_b, rz_0, rz_1, H1, H2, H3, Nat.add_sub_cancel, Option.bind_fun_some, T_qFloor ha hb]
  · by_cases q : a < b
    · refine fin (a) (by simp [jn, q]) ?_
      simp (disch := first | assumption | ((repeat (first | with_reducible refine TKI ?_ | with_reducible refine TKL ?_)); assumption) | omega) only [X7_qJoins, X7_qJoins_161, X7_qJoins_181, X7_qJoins_200, X7_qJoins_219, X7_qJoins_238, X7_qJoins_270, ↓btgI, ↓btpI, ↓btgL, ↓btpL, ↓btisO, tgI, tpI, tgL, tpL, tisO, ↓btg_111, tg_111, ↓btx_1426, tx_1426, ↓bts_1426, ts_1426, ↓btxl_1426, txl_1426, ↓btsl_1426, tsl_1426, ↓Option.bind_some, ↓b2_some, ↓bX_l, ↓bX_r, Option.bind_some, Option.bind_none, b2_some, bX_l, bX_r, nn_e, if_true, if_false, reduceCtorEq, ↓reduceIte, Nat.reduceEqDiff, Nat.reduceLT, Nat.reduceLeDiff, Nat.reduceSubDiff, Nat.reduceAdd, Nat.reduceMul, nA1, nA2, nM1, nM2, n_add, n_mul, n_sub, nS1, nS2, nL0, nL1, nL2, nE0, nE1, nE2, nE3, bI_0, bI_1, bI_m, rz_b, rz_0, rz_1, H1, H2, H3, Nat.add_sub_cancel, Option.bind_fun_some, lgc_lt wa wb, q]
    · refine fin (b) (by simp [jn, q]) ?_
      simp (disch := first | assumption | ((repeat (first | with_reducible refine TKI ?_ | with_reducible refine TKL ?_)); assumption) | omega) only [X7_qJoins, X7_qJoins_161, X7_qJoins_181, X7_qJoins_200, X7_qJoins_219, X7_qJoins_238, X7_qJoins_270, ↓btgI, ↓btpI, ↓btgL, ↓btpL, ↓btisO, tgI, tpI, tgL, tpL, tisO, ↓btg_111, tg_111, ↓btx_1426, tx_1426, ↓bts_1426, ts_1426, ↓btxl_1426, txl_1426, ↓btsl_1426, tsl_1426, ↓Option.bind_some, ↓b2_some, ↓bX_l, ↓bX_r, Option.bind_some, Option.bind_none, b2_some, bX_l, bX_r, nn_e, if_true, if_false, reduceCtorEq, ↓reduceIte, Nat.reduceEqDiff, Nat.reduceLT, Nat.reduceLeDiff, Nat.reduceSubDiff, Nat.reduceAdd, Nat.reduceMul, nA1, nA2, nM1, nM2, n_add, n_mul, n_sub, nS1, nS2, nL0, nL1, nL2, nE0, nE1, nE2, nE3, bI_0, bI_1, bI_m, rz_b, rz_0, rz_1, H1, H2, H3, Nat.add_sub_cancel, Option.bind_fun_some, lgc_lt wa wb, q]
  · by_cases q : b < a
    · refine fin (a) (by simp [jn, q]) ?_
      simp (disch := first | assumption | ((repeat (first | with_reducible refine TKI ?_ | with_reducible refine TKL ?_)); assumption) | omega) only [X7_qJoins, X7_qJoins_161, X7_qJoins_181, X7_qJoins_200, X7_qJoins_219, X7_qJoins_238, X7_qJoins_270, ↓btgI, ↓btpI, ↓btgL, ↓btpL, ↓btisO, tgI, tpI, tgL, tpL, tisO, ↓btg_111, tg_111, ↓btx_1426, tx_1426, ↓bts_1426, ts_1426, ↓btxl_1426, txl_1426, ↓btsl_1426, tsl_1426, ↓Option.bind_some, ↓b2_some, ↓bX_l, ↓bX_r, Option.bind_some, Option.bind_none, b2_some, bX_l, bX_r, nn_e, if_true, if_false, reduceCtorEq, ↓reduceIte, Nat.reduceEqDiff, Nat.reduceLT, Nat.reduceLeDiff, Nat.reduceSubDiff, Nat.reduceAdd, Nat.reduceMul, nA1, nA2, nM1, nM2, n_add, n_mul, n_sub, nS1, nS2, nL0, nL1, nL2, nE0, nE1, nE2, nE3, bI_0, bI_1, bI_m, rz_b, rz_0, rz_1, H1, H2, H3, Nat.add_sub_cancel, Option.bind_fun_some, lgc_gt wa wb, q]
    · refine fin (b) (by simp [jn, q]) ?_
      simp (disch := first | assumption | ((repeat (first | with_reducible refine TKI ?_ | with_reducible refine TKL ?_)); assumption) | omega) only [X7_qJoins, X7_qJoins_161, X7_qJoins_181, X7_qJoins_200, X7_qJoins_219, X7_qJoins_238, X7_qJoins_270, ↓btgI, ↓btpI, ↓btgL, ↓btpL, ↓btisO, tgI, tpI, tgL, tpL, tisO, ↓btg_111, tg_111, ↓btx_1426, tx_1426, ↓bts_1426, ts_1426, ↓btxl_1426, txl_1426, ↓btsl_1426, tsl_1426, ↓Option.bind_some, ↓b2_some, ↓bX_l, ↓bX_r, Option.bind_some, Option.bind_none, b2_some, bX_l, bX_r, nn_e, if_true, if_false, reduceCtorEq, ↓reduceIte, Nat.reduceEqDiff, Nat.reduceLT, Nat.reduceLeDiff, Nat.reduceSubDiff, Nat.reduceAdd, Nat.reduceMul, nA1, nA2, nM1, nM2, n_add, n_mul, n_sub, nS1, nS2, nL0, nL1, nL2, nE0, nE1, nE2, nE3, bI_0, bI_1, bI_m, rz_b, rz_0, rz_1, H1, H2, H3, Nat.add_sub_cancel, Option.bind_fun_some, lgc_gt wa wb, q]
  · by_cases q : a < b
    · refine fin (1) (by simp [jn, q]) ?_
      simp (disch := first | assumption | ((repeat (first | with_reducible refine TKI ?_ | with_reducible refine TKL ?_)); assumption) | omega) only [X7_qJoins, X7_qJoins_161, X7_qJoins_181, X7_qJoins_200, X7_qJoins_219, X7_qJoins_238, X7_qJoins_270, ↓btgI, ↓btpI, ↓btgL, ↓btpL, ↓btisO, tgI, tpI, tgL, tpL, tisO, ↓btg_111, tg_111, ↓btx_1426, tx_1426, ↓bts_1426, ts_1426, ↓btxl_1426, txl_1426, ↓btsl_1426, tsl_1426, ↓Option.bind_some, ↓b2_some, ↓bX_l, ↓bX_r, Option.bind_some, Option.bind_none, b2_some, bX_l, bX_r, nn_e, if_true, if_false, reduceCtorEq, ↓reduceIte, Nat.reduceEqDiff, Nat.reduceLT, Nat.reduceLeDiff, Nat.reduceSubDiff, Nat.reduceAdd, Nat.reduceMul, nA1, nA2, nM1, nM2, n_add, n_mul, n_sub, nS1, nS2, nL0, nL1, nL2, nE0, nE1, nE2, nE3, bI_0, bI_1, bI_m, rz_b, rz_0, rz_1, H1, H2, H3, Nat.add_sub_cancel, Option.bind_fun_some, lgc_lt wa wb, q]
      rw [lq1]
    · refine fin (0) (by simp [jn, q]) ?_
      simp (disch := first | assumption | ((repeat (first | with_reducible refine TKI ?_ | with_reducible refine TKL ?_)); assumption) | omega) only [X7_qJoins, X7_qJoins_161, X7_qJoins_181, X7_qJoins_200, X7_qJoins_219, X7_qJoins_238, X7_qJoins_270, ↓btgI, ↓btpI, ↓btgL, ↓btpL, ↓btisO, tgI, tpI, tgL, tpL, tisO, ↓btg_111, tg_111, ↓btx_1426, tx_1426, ↓bts_1426, ts_1426, ↓btxl_1426, txl_1426, ↓btsl_1426, tsl_1426, ↓Option.bind_some, ↓b2_some, ↓bX_l, ↓bX_r, Option.bind_some, Option.bind_none, b2_some, bX_l, bX_r, nn_e, if_true, if_false, reduceCtorEq, ↓reduceIte, Nat.reduceEqDiff, Nat.reduceLT, Nat.reduceLeDiff, Nat.reduceSubDiff, Nat.reduceAdd, Nat.reduceMul, nA1, nA2, nM1, nM2, n_add, n_mul, n_sub, nS1, nS2, nL0, nL1, nL2, nE0, nE1, nE2, nE3, bI_0, bI_1, bI_m, rz_b, rz_0, rz_1, H1, H2, H3, Nat.add_sub_cancel, Option.bind_fun_some, lgc_lt wa wb, q]
      rw [lq0]
  · by_cases q : b < a
    · refine fin (1) (by simp [jn, q]) ?_
      simp (disch := first | assumption | ((repeat (first | with_reducible refine TKI ?_ | with_reducible refine TKL ?_)); assumption) | omega) only [X7_qJoins, X7_qJoins_161, X7_qJoins_181, X7_qJoins_200, X7_qJoins_219, X7_qJoins_238, X7_qJoins_270, ↓btgI, ↓btpI, ↓btgL, ↓btpL, ↓btisO, tgI, tpI, tgL, tpL, tisO, ↓btg_111, tg_111, ↓btx_1426, tx_1426, ↓bts_1426, ts_1426, ↓btxl_1426, txl_1426, ↓btsl_1426, tsl_1426, ↓Option.bind_some, ↓b2_some, ↓bX_l, ↓bX_r, Option.bind_some, Option.bind_none, b2_some, bX_l, bX_r, nn_e, if_true, if_false, reduceCtorEq, ↓reduceIte, Nat.reduceEqDiff, Nat.reduceLT, Nat.reduceLeDiff, Nat.reduceSubDiff, Nat.reduceAdd, Nat.reduceMul, nA1, nA2, nM1, nM2, n_add, n_mul, n_sub, nS1, nS2, nL0, nL1, nL2, nE0, nE1, nE2, nE3, bI_0, bI_1, bI_m, rz_b, rz_0, rz_1, H1, H2, H3, Nat.add_sub_cancel, Option.bind_fun_some, lgc_gt wa wb, q]
      rw [lq1]
    · refine fin (0) (by simp [jn, q]) ?_
      simp (disch := first | assumption | ((repeat (first | with_reducible refine TKI ?_ | with_reducible refine TKL ?_)); assumption) | omega) only [X7_qJoins, X7_qJoins_161, X7_qJoins_181, X7_qJoins_200, X7_qJoins_219, X7_qJoins_238, X7_qJoins_270, ↓btgI, ↓btpI, ↓btgL, ↓btpL, ↓btisO, tgI, tpI, tgL, tpL, tisO, ↓btg_111, tg_111, ↓btx_1426, tx_1426, ↓bts_1426, ts_1426, ↓btxl_1426, txl_1426, ↓btsl_1426, tsl_1426, ↓Option.bind_some, ↓b2_some, ↓bX_l, ↓bX_r, Option.bind_some, Option.bind_none, b2_some, bX_l, bX_r, nn_e, if_true, if_false, reduceCtorEq, ↓reduceIte, Nat.reduceEqDiff, Nat.reduceLT, Nat.reduceLeDiff, Nat.reduceSubDiff, Nat.reduceAdd, Nat.reduceMul, nA1, nA2, nM1, nM2, n_add, n_mul, n_sub, nS1, nS2, nL0, nL1, nL2, nE0, nE1, nE2, nE3, bI_0, bI_1, bI_m, rz_b, rz_0, rz_1, H1, H2, H3, Nat.add_sub_cancel, Option.bind_fun_some, lgc_gt wa wb, q]
      rw [lq0]
  · by_cases q : a = b
    · have ql : (lg_cmp (iL a) (iL b) = 0) = True := eq_true ((lgc_eq wa wb).mpr q)
      refine fin (1) (by simp [jn, q]) ?_
      simp (disch := first | assumption | ((repeat (first | with_reducible refine TKI ?_ | with_reducible refine TKL ?_)); assumption) | omega) only [X7_qJoins, X7_qJoins_161, X7_qJoins_181, X7_qJoins_200, X7_qJoins_219, X7_qJoins_238, X7_qJoins_270, ↓btgI, ↓btpI, ↓btgL, ↓btpL, ↓btisO, tgI, tpI, tgL, tpL, tisO, ↓btg_111, tg_111, ↓btx_1426, tx_1426, ↓bts_1426, ts_1426, ↓btxl_1426, txl_1426, ↓btsl_1426, tsl_1426, ↓Option.bind_some, ↓b2_some, ↓bX_l, ↓bX_r, Option.bind_some, Option.bind_none, b2_some, bX_l, bX_r, nn_e, if_true, if_false, reduceCtorEq, ↓reduceIte, Nat.reduceEqDiff, Nat.reduceLT, Nat.reduceLeDiff, Nat.reduceSubDiff, Nat.reduceAdd, Nat.reduceMul, nA1, nA2, nM1, nM2, n_add, n_mul, n_sub, nS1, nS2, nL0, nL1, nL2, nE0, nE1, nE2, nE3, bI_0, bI_1, bI_m, rz_b, rz_0, rz_1, H1, H2, H3, Nat.add_sub_cancel, Option.bind_fun_some, ql]
      rw [lq1]
    · have ql : (lg_cmp (iL a) (iL b) = 0) = False := eq_false (fun z => q ((lgc_eq wa wb).mp z))
      refine fin (0) (by simp [jn, q]) ?_
      simp (disch := first | assumption | ((repeat (first | with_reducible refine TKI ?_ | with_reducible refine TKL ?_)); assumption) | omega) only [X7_qJoins, X7_qJoins_161, X7_qJoins_181, X7_qJoins_200, X7_qJoins_219, X7_qJoins_238, X7_qJoins_270, ↓btgI, ↓btpI, ↓btgL, ↓btpL, ↓btisO, tgI, tpI, tgL, tpL, tisO, ↓btg_111, tg_111, ↓btx_1426, tx_1426, ↓bts_1426, ts_1426, ↓btxl_1426, txl_1426, ↓btsl_1426, tsl_1426, ↓Option.bind_some, ↓b2_some, ↓bX_l, ↓bX_r, Option.bind_some, Option.bind_none, b2_some, bX_l, bX_r, nn_e, if_true, if_false, reduceCtorEq, ↓reduceIte, Nat.reduceEqDiff, Nat.reduceLT, Nat.reduceLeDiff, Nat.reduceSubDiff, Nat.reduceAdd, Nat.reduceMul, nA1, nA2, nM1, nM2, n_add, n_mul, n_sub, nS1, nS2, nL0, nL1, nL2, nE0, nE1, nE2, nE3, bI_0, bI_1, bI_m, rz_b, rz_0, rz_1, H1, H2, H3, Nat.add_sub_cancel, Option.bind_fun_some, ql]
      rw [lq0]
  · refine fin (a * b) (by simp [jn]) ?_
    simp (disch := first | assumption | ((repeat (first | with_reducible refine TKI ?_ | with_reducible refine TKL ?_)); assumption) | omega) only [X7_qJoins, X7_qJoins_161, X7_qJoins_181, X7_qJoins_200, X7_qJoins_219, X7_qJoins_238, X7_qJoins_270, ↓btgI, ↓btpI, ↓btgL, ↓btpL, ↓btisO, tgI, tpI, tgL, tpL, tisO, ↓btg_111, tg_111, ↓btx_1426, tx_1426, ↓bts_1426, ts_1426, ↓btxl_1426, txl_1426, ↓btsl_1426, tsl_1426, ↓Option.bind_some, ↓b2_some, ↓bX_l, ↓bX_r, Option.bind_some, Option.bind_none, b2_some, bX_l, bX_r, nn_e, if_true, if_false, reduceCtorEq, ↓reduceIte, Nat.reduceEqDiff, Nat.reduceLT, Nat.reduceLeDiff, Nat.reduceSubDiff, Nat.reduceAdd, Nat.reduceMul, nA1, nA2, nM1, nM2, n_add, n_mul, n_sub, nS1, nS2, nL0, nL1, nL2, nE0, nE1, nE2, nE3, bI_0, bI_1, bI_m, rz_b, rz_0, rz_1, H1, H2, H3, Nat.add_sub_cancel, Option.bind_fun_some, iL_mul]
  · have e0 : lg_cmp (iL (a + b)) 0 = lg_cmp (iL (a + b)) (iL 0) := rfl
    by_cases q : 0 < a + b
    · refine fin 1 (by simp [jn, q]) ?_
      simp (disch := first | assumption | ((repeat (first | with_reducible refine TKI ?_ | with_reducible refine TKL ?_)); assumption) | omega) only [X7_qJoins, X7_qJoins_161, X7_qJoins_181, X7_qJoins_200, X7_qJoins_219, X7_qJoins_238, X7_qJoins_270, ↓btgI, ↓btpI, ↓btgL, ↓btpL, ↓btisO, tgI, tpI, tgL, tpL, tisO, ↓btg_111, tg_111, ↓btx_1426, tx_1426, ↓bts_1426, ts_1426, ↓btxl_1426, txl_1426, ↓btsl_1426, tsl_1426, ↓Option.bind_some, ↓b2_some, ↓bX_l, ↓bX_r, Option.bind_some, Option.bind_none, b2_some, bX_l, bX_r, nn_e, if_true, if_false, reduceCtorEq, ↓reduceIte, Nat.reduceEqDiff, Nat.reduceLT, Nat.reduceLeDiff, Nat.reduceSubDiff, Nat.reduceAdd, Nat.reduceMul, nA1, nA2, nM1, nM2, n_add, n_mul, n_sub, nS1, nS2, nL0, nL1, nL2, nE0, nE1, nE2, nE3, bI_0, bI_1, bI_m, rz_b, rz_0, rz_1, H1, H2, H3, Nat.add_sub_cancel, Option.bind_fun_some, iL_add, e0, lgc_gt wab w0, q]
      rw [lq1]
    · refine fin 0 (by simp [jn, q]) ?_
      simp (disch := first | assumption | ((repeat (first | with_reducible refine TKI ?_ | with_reducible refine TKL ?_)); assumption) | omega) only [X7_qJoins, X7_qJoins_161, X7_qJoins_181, X7_qJoins_200, X7_qJoins_219, X7_qJoins_238, X7_qJoins_270, ↓btgI, ↓btpI, ↓btgL, ↓btpL, ↓btisO, tgI, tpI, tgL, tpL, tisO, ↓btg_111, tg_111, ↓btx_1426, tx_1426, ↓bts_1426, ts_1426, ↓btxl_1426, txl_1426, ↓btsl_1426, tsl_1426, ↓Option.bind_some, ↓b2_some, ↓bX_l, ↓bX_r, Option.bind_some, Option.bind_none, b2_some, bX_l, bX_r, nn_e, if_true, if_false, reduceCtorEq, ↓reduceIte, Nat.reduceEqDiff, Nat.reduceLT, Nat.reduceLeDiff, Nat.reduceSubDiff, Nat.reduceAdd, Nat.reduceMul, nA1, nA2, nM1, nM2, n_add, n_mul, n_sub, nS1, nS2, nL0, nL1, nL2, nE0, nE1, nE2, nE3, bI_0, bI_1, bI_m, rz_b, rz_0, rz_1, H1, H2, H3, Nat.add_sub_cancel, Option.bind_fun_some, iL_add, e0, lgc_gt wab w0, q]
      rw [lq0]
/-- what the twin tells of a part -/
def tvI (h : AH) (k : Nat) : Int32 := if k = 0 then hI h 1349 59 else if k = 1 then hI h 1349 60 else if k = 2 then hI h 1349 61 else if k = 3 then hI h 1349 62 else if k = 4 then hI h 1349 63 else if k = 5 then hI h 1349 64 else if k = 6 then hI h 1349 65 else hI h 1389 0
theorem T_qPartOf (W : TKK (hK h) (hR h)) (ht : hI h 1349 56 = 0 ∨ hI h 1349 56 = 1) {k : Nat} (hk : k < 8) (x : Int32) : X7_qPartOf 1349 (nI k) x h = some (iL (tvI h k).toInt, h) := by
  have ht2 : (hI h 1349 56 = 2) = False := by
    rcases ht with e | e <;> rw [e] <;> decide
  have e0 : xI 100 (some 1389) 0 h = some (hI h 1389 0) := tx_1389 (n := 0) W (by decide)
  rcases (by omega : k = 0 ∨ k = 1 ∨ k = 2 ∨ k = 3 ∨ k = 4 ∨ k = 5 ∨ k = 6 ∨ k = 7) with rfl | rfl | rfl | rfl | rfl | rfl | rfl | rfl
  all_goals (simp (disch := first | assumption | ((repeat (first | with_reducible refine TKI ?_ | with_reducible refine TKL ?_)); assumption) | omega) only [X7_qPartOf, ↓btgI, ↓btpI, ↓btgL, ↓btpL, ↓btisO, tgI, tpI, tgL, tpL, tisO, ↓btg_57, tg_57, ↓btx_1389, tx_1389, ↓bts_1389, ts_1389, ↓btxl_1389, txl_1389, ↓btsl_1389, tsl_1389, ↓Option.bind_some, ↓b2_some, ↓bX_l, ↓bX_r, Option.bind_some, Option.bind_none, b2_some, bX_l, bX_r, nn_e, if_true, if_false, reduceCtorEq, ↓reduceIte, Nat.reduceEqDiff, Nat.reduceLT, Nat.reduceLeDiff, Nat.reduceSubDiff, Nat.reduceAdd, Nat.reduceMul, nA1, nA2, nM1, nM2, n_add, n_mul, n_sub, nS1, nS2, nL0, nL1, nL2, nE0, nE1, nE2, nE3, bI_0, bI_1, bI_m, rz_b, rz_0, rz_1, ht2, e0, i2L, tvI, Nat.reduceEqDiff])
/-- codes without a word behind them, and of parts only those that are asked of strokes -/
def lcd (L : List Nat) : Prop := ∀ c ∈ L, c < 48 ∨ 1000 ≤ c
theorem T_codesTell (W : TKK (hK h) (hR h)) {w : Nat} (hw : w < 2) {L : List Nat} (S : TCD h (2 + w) (some L)) (hl : lcd L) {e : ENV} (he : ∀ c ∈ L, 40 ≤ c → c < 48 → e.1 (c - 40) = (tvI h (c - 40)).toInt ∧ rng (e.1 (c - 40))) {v : Int} (hr : run e L [] = some [v]) :
    Ev (X7_codesTell 1349 (nI w) h) (fun z => z.1 = iL v ∧ FT PD0 h z.2) := by
  obtain ⟨f, s1, s2, s3, s4⟩ := S
  have q1 : hI (wI 1349 112 0 (wI 1349 56 (nI w) h)) 1386 (2 + w) = nI f := s1
  simp (disch := first | assumption | ((repeat (first | with_reducible refine TKI ?_ | with_reducible refine TKL ?_)); assumption) | omega) only [X7_codesTell, ↓btgI, ↓btpI, ↓btgL, ↓btpL, ↓btisO, tgI, tpI, tgL, tpL, tisO, ↓btg_51, tg_51, ↓btx_1386, tx_1386, ↓bts_1386, ts_1386, ↓btxl_1386, txl_1386, ↓btsl_1386, tsl_1386, ↓btg_52, tg_52, ↓btx_1387, tx_1387, ↓bts_1387, ts_1387, ↓btxl_1387, txl_1387, ↓btsl_1387, tsl_1387, ↓btg_53, tg_53, ↓btx_1388, tx_1388, ↓bts_1388, ts_1388, ↓btxl_1388, txl_1388, ↓btsl_1388, tsl_1388, ↓btg_111, tg_111, ↓btx_1426, tx_1426, ↓bts_1426, ts_1426, ↓btxl_1426, txl_1426, ↓btsl_1426, tsl_1426, ↓Option.bind_some, ↓b2_some, ↓bX_l, ↓bX_r, Option.bind_some, Option.bind_none, b2_some, bX_l, bX_r, nn_e, if_true, if_false, reduceCtorEq, ↓reduceIte, Nat.reduceEqDiff, Nat.reduceLT, Nat.reduceLeDiff, Nat.reduceSubDiff, Nat.reduceAdd, Nat.reduceMul, nA1, nA2, nM1, nM2, n_add, n_mul, n_sub, nS1, nS2, nL0, nL1, nL2, nE0, nE1, nE2, nE3, bI_0, bI_1, bI_m, rz_b, rz_0, rz_1, q1]
  rw [X7_codesTell_19]
  refine ev_for (f + L.length) (fun k st => st.1 = nI k ∧ f ≤ k ∧ FT PD0 h st.2 ∧ hI st.2 1349 56 = nI w ∧ ∃ ps, PLh st.2 ps ∧ (∀ x ∈ ps, rng x) ∧ ps.length ≤ k - f ∧ run e (L.drop (k - f)) ps = some [v]) ?_ ?_ f _ (by omega) ⟨rfl, Nat.le_refl _, ((FT.refl _ _).wI (by unfold PD0; omega)).wI (by unfold PD0; omega), rfl, [], ⟨rfl, trivial⟩, by simp, by simp, by simpa using hr⟩
  · rintro k ⟨x, g⟩ hk ⟨hx, hf, F, ht, ps, hp, hpr, hpl, hrun⟩
    simp only at hx F ht hp
    subst hx
    have W2 := F.tk W
    have t2 : hI g 1349 56 = 0 ∨ hI g 1349 56 = 1 := by
      rw [ht]
      rcases (by omega : w = 0 ∨ w = 1) with rfl | rfl
      · exact Or.inl rfl
      · exact Or.inr rfl
    have he2 : ∀ j, j < 8 → tvI g j = tvI h j := by
      intro j hj
      unfold tvI
      rw [F.i (x := 1349) (k := 59) (by unfold PD0; omega), F.i (x := 1349) (k := 60) (by unfold PD0; omega), F.i (x := 1349) (k := 61) (by unfold PD0; omega), F.i (x := 1349) (k := 62) (by unfold PD0; omega), F.i (x := 1349) (k := 63) (by unfold PD0; omega), F.i (x := 1349) (k := 64) (by unfold PD0; omega), F.i (x := 1349) (k := 65) (by unfold PD0; omega), F.i (x := 1389) (k := 0) (by unfold PD0; omega)]
    have q2 : hI g 1387 (2 + w) = nI (f + L.length) := (F.i (by unfold PD0; omega)).trans s2
    have hlt : k - f < L.length := by omega
    have hd : L.drop (k - f) = L[k - f] :: L.drop (k - f + 1) := List.drop_eq_getElem_cons hlt
    have q3 : hI g 1388 (1600 + k) = nI (L[k - f]) := by
      rw [F.i (by unfold PD0; omega)]
      have := s4 (k - f) hlt
      rw [show 1600 + f + (k - f) = 1600 + k by omega] at this
      rw [this, List.getD_eq_getElem?_getD, List.getElem?_eq_getElem hlt]
      rfl
    have hmem := List.getElem_mem hlt
    have hc := hl _ hmem
    generalize hcc : L[k - f] = c at *
    rw [hd, run] at hrun
    obtain ⟨ps', hs, hrun2⟩ := Option.bind_eq_some_iff.mp hrun
    obtain ⟨r1, r2, r3⟩ := stp_rng hpr hs
    have W3 : ∀ g2, FT PD1 g g2 → PLh g2 ps' → nI (k + 1) = nI (k + 1) ∧ f ≤ k + 1 ∧ FT PD0 h g2 ∧ hI g2 1349 56 = nI w ∧ ∃ ps, PLh g2 ps ∧ (∀ x ∈ ps, rng x) ∧ ps.length ≤ k + 1 - f ∧ run e (L.drop (k + 1 - f)) ps = some [v] := by
      intro g2 F2 P2
      refine ⟨rfl, by omega, F.trans (F2.mono (fun x y z => by unfold PD1 at z; unfold PD0; omega)), (F2.i (by unfold PD1; omega)).trans ht, ps', P2, r1, by omega, ?_⟩
      rw [show k + 1 - f = k - f + 1 by omega]
      exact hrun2
    have len : ps.length < 1600 := by omega
    have t3 : PD1 1349 112 := by unfold PD1; omega
    have t4 : ∀ n, PD1 1426 n := fun n => by unfold PD1; omega
    rcases hc with hc | hc
    · have c1 : c < 1000 := by omega
      by_cases c2 : c < 40
      · by_cases c3 : c = 13
        · subst c3
          have := stp_13 hs
          subst this
          obtain ⟨e1, e2⟩ := T_qPuts W2 hp (by omega) 1
          rw [← lq1] at e1
          simp (disch := first | assumption | ((repeat (first | with_reducible refine TKI ?_ | with_reducible refine TKL ?_)); assumption) | omega) only [X7_codesTell_19b, ↓btgI, ↓btpI, ↓btgL, ↓btpL, ↓btisO, tgI, tpI, tgL, tpL, tisO, ↓btg_51, tg_51, ↓btx_1386, tx_1386, ↓bts_1386, ts_1386, ↓btxl_1386, txl_1386, ↓btsl_1386, tsl_1386, ↓btg_52, tg_52, ↓btx_1387, tx_1387, ↓bts_1387, ts_1387, ↓btxl_1387, txl_1387, ↓btsl_1387, tsl_1387, ↓btg_53, tg_53, ↓btx_1388, tx_1388, ↓bts_1388, ts_1388, ↓btxl_1388, txl_1388, ↓btsl_1388, tsl_1388, ↓btg_111, tg_111, ↓btx_1426, tx_1426, ↓bts_1426, ts_1426, ↓btxl_1426, txl_1426, ↓btsl_1426, tsl_1426, ↓Option.bind_some, ↓b2_some, ↓bX_l, ↓bX_r, Option.bind_some, Option.bind_none, b2_some, bX_l, bX_r, nn_e, if_true, if_false, reduceCtorEq, ↓reduceIte, Nat.reduceEqDiff, Nat.reduceLT, Nat.reduceLeDiff, Nat.reduceSubDiff, Nat.reduceAdd, Nat.reduceMul, nA1, nA2, nM1, nM2, n_add, n_mul, n_sub, nS1, nS2, nL0, nL1, nL2, nE0, nE1, nE2, nE3, bI_0, bI_1, bI_m, rz_b, rz_0, rz_1, q2, q3, hk, Nat.reduceLT, Nat.reduceEqDiff, e1]
          rw [Ev_some]
          exact W3 _ (((FT.refl PD1 g).wL (t4 _)).wI t3) e2
        · by_cases c4 : c = 12
          · subst c4
            obtain ⟨a, r, rfl, ha, rfl⟩ := stp_12 hs
            obtain ⟨p1, p2, p3⟩ := hp
            simp only [List.length_cons] at p1 p2 len
            simp (disch := first | assumption | ((repeat (first | with_reducible refine TKI ?_ | with_reducible refine TKL ?_)); assumption) | omega) only [X7_codesTell_19b, ↓btgI, ↓btpI, ↓btgL, ↓btpL, ↓btisO, tgI, tpI, tgL, tpL, tisO, ↓btg_51, tg_51, ↓btx_1386, tx_1386, ↓bts_1386, ts_1386, ↓btxl_1386, txl_1386, ↓btsl_1386, tsl_1386, ↓btg_52, tg_52, ↓btx_1387, tx_1387, ↓bts_1387, ts_1387, ↓btxl_1387, txl_1387, ↓btsl_1387, tsl_1387, ↓btg_53, tg_53, ↓btx_1388, tx_1388, ↓bts_1388, ts_1388, ↓btxl_1388, txl_1388, ↓btsl_1388, tsl_1388, ↓btg_111, tg_111, ↓btx_1426, tx_1426, ↓bts_1426, ts_1426, ↓btxl_1426, txl_1426, ↓btsl_1426, tsl_1426, ↓Option.bind_some, ↓b2_some, ↓bX_l, ↓bX_r, Option.bind_some, Option.bind_none, b2_some, bX_l, bX_r, nn_e, if_true, if_false, reduceCtorEq, ↓reduceIte, Nat.reduceEqDiff, Nat.reduceLT, Nat.reduceLeDiff, Nat.reduceSubDiff, Nat.reduceAdd, Nat.reduceMul, nA1, nA2, nM1, nM2, n_add, n_mul, n_sub, nS1, nS2, nL0, nL1, nL2, nE0, nE1, nE2, nE3, bI_0, bI_1, bI_m, rz_b, rz_0, rz_1, q2, q3, hk, p1, p2, Nat.add_sub_cancel, Nat.reduceLT, Nat.reduceEqDiff]
            rw [lq1, iL_sub]
            rw [Ev_some]
            refine W3 _ ((FT.refl PD1 g).wL (t4 _)) ⟨by rw [List.length_cons]; exact p1, ?_, PL_wL (Nat.le_refl _) p3⟩
            rw [p_LL, if_pos ⟨rfl, rfl⟩]
          · obtain ⟨a, b, r, rfl, hcc2, rfl⟩ := stp_jn c2 c3 c4 hs
            simp only [List.length_cons] at len
            obtain ⟨g2, e1, F2, P2⟩ := T_qJoins W2 hp (by omega) (hpr a (by simp)) (hpr b (by simp)) hcc2
            simp (disch := first | assumption | ((repeat (first | with_reducible refine TKI ?_ | with_reducible refine TKL ?_)); assumption) | omega) only [X7_codesTell_19b, ↓btgI, ↓btpI, ↓btgL, ↓btpL, ↓btisO, tgI, tpI, tgL, tpL, tisO, ↓btg_51, tg_51, ↓btx_1386, tx_1386, ↓bts_1386, ts_1386, ↓btxl_1386, txl_1386, ↓btsl_1386, tsl_1386, ↓btg_52, tg_52, ↓btx_1387, tx_1387, ↓bts_1387, ts_1387, ↓btxl_1387, txl_1387, ↓btsl_1387, tsl_1387, ↓btg_53, tg_53, ↓btx_1388, tx_1388, ↓bts_1388, ts_1388, ↓btxl_1388, txl_1388, ↓btsl_1388, tsl_1388, ↓btg_111, tg_111, ↓btx_1426, tx_1426, ↓bts_1426, ts_1426, ↓btxl_1426, txl_1426, ↓btsl_1426, tsl_1426, ↓Option.bind_some, ↓b2_some, ↓bX_l, ↓bX_r, Option.bind_some, Option.bind_none, b2_some, bX_l, bX_r, nn_e, if_true, if_false, reduceCtorEq, ↓reduceIte, Nat.reduceEqDiff, Nat.reduceLT, Nat.reduceLeDiff, Nat.reduceSubDiff, Nat.reduceAdd, Nat.reduceMul, nA1, nA2, nM1, nM2, n_add, n_mul, n_sub, nS1, nS2, nL0, nL1, nL2, nE0, nE1, nE2, nE3, bI_0, bI_1, bI_m, rz_b, rz_0, rz_1, q2, q3, hk, c1, c2, c3, c4, e1]
            rw [Ev_some]
            exact W3 _ F2 P2
      · have := stp_part (by omega) (by omega) hs
        obtain ⟨he3, he4⟩ := he c hmem (by omega) (by omega)
        rw [clp_id he4] at this
        subst this
        obtain ⟨e1, e2⟩ := T_qPuts W2 hp (by omega) (e.1 (c - 40))
        have e3 := T_qPartOf W2 t2 (show c - 40 < 8 by omega) 0
        rw [he2 _ (by omega), ← he3] at e3
        simp (disch := first | assumption | ((repeat (first | with_reducible refine TKI ?_ | with_reducible refine TKL ?_)); assumption) | omega) only [X7_codesTell_19b, ↓btgI, ↓btpI, ↓btgL, ↓btpL, ↓btisO, tgI, tpI, tgL, tpL, tisO, ↓btg_51, tg_51, ↓btx_1386, tx_1386, ↓bts_1386, ts_1386, ↓btxl_1386, txl_1386, ↓btsl_1386, tsl_1386, ↓btg_52, tg_52, ↓btx_1387, tx_1387, ↓bts_1387, ts_1387, ↓btxl_1387, txl_1387, ↓btsl_1387, tsl_1387, ↓btg_53, tg_53, ↓btx_1388, tx_1388, ↓bts_1388, ts_1388, ↓btxl_1388, txl_1388, ↓btsl_1388, tsl_1388, ↓btg_111, tg_111, ↓btx_1426, tx_1426, ↓bts_1426, ts_1426, ↓btxl_1426, txl_1426, ↓btsl_1426, tsl_1426, ↓Option.bind_some, ↓b2_some, ↓bX_l, ↓bX_r, Option.bind_some, Option.bind_none, b2_some, bX_l, bX_r, nn_e, if_true, if_false, reduceCtorEq, ↓reduceIte, Nat.reduceEqDiff, Nat.reduceLT, Nat.reduceLeDiff, Nat.reduceSubDiff, Nat.reduceAdd, Nat.reduceMul, nA1, nA2, nM1, nM2, n_add, n_mul, n_sub, nS1, nS2, nL0, nL1, nL2, nE0, nE1, nE2, nE3, bI_0, bI_1, bI_m, rz_b, rz_0, rz_1, q2, q3, hk, c1, c2, e3, e1]
        rw [Ev_some]
        exact W3 _ (((FT.refl PD1 g).wL (t4 _)).wI t3) e2
    · have c1 : ¬ c < 1000 := by omega
      obtain ⟨c2, rfl⟩ := stp_num hc hs
      obtain ⟨e1, e2⟩ := T_qPuts W2 hp (by omega) ((c - 1000 : Nat) : Int)
      simp (disch := first | assumption | ((repeat (first | with_reducible refine TKI ?_ | with_reducible refine TKL ?_)); assumption) | omega) only [X7_codesTell_19b, ↓btgI, ↓btpI, ↓btgL, ↓btpL, ↓btisO, tgI, tpI, tgL, tpL, tisO, ↓btg_51, tg_51, ↓btx_1386, tx_1386, ↓bts_1386, ts_1386, ↓btxl_1386, txl_1386, ↓btsl_1386, tsl_1386, ↓btg_52, tg_52, ↓btx_1387, tx_1387, ↓bts_1387, ts_1387, ↓btxl_1387, txl_1387, ↓btsl_1387, tsl_1387, ↓btg_53, tg_53, ↓btx_1388, tx_1388, ↓bts_1388, ts_1388, ↓btxl_1388, txl_1388, ↓btsl_1388, tsl_1388, ↓btg_111, tg_111, ↓btx_1426, tx_1426, ↓bts_1426, ts_1426, ↓btxl_1426, txl_1426, ↓btsl_1426, tsl_1426, ↓Option.bind_some, ↓b2_some, ↓bX_l, ↓bX_r, Option.bind_some, Option.bind_none, b2_some, bX_l, bX_r, nn_e, if_true, if_false, reduceCtorEq, ↓reduceIte, Nat.reduceEqDiff, Nat.reduceLT, Nat.reduceLeDiff, Nat.reduceSubDiff, Nat.reduceAdd, Nat.reduceMul, nA1, nA2, nM1, nM2, n_add, n_mul, n_sub, nS1, nS2, nL0, nL1, nL2, nE0, nE1, nE2, nE3, bI_0, bI_1, bI_m, rz_b, rz_0, rz_1, q2, q3, hk, c1, i2L, n_int, e1]
      rw [Ev_some]
      exact W3 _ (((FT.refl PD1 g).wL (t4 _)).wI t3) e2
  · rintro ⟨x, g⟩ ⟨hx, hf, F, ht, ps, hp, hpr, hpl, hrun⟩
    simp only at hx F ht hp
    subst hx
    have W2 := F.tk W
    have q2 : hI g 1387 (2 + w) = nI (f + L.length) := (F.i (by unfold PD0; omega)).trans s2
    rw [Nat.add_sub_cancel_left, List.drop_length, run] at hrun
    cases hrun
    have e0 : xL 103 (some 1426) 0 g = some (hL g 1426 0) := tx_1426 (n := 0) W2 (by decide)
    simp (disch := first | assumption | ((repeat (first | with_reducible refine TKI ?_ | with_reducible refine TKL ?_)); assumption) | omega) only [X7_codesTell_19b, X7_codesTell_142, ↓btgI, ↓btpI, ↓btgL, ↓btpL, ↓btisO, tgI, tpI, tgL, tpL, tisO, ↓btg_51, tg_51, ↓btx_1386, tx_1386, ↓bts_1386, ts_1386, ↓btxl_1386, txl_1386, ↓btsl_1386, tsl_1386, ↓btg_52, tg_52, ↓btx_1387, tx_1387, ↓bts_1387, ts_1387, ↓btxl_1387, txl_1387, ↓btsl_1387, tsl_1387, ↓btg_53, tg_53, ↓btx_1388, tx_1388, ↓bts_1388, ts_1388, ↓btxl_1388, txl_1388, ↓btsl_1388, tsl_1388, ↓btg_111, tg_111, ↓btx_1426, tx_1426, ↓bts_1426, ts_1426, ↓btxl_1426, txl_1426, ↓btsl_1426, tsl_1426, ↓Option.bind_some, ↓b2_some, ↓bX_l, ↓bX_r, Option.bind_some, Option.bind_none, b2_some, bX_l, bX_r, nn_e, if_true, if_false, reduceCtorEq, ↓reduceIte, Nat.reduceEqDiff, Nat.reduceLT, Nat.reduceLeDiff, Nat.reduceSubDiff, Nat.reduceAdd, Nat.reduceMul, nA1, nA2, nM1, nM2, n_add, n_mul, n_sub, nS1, nS2, nL0, nL1, nL2, nE0, nE1, nE2, nE3, bI_0, bI_1, bI_m, rz_b, rz_0, rz_1, q2, Nat.lt_irrefl, e0, Ev_some]
    exact ⟨hp.2.1, F⟩
end Tell
