set_option maxRecDepth 100000
/-! ===== a shop as data ===== -/
abbrev SH : Type := (Nat → Nat) × (Nat → Nat → Nat) × (Nat → Nat → Nat) × Nat × (Nat → Nat) × (Nat → Nat → Nat) × Nat × (Nat × Nat × Nat) × (Option (List Nat) × Option (List Nat))
/-- letters of a hand, which, glyph; words, how long, letters; boards; forgive, blank, hail; codes -/
abbrev z_nl (s : SH) : Nat → Nat := s.1
abbrev z_lw (s : SH) : Nat → Nat → Nat := s.2.1
abbrev z_lg (s : SH) : Nat → Nat → Nat := s.2.2.1
abbrev z_nw (s : SH) : Nat := s.2.2.2.1
abbrev z_wl (s : SH) : Nat → Nat := s.2.2.2.2.1
abbrev z_wc (s : SH) : Nat → Nat → Nat := s.2.2.2.2.2.1
abbrev z_nb (s : SH) : Nat := s.2.2.2.2.2.2.1
abbrev z_fg (s : SH) : Nat := s.2.2.2.2.2.2.2.1.1
abbrev z_bk (s : SH) : Nat := s.2.2.2.2.2.2.2.1.2.1
abbrev z_hl (s : SH) : Nat := s.2.2.2.2.2.2.2.1.2.2
abbrev z_dc (s : SH) : Option (List Nat) := s.2.2.2.2.2.2.2.2.1
abbrev z_rc (s : SH) : Option (List Nat) := s.2.2.2.2.2.2.2.2.2
/-- where a letter stands in a hand -/
def lp (s : SH) (hd c : Nat) : Nat := fnd (fun k => z_lw s hd k == c) 0 (z_nl s hd)
def la (s : SH) (hd c : Nat) : Int32 := fndI (z_nl s hd) (fun k => z_lw s hd k == c)
/-- a letter is in a hand -/
def isn (s : SH) (hd c : Nat) : Prop := ∃ k, k < z_nl s hd ∧ z_lw s hd k = c
theorem la_in {s : SH} {hd c : Nat} (h : isn s hd c) : lp s hd c < z_nl s hd ∧ z_lw s hd (lp s hd c) = c ∧ la s hd c = nI (lp s hd c) := by
  obtain ⟨k, hk, e⟩ := h
  obtain ⟨a, b, d⟩ := fndI_ex (p := fun k => z_lw s hd k == c) hk (by simp [e])
  exact ⟨a, beq_iff_eq.mp b, d⟩
theorem la_no {s : SH} {hd c : Nat} (h : ¬ isn s hd c) : la s hd c = -1 := by
  refine fndI_miss (fun j hj => ?_)
  simp only [beq_eq_false_iff_ne, ne_eq]
  exact fun e => h ⟨j, hj, e⟩
theorem la_ne {s : SH} {hd c : Nat} (h : la s hd c ≠ -1) : isn s hd c := by
  by_cases q : isn s hd c
  · exact q
  · exact absurd (la_no q) h
theorem la_iff {s : SH} {hd c : Nat} (hb : z_nl s hd ≤ 12) : la s hd c = -1 ↔ ¬ isn s hd c := by
  constructor
  · intro h q
    obtain ⟨a, -, e⟩ := la_in q
    rw [e, nE2 (by omega)] at h
    exact h
  · exact la_no
/-- the glyph of a letter -/
def gl (s : SH) (hd c : Nat) : Nat := z_lg s hd (lp s hd c)
/-- a word can be painted in a hand -/
def cp (s : SH) (w hd : Nat) : Bool := alln (fun k => decide (la s hd (z_wc s w k) ≠ -1)) (z_wl s w)
theorem cp_iff {s : SH} {w hd : Nat} (hb : z_nl s hd ≤ 12) : cp s w hd = true ↔ ∀ k, k < z_wl s w → isn s hd (z_wc s w k) := by
  rw [cp, alln_iff]
  constructor
  · intro h k hk
    exact la_ne (by simpa using h k hk)
  · intro h k hk
    have := h k hk
    simp only [decide_eq_true_eq, ne_eq, la_iff hb, Classical.not_not]
    exact this
def WFS (s : SH) : Prop := (∀ hd, hd < 2 → z_nl s hd ≤ 12) ∧ (∀ hd k, hd < 2 → k < z_nl s hd → 1 ≤ z_lw s hd k ∧ z_lw s hd k ≤ 26 ∧ z_lg s hd k < 32768) ∧ z_nw s ≤ 8 ∧
  (∀ w, w < z_nw s → 1 ≤ z_wl s w ∧ z_wl s w ≤ 6 ∧ (∀ k, k < z_wl s w → 1 ≤ z_wc s w k ∧ z_wc s w k ≤ 26) ∧ cp s w 0 = true) ∧ z_nb s ≤ 4 ∧ (z_fg s ≤ 99 ∧ z_bk s ≤ 99 ∧ z_hl s ≤ 100) ∧ CDK (z_dc s) ∧ CDT (z_rc s)
/-! ranges -/
def inR (x : Int32) (m : Nat) : Bool := decide (0 ≤ x.toInt ∧ x.toInt < m)
theorem inR_ex {x : Int32} {m : Nat} (hm : m ≤ 2147483648) (h : inR x m = true) : ∃ n, n < m ∧ x = nI n := by
  simp only [inR, decide_eq_true_eq] at h
  refine ⟨x.toInt.toNat, by omega, ?_⟩
  apply Int32.toInt_inj.mp
  rw [n_int (by omega)]
  omega
theorem inR_n {n m : Nat} (h : n < m) (hm : m ≤ 2147483648) : inR (nI n) m = true := by
  simp only [inR, decide_eq_true_eq, n_int (show n < 2147483648 by omega)]
  omega
theorem inR_no {n m : Nat} (h : m ≤ n) (hm : n < 2147483648) : inR (nI n) m = false := by
  simp only [inR, decide_eq_false_iff_not, n_int hm]
  omega
theorem T_isIn (u v w : Int64) (h : AH) : X7_isIn u v w h = some (bI (decide (v.toInt ≤ u.toInt ∧ u.toInt ≤ w.toInt)), h) := by
  unfold X7_isIn
  simp only [lg_cmp_lt, lg_cmp_gt, Int64.lt_iff_toInt_lt]
  by_cases h1 : v.toInt ≤ u.toInt
  · rw [if_neg (by omega)]
    by_cases h2 : u.toInt ≤ w.toInt
    · rw [if_neg (by omega)]; simp [h1, h2, bI]
    · rw [if_pos (by omega)]; simp [h2, bI]
  · rw [if_pos (by omega)]; simp [h1, bI]
theorem C_is (x a b : Int32) (h : AH) : X0_is x a b h = some (bI (decide (a.toInt ≤ x.toInt ∧ x.toInt ≤ b.toInt)), h) := by
  unfold X0_is
  simp only [Int32.lt_iff_toInt_lt]
  by_cases h1 : a.toInt ≤ x.toInt
  · by_cases h2 : x.toInt ≤ b.toInt
    · rw [if_neg (by omega), if_neg (by omega)]; simp [h1, h2, bI]
    · rw [if_neg (by omega), if_pos (by omega)]; simp [h2, bI]
  · rw [if_pos (by omega)]; simp [h1, bI]
theorem n_toI (m : Nat) (hm : m < 2147483648) : (nI m - 1).toInt = (m : Int) - 1 := by
  rcases Nat.eq_zero_or_pos m with q | q
  · subst q; decide
  · rw [nS1 (show 1 ≤ m from q), n_int (by omega)]; omega
theorem b_inR {x : Int32} {m : Nat} (hm : m < 2147483648) : decide ((0 : Int64).toInt ≤ (Int32.toInt64 x).toInt ∧ (Int32.toInt64 x).toInt ≤ (Int32.toInt64 (nI m - 1)).toInt) = inR x m := by
  rw [inR, Int32.toInt_toInt64, Int32.toInt_toInt64, n_toI m hm]
  have : (0 : Int64).toInt = 0 := rfl
  rw [this]
  apply decide_eq_decide.mpr
  omega
theorem b_inL {x : Int32} {m : Nat} (hm : m < 2147483648) : decide ((0 : Int64).toInt ≤ (Int32.toInt64 x).toInt ∧ (Int32.toInt64 x).toInt ≤ (Int64.ofNat m).toInt) = inR x (m + 1) := by
  rw [inR, Int32.toInt_toInt64]
  have e1 : (0 : Int64).toInt = 0 := rfl
  have e2 : (Int64.ofNat m).toInt = m := Int64.toInt_ofNat_of_lt (by omega)
  rw [e1, e2]
  apply decide_eq_decide.mpr
  omega
theorem b_inC {x : Int32} {m : Nat} (hm : m < 2147483648) : decide ((0 : Int32).toInt ≤ x.toInt ∧ x.toInt ≤ (Int32.ofNat m).toInt) = inR x (m + 1) := by
  rw [inR]
  have e1 : (0 : Int32).toInt = 0 := rfl
  have e2 : (Int32.ofNat m).toInt = m := Int32.toInt_ofNat_of_lt (by omega)
  rw [e1, e2]
  apply decide_eq_decide.mpr
  omega
/-! ===== the twin's standing shop ===== -/
def TCD (h : AH) (j : Nat) (c : Option (List Nat)) : Prop := match c with
  | none => hI h 1386 j = -1
  | some L => ∃ f, hI h 1386 j = nI f ∧ hI h 1387 j = nI (f + L.length) ∧ f + L.length ≤ 1600 ∧ ∀ i, i < L.length → hI h 1388 (1600 + f + i) = nI (L.getD i 0)
def TSH (h : AH) (s : SH) : Prop :=
  (∀ hd, hd < 2 → hI h 1381 (2 + hd) = nI (z_nl s hd)) ∧
  (∀ hd k, hd < 2 → k < z_nl s hd → hI h 1382 (48 + 24 * hd + 2 * k) = nI (z_lw s hd k) ∧ hI h 1382 (49 + 24 * hd + 2 * k) = nI (z_lg s hd k)) ∧
  hI h 1349 45 = nI (z_nw s) ∧
  (∀ w, w < z_nw s → hI h 1383 (56 + 7 * w) = nI (z_wl s w)) ∧
  (∀ w k, w < z_nw s → k < z_wl s w → hI h 1383 (57 + 7 * w + k) = nI (z_wc s w k)) ∧
  hI h 1349 48 = nI (z_nb s) ∧
  (hI h 1385 3 = nI (z_fg s) ∧ hI h 1385 4 = nI (z_bk s) ∧ hI h 1385 5 = nI (z_hl s)) ∧
  TCD h 2 (z_dc s) ∧ TCD h 3 (z_rc s)
/-- the places of the standing shop -/
def Stn (a k : Nat) : Prop := (1381 ≤ a ∧ a ≤ 1388 ∧ a ≠ 1384) ∨ (a = 1349 ∧ (k = 45 ∨ k = 48))
theorem TCD.fr {h h' : AH} {j : Nat} {c : Option (List Nat)} (e : ∀ a k, Stn a k → hI h' a k = hI h a k) (H : TCD h j c) : TCD h' j c := by
  cases c with
  | none => simp only [TCD] at H ⊢; rw [e _ _ (by unfold Stn; omega)]; exact H
  | some L =>
    obtain ⟨f, a, b, d, g⟩ := H
    refine ⟨f, ?_, ?_, d, fun i hi => ?_⟩
    · rw [e _ _ (by unfold Stn; omega)]; exact a
    · rw [e _ _ (by unfold Stn; omega)]; exact b
    · rw [e _ _ (by unfold Stn; omega)]; exact g i hi
theorem TSH.fr {h h' : AH} {s : SH} (e : ∀ a k, Stn a k → hI h' a k = hI h a k) (H : TSH h s) : TSH h' s := by
  obtain ⟨a1, a2, a3, a4, a5, a6, ⟨a7, a8, a9⟩, b1, b2⟩ := H
  refine ⟨fun hd q => ?_, fun hd k q r => ?_, ?_, fun w q => ?_, fun w k q r => ?_, ?_, ⟨?_, ?_, ?_⟩, b1.fr e, b2.fr e⟩
  · rw [e _ _ (by unfold Stn; omega)]; exact a1 hd q
  · rw [e _ _ (by unfold Stn; omega), e _ _ (by unfold Stn; omega)]; exact a2 hd k q r
  · rw [e _ _ (by unfold Stn; omega)]; exact a3
  · rw [e _ _ (by unfold Stn; omega)]; exact a4 w q
  · rw [e _ _ (by unfold Stn; omega)]; exact a5 w k q r
  · rw [e _ _ (by unfold Stn; omega)]; exact a6
  · rw [e _ _ (by unfold Stn; omega)]; exact a7
  · rw [e _ _ (by unfold Stn; omega)]; exact a8
  · rw [e _ _ (by unfold Stn; omega)]; exact a9
theorem TSH.wI {h : AH} {s : SH} (H : TSH h s) {a k : Nat} {v : Int32} (ha : ¬ Stn a k) : TSH (wI a k v h) s :=
  H.fr (fun x y q => by rw [p_II, if_neg (fun z => ha (by rw [← z.1, ← z.2]; exact q))])
section TwinShop
variable {h : AH} {s : SH}
theorem T_glyphOf (W : TKK (hK h) (hR h)) (F : WFS s) (S : TSH h s) {hd k : Nat} (h1 : hd < 2) (h2 : k < z_nl s hd) : X7_glyphOf 1349 (nI hd) (nI k) h = some (nI (z_lg s hd k), h) := by
  have q := F.1 hd h1
  simp (disch := first | assumption | ((repeat (first | with_reducible refine TKI ?_ | with_reducible refine TKL ?_)); assumption) | omega) only [X7_glyphOf, ↓btgI, ↓btpI, ↓btgL, ↓btpL, ↓btisO, tgI, tpI, tgL, tpL, tisO, ↓btg_43, tg_43, ↓btx_1382, tx_1382, ↓bts_1382, ts_1382, ↓btxl_1382, txl_1382, ↓btsl_1382, tsl_1382, ↓Option.bind_some, ↓b2_some, ↓bX_l, ↓bX_r, Option.bind_some, Option.bind_none, b2_some, bX_l, bX_r, nn_e, if_true, if_false, reduceCtorEq, ↓reduceIte, Nat.reduceEqDiff, Nat.reduceLT, Nat.reduceLeDiff, Nat.reduceSubDiff, Nat.reduceAdd, Nat.reduceMul, nA1, nA2, nM1, nM2, n_add, n_mul, n_sub, nS1, nS2, nL0, nL1, nL2, nE0, nE1, nE2, nE3, bI_0, bI_1, bI_m, rz_b, rz_0, rz_1]
  rw [(S.2.1 hd k h1 h2).2]
theorem T_nameOf (W : TKK (hK h) (hR h)) (F : WFS s) (S : TSH h s) {hd k : Nat} (h1 : hd < 2) (h2 : k < z_nl s hd) : X7_nameOf 1349 (nI hd) (nI k) h = some (nI (z_lw s hd k), h) := by
  have q := F.1 hd h1
  simp (disch := first | assumption | ((repeat (first | with_reducible refine TKI ?_ | with_reducible refine TKL ?_)); assumption) | omega) only [X7_nameOf, ↓btgI, ↓btpI, ↓btgL, ↓btpL, ↓btisO, tgI, tpI, tgL, tpL, tisO, ↓btg_43, tg_43, ↓btx_1382, tx_1382, ↓bts_1382, ts_1382, ↓btxl_1382, txl_1382, ↓btsl_1382, tsl_1382, ↓Option.bind_some, ↓b2_some, ↓bX_l, ↓bX_r, Option.bind_some, Option.bind_none, b2_some, bX_l, bX_r, nn_e, if_true, if_false, reduceCtorEq, ↓reduceIte, Nat.reduceEqDiff, Nat.reduceLT, Nat.reduceLeDiff, Nat.reduceSubDiff, Nat.reduceAdd, Nat.reduceMul, nA1, nA2, nM1, nM2, n_add, n_mul, n_sub, nS1, nS2, nL0, nL1, nL2, nE0, nE1, nE2, nE3, bI_0, bI_1, bI_m, rz_b, rz_0, rz_1]
  rw [(S.2.1 hd k h1 h2).1]
theorem T_letterAt (W : TKK (hK h) (hR h)) (F : WFS s) (S : TSH h s) {hd c : Nat} (h1 : hd < 2) (hc : c < 1000) : X7_letterAt 1349 (nI hd) (nI c) h = some (la s hd c, h) := by
  have q := F.1 hd h1
  rw [X7_letterAt, X7_letterAt_2, ← Ev_is]
  refine ev_for (z_nl s hd) (fun k st => st = (nI k, h) ∧ ∀ j, j < k → (z_lw s hd j == c) = false) ?_ ?_ 0 _ (Nat.zero_le _) ⟨rfl, fun j hj => absurd hj (Nat.not_lt_zero _)⟩
  · rintro k _ hk ⟨rfl, hj⟩
    have r := F.2.1 hd k h1 hk
    simp (disch := first | assumption | ((repeat (first | with_reducible refine TKI ?_ | with_reducible refine TKL ?_)); assumption) | omega) only [X7_letterAt_2b, ↓btgI, ↓btpI, ↓btgL, ↓btpL, ↓btisO, tgI, tpI, tgL, tpL, tisO, ↓btg_42, tg_42, ↓btx_1381, tx_1381, ↓bts_1381, ts_1381, ↓btxl_1381, txl_1381, ↓btsl_1381, tsl_1381, ↓Option.bind_some, ↓b2_some, ↓bX_l, ↓bX_r, Option.bind_some, Option.bind_none, b2_some, bX_l, bX_r, nn_e, if_true, if_false, reduceCtorEq, ↓reduceIte, Nat.reduceEqDiff, Nat.reduceLT, Nat.reduceLeDiff, Nat.reduceSubDiff, Nat.reduceAdd, Nat.reduceMul, nA1, nA2, nM1, nM2, n_add, n_mul, n_sub, nS1, nS2, nL0, nL1, nL2, nE0, nE1, nE2, nE3, bI_0, bI_1, bI_m, rz_b, rz_0, rz_1, S.1 hd h1, hk, T_nameOf W F S h1 hk]
    by_cases e : z_lw s hd k = c
    · rw [if_pos e, Ev_some]
      exact Prod.ext (fndI_hit hk (by simp [e]) hj).symm rfl
    · rw [if_neg e, Ev_some]
      refine ⟨rfl, fun j h2 => ?_⟩
      rcases Nat.lt_or_ge j k with z | z
      · exact hj j z
      · have : j = k := by omega
        subst this
        simpa using e
  · rintro _ ⟨rfl, hj⟩
    simp (disch := first | assumption | ((repeat (first | with_reducible refine TKI ?_ | with_reducible refine TKL ?_)); assumption) | omega) only [X7_letterAt_2b, ↓btgI, ↓btpI, ↓btgL, ↓btpL, ↓btisO, tgI, tpI, tgL, tpL, tisO, ↓btg_42, tg_42, ↓btx_1381, tx_1381, ↓bts_1381, ts_1381, ↓btxl_1381, txl_1381, ↓btsl_1381, tsl_1381, ↓Option.bind_some, ↓b2_some, ↓bX_l, ↓bX_r, Option.bind_some, Option.bind_none, b2_some, bX_l, bX_r, nn_e, if_true, if_false, reduceCtorEq, ↓reduceIte, Nat.reduceEqDiff, Nat.reduceLT, Nat.reduceLeDiff, Nat.reduceSubDiff, Nat.reduceAdd, Nat.reduceMul, nA1, nA2, nM1, nM2, n_add, n_mul, n_sub, nS1, nS2, nL0, nL1, nL2, nE0, nE1, nE2, nE3, bI_0, bI_1, bI_m, rz_b, rz_0, rz_1, S.1 hd h1, Nat.lt_irrefl, Ev_some]
    exact Prod.ext (fndI_miss hj).symm rfl
theorem T_longOf (W : TKK (hK h) (hR h)) (F : WFS s) (S : TSH h s) {w : Nat} (h1 : w < z_nw s) : X7_longOf 1349 (nI w) h = some (nI (z_wl s w), h) := by
  have q := F.2.2.1
  simp (disch := first | assumption | ((repeat (first | with_reducible refine TKI ?_ | with_reducible refine TKL ?_)); assumption) | omega) only [X7_longOf, ↓btgI, ↓btpI, ↓btgL, ↓btpL, ↓btisO, tgI, tpI, tgL, tpL, tisO, ↓btg_46, tg_46, ↓btx_1383, tx_1383, ↓bts_1383, ts_1383, ↓btxl_1383, txl_1383, ↓btsl_1383, tsl_1383, ↓Option.bind_some, ↓b2_some, ↓bX_l, ↓bX_r, Option.bind_some, Option.bind_none, b2_some, bX_l, bX_r, nn_e, if_true, if_false, reduceCtorEq, ↓reduceIte, Nat.reduceEqDiff, Nat.reduceLT, Nat.reduceLeDiff, Nat.reduceSubDiff, Nat.reduceAdd, Nat.reduceMul, nA1, nA2, nM1, nM2, n_add, n_mul, n_sub, nS1, nS2, nL0, nL1, nL2, nE0, nE1, nE2, nE3, bI_0, bI_1, bI_m, rz_b, rz_0, rz_1]
  rw [S.2.2.2.1 w h1]
theorem T_letterOf (W : TKK (hK h) (hR h)) (F : WFS s) (S : TSH h s) {w k : Nat} (h1 : w < z_nw s) (h2 : k < z_wl s w) : X7_letterOf 1349 (nI w) (nI k) h = some (nI (z_wc s w k), h) := by
  have q := F.2.2.1
  have r := F.2.2.2.1 w h1
  simp (disch := first | assumption | ((repeat (first | with_reducible refine TKI ?_ | with_reducible refine TKL ?_)); assumption) | omega) only [X7_letterOf, ↓btgI, ↓btpI, ↓btgL, ↓btpL, ↓btisO, tgI, tpI, tgL, tpL, tisO, ↓btg_46, tg_46, ↓btx_1383, tx_1383, ↓bts_1383, ts_1383, ↓btxl_1383, txl_1383, ↓btsl_1383, tsl_1383, ↓Option.bind_some, ↓b2_some, ↓bX_l, ↓bX_r, Option.bind_some, Option.bind_none, b2_some, bX_l, bX_r, nn_e, if_true, if_false, reduceCtorEq, ↓reduceIte, Nat.reduceEqDiff, Nat.reduceLT, Nat.reduceLeDiff, Nat.reduceSubDiff, Nat.reduceAdd, Nat.reduceMul, nA1, nA2, nM1, nM2, n_add, n_mul, n_sub, nS1, nS2, nL0, nL1, nL2, nE0, nE1, nE2, nE3, bI_0, bI_1, bI_m, rz_b, rz_0, rz_1]
  rw [S.2.2.2.2.1 w k h1 h2]
theorem T_boardMany (W : TKK (hK h) (hR h)) (S : TSH h s) : X7_boardMany 1349 h = some (nI (z_nb s), h) := by
  simp (disch := first | assumption | ((repeat (first | with_reducible refine TKI ?_ | with_reducible refine TKL ?_)); assumption) | omega) only [X7_boardMany, ↓btgI, ↓btpI, ↓btgL, ↓btpL, ↓btisO, tgI, tpI, tgL, tpL, tisO, ↓Option.bind_some, ↓b2_some, ↓bX_l, ↓bX_r, Option.bind_some, Option.bind_none, b2_some, bX_l, bX_r, nn_e, if_true, if_false, reduceCtorEq, ↓reduceIte, Nat.reduceEqDiff, Nat.reduceLT, Nat.reduceLeDiff, Nat.reduceSubDiff, Nat.reduceAdd, Nat.reduceMul, S.2.2.2.2.2.1]
theorem T_wordMany (W : TKK (hK h) (hR h)) (S : TSH h s) : X7_wordMany 1349 h = some (nI (z_nw s), h) := by
  simp (disch := first | assumption | ((repeat (first | with_reducible refine TKI ?_ | with_reducible refine TKL ?_)); assumption) | omega) only [X7_wordMany, ↓btgI, ↓btpI, ↓btgL, ↓btpL, ↓btisO, tgI, tpI, tgL, tpL, tisO, ↓Option.bind_some, ↓b2_some, ↓bX_l, ↓bX_r, Option.bind_some, Option.bind_none, b2_some, bX_l, bX_r, nn_e, if_true, if_false, reduceCtorEq, ↓reduceIte, Nat.reduceEqDiff, Nat.reduceLT, Nat.reduceLeDiff, Nat.reduceSubDiff, Nat.reduceAdd, Nat.reduceMul, S.2.2.1]
theorem T_isHand (x : Int32) : X7_isHand 1349 x h = some (bI (inR x 2), h) := by
  rw [X7_isHand, T_isIn, b2_some, show ((1 : Int64)) = Int64.ofNat 1 from rfl, b_inL (by decide), rz_b, b2_some]
theorem T_isGlyph (x : Int32) : X7_isGlyph 1349 x h = some (bI (inR x 32768), h) := by
  rw [X7_isGlyph, T_isIn, b2_some, show ((32767 : Int64)) = Int64.ofNat 32767 from rfl, b_inL (by decide), rz_b, b2_some]
theorem T_isWord (W : TKK (hK h) (hR h)) (F : WFS s) (S : TSH h s) (x : Int32) : X7_isWord 1349 (Int32.toInt64 x) h = some (bI (inR x (z_nw s)), h) := by
  have q := F.2.2.1
  rw [X7_isWord, tisO W, Option.bind_some, T_wordMany W S, b2_some, T_isIn, b2_some, b_inR (by omega), rz_b, b2_some]
theorem T_isBoard (W : TKK (hK h) (hR h)) (F : WFS s) (S : TSH h s) (x : Int32) : X7_isBoard 1349 x h = some (bI (inR x (z_nb s)), h) := by
  have q := F.2.2.2.2.1
  rw [X7_isBoard, tisO W, Option.bind_some, T_boardMany W S, b2_some, T_isIn, b2_some, b_inR (by omega), rz_b, b2_some]
theorem T_isLetterOf (W : TKK (hK h) (hR h)) (F : WFS s) (S : TSH h s) (x y : Int32) : X7_isLetterOf 1349 x y h = some (bI (inR x 2 && inR y (z_nl s x.toInt.toNat)), h) := by
  rw [X7_isLetterOf, tisO W, Option.bind_some, T_isHand, b2_some]
  cases e : inR x 2 with
  | false => simp [bI]
  | true =>
    obtain ⟨n, hn, rfl⟩ := inR_ex (by decide) e
    have q := F.1 n hn
    rw [n_int (by omega), Int.toNat_natCast]
    simp (disch := first | assumption | ((repeat (first | with_reducible refine TKI ?_ | with_reducible refine TKL ?_)); assumption) | omega) only [↓btgI, ↓btpI, ↓btgL, ↓btpL, ↓btisO, tgI, tpI, tgL, tpL, tisO, ↓btg_42, tg_42, ↓btx_1381, tx_1381, ↓bts_1381, ts_1381, ↓btxl_1381, txl_1381, ↓btsl_1381, tsl_1381, ↓Option.bind_some, ↓b2_some, ↓bX_l, ↓bX_r, Option.bind_some, Option.bind_none, b2_some, bX_l, bX_r, nn_e, if_true, if_false, reduceCtorEq, ↓reduceIte, Nat.reduceEqDiff, Nat.reduceLT, Nat.reduceLeDiff, Nat.reduceSubDiff, Nat.reduceAdd, Nat.reduceMul, nA1, nA2, nM1, nM2, n_add, n_mul, n_sub, nS1, nS2, nL0, nL1, nL2, nE0, nE1, nE2, nE3, bI_0, bI_1, bI_m, rz_b, rz_0, rz_1, S.1 n hn, T_isIn, b_inR (show z_nl s n < 2147483648 by omega), Bool.true_and]
    cases e2 : inR y (z_nl s n) <;> simp [bI]
theorem T_canPaint (W : TKK (hK h) (hR h)) (F : WFS s) (S : TSH h s) {w hd : Nat} (h1 : w < z_nw s) (h2 : hd < 2) : X7_canPaint 1349 (nI w) (nI hd) h = some (bI (cp s w hd), h) := by
  have q := F.2.2.1
  obtain ⟨q1, q2, q3, -⟩ := F.2.2.2.1 w h1
  have qn := F.1 hd h2
  rw [X7_canPaint, X7_canPaint_2, ← Ev_is]
  refine ev_for (z_wl s w) (fun k st => st = (nI k, h) ∧ ∀ j, j < k → la s hd (z_wc s w j) ≠ -1) ?_ ?_ 0 _ (Nat.zero_le _) ⟨rfl, fun j hj => absurd hj (Nat.not_lt_zero _)⟩
  · rintro k _ hk ⟨rfl, hj⟩
    have r := q3 k hk
    simp (disch := first | assumption | ((repeat (first | with_reducible refine TKI ?_ | with_reducible refine TKL ?_)); assumption) | omega) only [X7_canPaint_2b, ↓btgI, ↓btpI, ↓btgL, ↓btpL, ↓btisO, tgI, tpI, tgL, tpL, tisO, ↓Option.bind_some, ↓b2_some, ↓bX_l, ↓bX_r, Option.bind_some, Option.bind_none, b2_some, bX_l, bX_r, nn_e, if_true, if_false, reduceCtorEq, ↓reduceIte, Nat.reduceEqDiff, Nat.reduceLT, Nat.reduceLeDiff, Nat.reduceSubDiff, Nat.reduceAdd, Nat.reduceMul, nA1, nA2, nM1, nM2, n_add, n_mul, n_sub, nS1, nS2, nL0, nL1, nL2, nE0, nE1, nE2, nE3, bI_0, bI_1, bI_m, rz_b, rz_0, rz_1, T_longOf W F S h1, T_letterOf W F S h1 hk, T_letterAt W F S h2 (show z_wc s w k < 1000 by omega), hk]
    by_cases e : la s hd (z_wc s w k) = -1
    · rw [if_pos e, Ev_some]
      refine Prod.ext ?_ rfl
      rw [cp, alln_no hk (by simp [e])]
      rfl
    · rw [if_neg e, Ev_some]
      refine ⟨rfl, fun j h3 => ?_⟩
      rcases Nat.lt_or_ge j k with z | z
      · exact hj j z
      · have : j = k := by omega
        subst this
        exact e
  · rintro _ ⟨rfl, hj⟩
    simp (disch := first | assumption | ((repeat (first | with_reducible refine TKI ?_ | with_reducible refine TKL ?_)); assumption) | omega) only [X7_canPaint_2b, ↓btgI, ↓btpI, ↓btgL, ↓btpL, ↓btisO, tgI, tpI, tgL, tpL, tisO, ↓Option.bind_some, ↓b2_some, ↓bX_l, ↓bX_r, Option.bind_some, Option.bind_none, b2_some, bX_l, bX_r, nn_e, if_true, if_false, reduceCtorEq, ↓reduceIte, Nat.reduceEqDiff, Nat.reduceLT, Nat.reduceLeDiff, Nat.reduceSubDiff, Nat.reduceAdd, Nat.reduceMul, nA1, nA2, nM1, nM2, n_add, n_mul, n_sub, nS1, nS2, nL0, nL1, nL2, nE0, nE1, nE2, nE3, bI_0, bI_1, bI_m, rz_b, rz_0, rz_1, T_longOf W F S h1, Nat.lt_irrefl, Ev_some]
    refine Prod.ext ?_ rfl
    rw [cp, (alln_iff _).mpr (fun k hk => by simpa using hj k hk)]
    rfl
end TwinShop
