set_option maxRecDepth 100000
/-! ===== what is undone; boards painted; years; hail: the twin's ===== -/
/-- rows that can be come back to, the newest first, in a ring -/
def TUN (h : AH) (U : List RW) : Prop := hI h 1349 78 = nI U.length ∧ U.length ≤ 20 ∧ ∃ w, w < 20 ∧ hI h 1349 79 = nI w ∧ ∀ i k, i < U.length → k < 154 → hI h 1399 (154 * ((w + 20 - i) % 20) + k) = nI ((U.getD i (fun _ => 0)) k)
def PDU (a k : Nat) : Prop := a = 1399 ∨ (a = 1349 ∧ (k = 78 ∨ k = 79))
theorem PDU_stn : ∀ a k, Stn a k → ¬ PDU a k := by intro a k h; unfold Stn at h; unfold PDU; omega
theorem TUN.fr {h h' : AH} {U : List RW} (e1 : ∀ k, hI h' 1399 k = hI h 1399 k) (e2 : hI h' 1349 78 = hI h 1349 78) (e3 : hI h' 1349 79 = hI h 1349 79) (T : TUN h U) : TUN h' U := by
  obtain ⟨a, b, w, c, d, e⟩ := T
  exact ⟨e2.trans a, b, w, c, e3.trans d, fun i k q1 q2 => (e1 _).trans (e i k q1 q2)⟩
def kpU (f : RW) (U : List RW) : List RW := (f :: U).take 20
theorem kpU_len (f : RW) (U : List RW) (h : U.length ≤ 20) : (kpU f U).length = if U.length < 20 then U.length + 1 else U.length := by
  rw [kpU, List.length_take, List.length_cons]
  split <;> omega
theorem kpU_at (f : RW) (U : List RW) {i : Nat} (hi : i < 20) : (kpU f U).getD i (fun _ => 0) = if i = 0 then f else U.getD (i - 1) (fun _ => 0) := by
  rw [kpU, List.getD_eq_getElem?_getD, List.getElem?_take_of_lt hi]
  cases i with
  | zero => rfl
  | succ i => rw [if_neg (by omega)]; rfl
/-- a board is painted -/
def ptR (s : SH) (f : RW) (b w hd : Nat) : RW := fun i => if 3 + 8 * b ≤ i ∧ i < 9 + 8 * b then (if i - (3 + 8 * b) < z_wl s w then gl s hd (z_wc s w (i - (3 + 8 * b))) else 0) else if i = 2 + 8 * b then hd else if i = 1 + 8 * b then w else f i
theorem WFN_pt {s : SH} (F : WFS s) {f : RW} (G : WFN s f) {b w hd : Nat} (hb : b < z_nb s) (hw : w < z_nw s) (hh : hd < 2) (hc : cp s w hd = true) : WFN s (ptR s f b w hd) := by
  have h4 := F.2.2.2.2.1
  have qn := F.1 hd hh
  refine ⟨?_, fun b' hb' => ?_, ?_⟩
  · unfold ptR; rw [if_neg (by omega), if_neg (by omega), if_neg (by omega)]; exact G.1
  · by_cases e : b' = b
    · subst e
      have e1 : ptR s f b' w hd (1 + 8 * b') = w := by unfold ptR; rw [if_neg (by omega), if_neg (by omega), if_pos rfl]
      have e2 : ptR s f b' w hd (2 + 8 * b') = hd := by unfold ptR; rw [if_neg (by omega), if_pos rfl]
      rw [e1, e2]
      refine ⟨hw, hh, hc, fun k hk => ?_⟩
      unfold ptR
      rw [if_pos (by omega)]
      split
      · exact gl_lt F hh ((cp_iff qn).mp hc _ (by assumption))
      · omega
    · have e1 : ptR s f b w hd (1 + 8 * b') = f (1 + 8 * b') := by unfold ptR; rw [if_neg (by omega), if_neg (by omega), if_neg (by omega)]
      have e2 : ptR s f b w hd (2 + 8 * b') = f (2 + 8 * b') := by unfold ptR; rw [if_neg (by omega), if_neg (by omega), if_neg (by omega)]
      rw [e1, e2]
      obtain ⟨a1, a2, a3, a4⟩ := G.2.1 b' hb'
      refine ⟨a1, a2, a3, fun k hk => ?_⟩
      unfold ptR
      rw [if_neg (by omega), if_neg (by omega), if_neg (by omega)]
      exact a4 k hk
  · unfold ptR; rw [if_neg (by omega), if_neg (by omega), if_neg (by omega)]; exact G.2.2
section Keep
variable {h : AH} {s : SH} {f : RW}
theorem T_keeps (W : TKK (hK h) (hR h)) (N : TNOW h f) {U : List RW} (T : TUN h U) : Ev (X7_keeps 1349 h) (fun H => FT PDU h H ∧ TUN H (kpU f U)) := by
  obtain ⟨u1, u2, w, w1, w2, u3⟩ := T
  have nz20 : nz 20 = some () := nz_e (by decide)
  have jr : jrem (nI (w + 1)) 20 = nI ((w + 1) % 20) := n_rem (b := 20) (by omega) (by decide) (by decide)
  have jr' : jrem (nI w + 1) 20 = nI ((w + 1) % 20) := by rw [nA1]; exact jr
  simp (disch := first | assumption | ((repeat (first | with_reducible refine TKI ?_ | with_reducible refine TKL ?_)); assumption) | omega) only [X7_keeps, ↓btgI, ↓btpI, ↓btgL, ↓btpL, ↓btisO, tgI, tpI, tgL, tpL, tisO, ↓btg_57, tg_57, ↓btx_1389, tx_1389, ↓bts_1389, ts_1389, ↓btxl_1389, txl_1389, ↓btsl_1389, tsl_1389, ↓btg_77, tg_77, ↓btx_1399, tx_1399, ↓bts_1399, ts_1399, ↓btxl_1399, txl_1399, ↓btsl_1399, tsl_1399, ↓Option.bind_some, ↓b2_some, ↓bX_l, ↓bX_r, Option.bind_some, Option.bind_none, b2_some, bX_l, bX_r, nn_e, if_true, if_false, reduceCtorEq, ↓reduceIte, Nat.reduceEqDiff, Nat.reduceLT, Nat.reduceLeDiff, Nat.reduceSubDiff, Nat.reduceAdd, Nat.reduceMul, w2, nz20, jr']
  generalize hw' : (w + 1) % 20 = w' at *
  have w'1 : w' < 20 := by omega
  rw [X7_keeps_15]
  refine ev_for 154 (fun j st => st.1 = nI j ∧ FT PDU h st.2 ∧ hI st.2 1349 79 = nI w' ∧ hI st.2 1349 78 = nI U.length ∧ (∀ k, k < j → hI st.2 1399 (154 * w' + k) = nI (f k)) ∧ ∀ k, (k < 154 * w' ∨ 154 * w' + 154 ≤ k) → hI st.2 1399 k = hI h 1399 k) ?_ ?_ 0 _ (by decide) ⟨rfl, (FT.refl _ _).wI (by unfold PDU; omega), rfl, u1, fun k q => absurd q (Nat.not_lt_zero _), fun k _ => rfl⟩
  · rintro j ⟨x, H⟩ hj ⟨hx, F2, e79, e78, E2, K2⟩
    simp only at hx F2 e79 e78 E2 K2
    subst hx
    have W2 := F2.tk W
    have en : hI H 1389 j = nI (f j) := (F2.i (by unfold PDU; omega)).trans (N j hj)
    simp (disch := first | assumption | ((repeat (first | with_reducible refine TKI ?_ | with_reducible refine TKL ?_)); assumption) | omega) only [X7_keeps_15b, ↓btgI, ↓btpI, ↓btgL, ↓btpL, ↓btisO, tgI, tpI, tgL, tpL, tisO, ↓btg_57, tg_57, ↓btx_1389, tx_1389, ↓bts_1389, ts_1389, ↓btxl_1389, txl_1389, ↓btsl_1389, tsl_1389, ↓btg_77, tg_77, ↓btx_1399, tx_1399, ↓bts_1399, ts_1399, ↓btxl_1399, txl_1399, ↓btsl_1399, tsl_1399, ↓Option.bind_some, ↓b2_some, ↓bX_l, ↓bX_r, Option.bind_some, Option.bind_none, b2_some, bX_l, bX_r, nn_e, if_true, if_false, reduceCtorEq, ↓reduceIte, Nat.reduceEqDiff, Nat.reduceLT, Nat.reduceLeDiff, Nat.reduceSubDiff, Nat.reduceAdd, Nat.reduceMul, nA1, nA2, nM1, nM2, n_add, n_mul, n_sub, nS1, nS2, nL0, nL1, nL2, nE0, nE1, nE2, nE3, bI_0, bI_1, bI_m, rz_b, rz_0, rz_1, hj, e79, en]
    rw [Ev_some]
    refine ⟨rfl, F2.wI (by unfold PDU; omega), by rw [p_II, if_neg (by omega)]; exact e79, by rw [p_II, if_neg (by omega)]; exact e78, fun k q => ?_, fun k q => ?_⟩
    · rw [p_II]
      by_cases e : k = j
      · rw [if_pos ⟨rfl, by omega⟩, e]
      · rw [if_neg (by omega)]; exact E2 k (by omega)
    · rw [p_II, if_neg (by omega)]; exact K2 k q
  · rintro ⟨x, H⟩ ⟨hx, F2, e79, e78, E2, K2⟩
    simp only at hx F2 e79 e78 E2 K2
    subst hx
    have W2 := F2.tk W
    have len := kpU_len f U u2
    have entries : ∀ i k, i < (kpU f U).length → k < 154 → hI H 1399 (154 * ((w' + 20 - i) % 20) + k) = nI ((kpU f U).getD i (fun _ => 0) k) := by
      intro i k hi hk
      have hi2 : i < 20 := by rw [len] at hi; split at hi <;> omega
      rw [kpU_at f U hi2]
      by_cases e : i = 0
      · subst e
        rw [if_pos rfl, show (w' + 20 - 0) % 20 = w' by omega]
        exact E2 k hk
      · rw [if_neg e]
        have hi3 : i - 1 < U.length := by rw [len] at hi; split at hi <;> omega
        have := u3 (i - 1) k hi3 hk
        rw [show (w + 20 - (i - 1)) % 20 = (w' + 20 - i) % 20 by omega] at this
        rw [← this]
        exact K2 _ (by omega)
    simp (disch := first | assumption | ((repeat (first | with_reducible refine TKI ?_ | with_reducible refine TKL ?_)); assumption) | omega) only [X7_keeps_15b, X7_keeps_49, ↓btgI, ↓btpI, ↓btgL, ↓btpL, ↓btisO, tgI, tpI, tgL, tpL, tisO, ↓btg_57, tg_57, ↓btx_1389, tx_1389, ↓bts_1389, ts_1389, ↓btxl_1389, txl_1389, ↓btsl_1389, tsl_1389, ↓btg_77, tg_77, ↓btx_1399, tx_1399, ↓bts_1399, ts_1399, ↓btxl_1399, txl_1399, ↓btsl_1399, tsl_1399, ↓Option.bind_some, ↓b2_some, ↓bX_l, ↓bX_r, Option.bind_some, Option.bind_none, b2_some, bX_l, bX_r, nn_e, if_true, if_false, reduceCtorEq, ↓reduceIte, Nat.reduceEqDiff, Nat.reduceLT, Nat.reduceLeDiff, Nat.reduceSubDiff, Nat.reduceAdd, Nat.reduceMul, nA1, nA2, nM1, nM2, n_add, n_mul, n_sub, nS1, nS2, nL0, nL1, nL2, nE0, nE1, nE2, nE3, bI_0, bI_1, bI_m, rz_b, rz_0, rz_1, Nat.lt_irrefl, e78]
    by_cases q : U.length < 20
    · rw [if_pos q, Option.bind_some, Ev_some]
      rw [if_pos q] at len
      refine ⟨F2.wI (by unfold PDU; omega), by rw [p_II, if_pos ⟨rfl, rfl⟩, len], by omega, w', w'1, by rw [p_II, if_neg (by omega)]; exact e79, fun i k q1 q2 => by rw [p_II, if_neg (by omega)]; exact entries i k q1 q2⟩
    · rw [if_neg q, Option.bind_some, Ev_some]
      rw [if_neg q] at len
      exact ⟨F2, by rw [len]; exact e78, by omega, w', w'1, e79, entries⟩
/-- one step back -/
theorem T_undo (W : TKK (hK h) (hR h)) {U : List RW} (T : TUN h U) {r : Nat → Int32} (R : TRF h r) :
    Ev (X7_undo 1349 h) (fun z => (U = [] → z.1 = 0 ∧ z.2 = wI 1351 4 (r 4 + 1) h) ∧ ∀ g V, U = g :: V → z.1 = 1 ∧ FT (fun a k => a = 1389 ∨ (a = 1349 ∧ (k = 78 ∨ k = 79))) h z.2 ∧ TNOW z.2 g ∧ TUN z.2 V) := by
  obtain ⟨u1, u2, w, w1, w2, u3⟩ := T
  have r4 := R 4 (by decide)
  simp (disch := first | assumption | ((repeat (first | with_reducible refine TKI ?_ | with_reducible refine TKL ?_)); assumption) | omega) only [X7_undo, ↓btgI, ↓btpI, ↓btgL, ↓btpL, ↓btisO, tgI, tpI, tgL, tpL, tisO, ↓btg_9, tg_9, ↓btx_1351, tx_1351, ↓bts_1351, ts_1351, ↓btxl_1351, txl_1351, ↓btsl_1351, tsl_1351, ↓btg_57, tg_57, ↓btx_1389, tx_1389, ↓bts_1389, ts_1389, ↓btxl_1389, txl_1389, ↓btsl_1389, tsl_1389, ↓btg_77, tg_77, ↓btx_1399, tx_1399, ↓bts_1399, ts_1399, ↓btxl_1399, txl_1399, ↓btsl_1399, tsl_1399, ↓Option.bind_some, ↓b2_some, ↓bX_l, ↓bX_r, Option.bind_some, Option.bind_none, b2_some, bX_l, bX_r, nn_e, if_true, if_false, reduceCtorEq, ↓reduceIte, Nat.reduceEqDiff, Nat.reduceLT, Nat.reduceLeDiff, Nat.reduceSubDiff, Nat.reduceAdd, Nat.reduceMul, nA1, nA2, nM1, nM2, n_add, n_mul, n_sub, nS1, nS2, nL0, nL1, nL2, nE0, nE1, nE2, nE3, bI_0, bI_1, bI_m, rz_b, rz_0, rz_1, u1, r4]
  cases U with
  | nil =>
    rw [if_pos (show ([] : List RW).length = 0 from rfl), Ev_some]
    exact ⟨fun _ => ⟨rfl, rfl⟩, fun g V z => (by cases z)⟩
  | cons g V =>
    simp only [List.length_cons] at u1 u2 u3
    rw [if_neg (by simp), X7_undo_21]
    have nz20 : nz 20 = some () := nz_e (by decide)
    have jr : jrem (nI w + 20 - 1) 20 = nI ((w + 19) % 20) := by
      rw [nA1, nS1 (show (OfNat.ofNat 1 : Nat) ≤ w + OfNat.ofNat 20 by show 1 ≤ w + 20; omega)]
      exact n_rem (b := 20) (by show w + 20 - 1 < _; omega) (by decide) (by decide)
    refine ev_for 154 (fun j st => st.1 = nI j ∧ FT (fun a _ => a = 1389) h st.2 ∧ ∀ k, k < j → hI st.2 1389 k = nI (g k)) ?_ ?_ 0 _ (by decide) ⟨rfl, FT.refl _ _, fun k q => absurd q (Nat.not_lt_zero _)⟩
    · rintro j ⟨x, H⟩ hj ⟨hx, F2, E2⟩
      simp only at hx F2 E2
      subst hx
      have W2 := F2.tk W
      have e79 : hI H 1349 79 = nI w := (F2.i (by omega)).trans w2
      have er : hI H 1399 (154 * w + j) = nI (g j) := by
        rw [F2.i (by omega)]
        have := u3 0 j (by omega) hj
        rw [show (w + 20 - 0) % 20 = w by omega] at this
        exact this
      simp (disch := first | assumption | ((repeat (first | with_reducible refine TKI ?_ | with_reducible refine TKL ?_)); assumption) | omega) only [X7_undo_21b, ↓btgI, ↓btpI, ↓btgL, ↓btpL, ↓btisO, tgI, tpI, tgL, tpL, tisO, ↓btg_9, tg_9, ↓btx_1351, tx_1351, ↓bts_1351, ts_1351, ↓btxl_1351, txl_1351, ↓btsl_1351, tsl_1351, ↓btg_57, tg_57, ↓btx_1389, tx_1389, ↓bts_1389, ts_1389, ↓btxl_1389, txl_1389, ↓btsl_1389, tsl_1389, ↓btg_77, tg_77, ↓btx_1399, tx_1399, ↓bts_1399, ts_1399, ↓btxl_1399, txl_1399, ↓btsl_1399, tsl_1399, ↓Option.bind_some, ↓b2_some, ↓bX_l, ↓bX_r, Option.bind_some, Option.bind_none, b2_some, bX_l, bX_r, nn_e, if_true, if_false, reduceCtorEq, ↓reduceIte, Nat.reduceEqDiff, Nat.reduceLT, Nat.reduceLeDiff, Nat.reduceSubDiff, Nat.reduceAdd, Nat.reduceMul, nA1, nA2, nM1, nM2, n_add, n_mul, n_sub, nS1, nS2, nL0, nL1, nL2, nE0, nE1, nE2, nE3, bI_0, bI_1, bI_m, rz_b, rz_0, rz_1, hj, e79, er]
      rw [Ev_some]
      refine ⟨rfl, F2.wI rfl, fun k q => ?_⟩
      rw [p_II]
      by_cases e : k = j
      · rw [if_pos ⟨rfl, e⟩, e]
      · rw [if_neg (by omega)]; exact E2 k (by omega)
    · rintro ⟨x, H⟩ ⟨hx, F2, E2⟩
      simp only at hx F2 E2
      subst hx
      have W2 := F2.tk W
      have e79 : hI H 1349 79 = nI w := (F2.i (by omega)).trans w2
      have e78 : hI (wI 1349 79 (nI ((w + 19) % 20)) H) 1349 78 = nI (V.length + 1) := by rw [p_II, if_neg (by omega), F2.i (by omega)]; exact u1
      simp (disch := first | assumption | ((repeat (first | with_reducible refine TKI ?_ | with_reducible refine TKL ?_)); assumption) | omega) only [X7_undo_21b, X7_undo_55, ↓btgI, ↓btpI, ↓btgL, ↓btpL, ↓btisO, tgI, tpI, tgL, tpL, tisO, ↓btg_9, tg_9, ↓btx_1351, tx_1351, ↓bts_1351, ts_1351, ↓btxl_1351, txl_1351, ↓btsl_1351, tsl_1351, ↓btg_57, tg_57, ↓btx_1389, tx_1389, ↓bts_1389, ts_1389, ↓btxl_1389, txl_1389, ↓btsl_1389, tsl_1389, ↓btg_77, tg_77, ↓btx_1399, tx_1399, ↓bts_1399, ts_1399, ↓btxl_1399, txl_1399, ↓btsl_1399, tsl_1399, ↓Option.bind_some, ↓b2_some, ↓bX_l, ↓bX_r, Option.bind_some, Option.bind_none, b2_some, bX_l, bX_r, nn_e, if_true, if_false, reduceCtorEq, ↓reduceIte, Nat.reduceEqDiff, Nat.reduceLT, Nat.reduceLeDiff, Nat.reduceSubDiff, Nat.reduceAdd, Nat.reduceMul, nL1, Nat.lt_irrefl, e79, nz20, jr, e78, nS1]
      rw [Ev_some]
      refine ⟨fun z => (by cases z), fun g' V' z => ?_⟩
      cases z
      refine ⟨rfl, ((F2.mono (fun a k z => Or.inl z)).wI (by omega)).wI (by omega), fun k hk => by rw [p_II, if_neg (by omega), p_II, if_neg (by omega)]; exact E2 k hk, ?_⟩
      refine ⟨by rw [p_II, if_pos ⟨rfl, rfl⟩], by omega, (w + 19) % 20, by omega, by rw [p_II, if_neg (by omega), p_II, if_pos ⟨rfl, rfl⟩], fun i k q1 q2 => ?_⟩
      rw [p_II, if_neg (by omega), p_II, if_neg (by omega), F2.i (by omega)]
      have := u3 (i + 1) k (by omega) q2
      rw [show (w + 20 - (i + 1)) % 20 = ((w + 19) % 20 + 20 - i) % 20 by omega] at this
      exact this
theorem T_paints (W : TKK (hK h) (hR h)) (F : WFS s) (S : TSH h s) (N : TNOW h f) {b w hd : Nat} (hb : b < 4) (hw : w < z_nw s) (hh : hd < 2) (hc : cp s w hd = true) : Ev (X7_paints 1349 (nI b) (nI w) (nI hd) h) (fun H => FT (fun a _ => a = 1389) h H ∧ TNOW H (ptR s f b w hd)) := by
  obtain ⟨w1, w2, w3, -⟩ := F.2.2.2.1 w hw
  have qn := F.1 hd hh
  simp (disch := first | assumption | ((repeat (first | with_reducible refine TKI ?_ | with_reducible refine TKL ?_)); assumption) | omega) only [X7_paints, ↓btgI, ↓btpI, ↓btgL, ↓btpL, ↓btisO, tgI, tpI, tgL, tpL, tisO, ↓btg_57, tg_57, ↓btx_1389, tx_1389, ↓bts_1389, ts_1389, ↓btxl_1389, txl_1389, ↓btsl_1389, tsl_1389, ↓Option.bind_some, ↓b2_some, ↓bX_l, ↓bX_r, Option.bind_some, Option.bind_none, b2_some, bX_l, bX_r, nn_e, if_true, if_false, reduceCtorEq, ↓reduceIte, Nat.reduceEqDiff, Nat.reduceLT, Nat.reduceLeDiff, Nat.reduceSubDiff, Nat.reduceAdd, Nat.reduceMul, nA1, nA2, nM1, nM2, n_add, n_mul, n_sub, nS1, nS2, nL0, nL1, nL2, nE0, nE1, nE2, nE3, bI_0, bI_1, bI_m, rz_b, rz_0, rz_1]
  have N1 := (N.up (1 + 8 * b) w).up (2 + 8 * b) hd
  rw [X7_paints_27]
  refine ev_for 6 (fun k st => st.1 = nI k ∧ FT (fun a _ => a = 1389) h st.2 ∧ TNOW st.2 (fun i => if 3 + 8 * b ≤ i ∧ i < 3 + 8 * b + k then (if i - (3 + 8 * b) < z_wl s w then gl s hd (z_wc s w (i - (3 + 8 * b))) else 0) else if i = 2 + 8 * b then hd else if i = 1 + 8 * b then w else f i)) ?_ ?_ 0 _ (by decide) ⟨rfl, ((FT.refl (fun a _ => a = 1389) h).wI rfl).wI rfl, N1.congr (fun k _ => by (try simp only); rw [if_neg (show ¬ (3 + 8 * b ≤ k ∧ k < 3 + 8 * b + 0) by omega)])⟩
  · rintro k ⟨x, H⟩ hk ⟨hx, F2, N2⟩
    simp only at hx F2 N2
    subst hx
    have W2 := F2.tk W
    have S2 : TSH H s := F2.tsh (fun a k z => by unfold Stn at z; omega) S
    have up : ∀ v, v = (if k < z_wl s w then gl s hd (z_wc s w k) else 0) → TNOW (wI 1389 (3 + 8 * b + k) (nI v) H) (fun i => if 3 + 8 * b ≤ i ∧ i < 3 + 8 * b + (k + 1) then (if i - (3 + 8 * b) < z_wl s w then gl s hd (z_wc s w (i - (3 + 8 * b))) else 0) else if i = 2 + 8 * b then hd else if i = 1 + 8 * b then w else f i) := by
      intro v hv
      refine (N2.up (3 + 8 * b + k) v).congr (fun i _ => ?_)
      try simp only
      by_cases e : i = 3 + 8 * b + k
      · rw [if_pos e, if_pos (by omega), e, Nat.add_sub_cancel_left, hv]
      · rw [if_neg e]
        by_cases e2 : 3 + 8 * b ≤ i ∧ i < 3 + 8 * b + k
        · rw [if_pos e2, if_pos (show 3 + 8 * b ≤ i ∧ i < 3 + 8 * b + (k + 1) by omega)]
        · rw [if_neg e2, if_neg (show ¬ (3 + 8 * b ≤ i ∧ i < 3 + 8 * b + (k + 1)) by omega)]
    simp (disch := first | assumption | ((repeat (first | with_reducible refine TKI ?_ | with_reducible refine TKL ?_)); assumption) | omega) only [X7_paints_27b, X7_paints_78, ↓btgI, ↓btpI, ↓btgL, ↓btpL, ↓btisO, tgI, tpI, tgL, tpL, tisO, ↓btg_57, tg_57, ↓btx_1389, tx_1389, ↓bts_1389, ts_1389, ↓btxl_1389, txl_1389, ↓btsl_1389, tsl_1389, ↓Option.bind_some, ↓b2_some, ↓bX_l, ↓bX_r, Option.bind_some, Option.bind_none, b2_some, bX_l, bX_r, nn_e, if_true, if_false, reduceCtorEq, ↓reduceIte, Nat.reduceEqDiff, Nat.reduceLT, Nat.reduceLeDiff, Nat.reduceSubDiff, Nat.reduceAdd, Nat.reduceMul, nA1, nA2, nM1, nM2, n_add, n_mul, n_sub, nS1, nS2, nL0, nL1, nL2, nE0, nE1, nE2, nE3, bI_0, bI_1, bI_m, rz_b, rz_0, rz_1, hk, ↓b2_of (T_longOf W2 F S2 hw)]
    by_cases q : k < z_wl s w
    · have c1 := w3 k q
      have li := la_in ((cp_iff qn).mp hc k q)
      have t := T_letterAt W2 F S2 hh (show z_wc s w k < 1000 by omega)
      rw [li.2.2] at t
      rw [if_pos q, b2_of (T_letterOf W2 F S2 hw q)]
      simp (disch := first | assumption | ((repeat (first | with_reducible refine TKI ?_ | with_reducible refine TKL ?_)); assumption) | omega) only [↓btgI, ↓btpI, ↓btgL, ↓btpL, ↓btisO, tgI, tpI, tgL, tpL, tisO, ↓btg_57, tg_57, ↓btx_1389, tx_1389, ↓bts_1389, ts_1389, ↓btxl_1389, txl_1389, ↓btsl_1389, tsl_1389, ↓Option.bind_some, ↓b2_some, ↓bX_l, ↓bX_r, Option.bind_some, Option.bind_none, b2_some, bX_l, bX_r, nn_e, if_true, if_false, reduceCtorEq, ↓reduceIte, Nat.reduceEqDiff, Nat.reduceLT, Nat.reduceLeDiff, Nat.reduceSubDiff, Nat.reduceAdd, Nat.reduceMul, nA1, nA2, nM1, nM2, n_add, n_mul, n_sub, nS1, nS2, nL0, nL1, nL2, nE0, nE1, nE2, nE3, bI_0, bI_1, bI_m, rz_b, rz_0, rz_1, ↓b2_of t, ↓b2_of (T_glyphOf W2 F S2 hh li.1)]
      rw [Ev_some]
      exact ⟨rfl, F2.wI rfl, up _ (by rw [if_pos q]; rfl)⟩
    · rw [if_neg q, Ev_some]
      exact ⟨rfl, F2.wI rfl, up 0 (by rw [if_neg q])⟩
  · rintro ⟨x, H⟩ ⟨hx, F2, N2⟩
    simp only at hx F2 N2
    subst hx
    simp (disch := first | assumption | ((repeat (first | with_reducible refine TKI ?_ | with_reducible refine TKL ?_)); assumption) | omega) only [X7_paints_27b, ↓Option.bind_some, ↓b2_some, ↓bX_l, ↓bX_r, Option.bind_some, Option.bind_none, b2_some, bX_l, bX_r, nn_e, if_true, if_false, reduceCtorEq, ↓reduceIte, Nat.reduceEqDiff, Nat.reduceLT, Nat.reduceLeDiff, Nat.reduceSubDiff, Nat.reduceAdd, Nat.reduceMul, nA1, nA2, nM1, nM2, n_add, n_mul, n_sub, nS1, nS2, nL0, nL1, nL2, nE0, nE1, nE2, nE3, bI_0, bI_1, bI_m, rz_b, rz_0, rz_1, Nat.lt_irrefl]
    rw [Ev_some]
    refine ⟨F2, N2.congr (fun i _ => ?_)⟩
    unfold ptR
    simp only [show 3 + 8 * b + 6 = 9 + 8 * b by omega]
end Keep
