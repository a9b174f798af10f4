set_option maxRecDepth 100000
/-! ===== acts: the answers, and the twin's ===== -/
theorem n_div {a b : Nat} (ha : a < 2147483648) (hb : b < 2147483648) (h0 : 0 < b) : nI a / nI b = nI (a / b) := by
  have hq : a / b ≤ a := Nat.div_le_self a b
  rw [← Int32.toInt_inj, Int32.toInt_div_of_ne_right _ _ (fun e => by have := n_ge0 hb; rw [e] at this; exact absurd this (by decide)), n_int ha, n_int hb, n_int (by omega)]
  exact Int.ofNat_tdiv a b
theorem n_rem {a b : Nat} (ha : a < 2147483648) (hb : b < 2147483648) (h0 : 0 < b) : jrem (nI a) (nI b) = nI (a % b) := by
  have h1 : a / b * b ≤ a := Nat.div_mul_le_self a b
  unfold jrem
  rw [n_div ha hb h0, n_mul, n_sub h1]
  congr 1
  have := Nat.div_add_mod a b
  rw [Nat.mul_comm] at this
  omega
theorem and255 (x : Int32) : ∃ m, m < 256 ∧ x &&& 255 = nI m := by
  obtain ⟨X, hX⟩ : ∃ X : Nat, x = nI X := ⟨x.toBitVec.toNat, by apply Int32.toBitVec_inj.1; simp [nI]⟩
  refine ⟨X &&& 255, Nat.lt_of_le_of_lt Nat.and_le_right (by decide), ?_⟩
  rw [hX, show (255 : Int32) = nI 255 from rfl, n_and]
/-- a byte of a word -/
def byt (w : Int32) (i : Nat) : Nat := nt (jshr w (nI (8 * (3 - i))) &&& 255)
theorem byt_n (w : Int32) (i : Nat) : jshr w (nI (8 * (3 - i))) &&& 255 = nI (byt w i) ∧ byt w i < 256 := by
  obtain ⟨m, hm, e⟩ := and255 (jshr w (nI (8 * (3 - i))))
  unfold byt
  rw [e, nt_n (by omega)]
  exact ⟨rfl, hm⟩
def selW (a b c d e : Int32) (k : Nat) : Int32 := if k < 4 then a else if k < 8 then b else if k < 12 then c else if k < 16 then d else e
def fdB (a b c d e : Int32) (k : Nat) : Nat := byt (selW a b c d e k) (k % 4)
/-- the tape with twenty bytes more -/
def fdT (t : Nat → Nat) (n : Nat) (a b c d e : Int32) : Nat → Nat := fun q => if q < n then t q else fdB a b c d e (q - n)
/-- the tape of the twin -/
def TTP (h : AH) (t : Nat → Nat) (n : Nat) : Prop := hI h 1349 1 = nI n ∧ n ≤ 1600 ∧ ∀ q, q < n → hI h 1350 q = nI (t q) ∧ t q < 256
/-- refusals -/
def TRF (h : AH) (r : Nat → Int32) : Prop := ∀ k, k < 6 → hI h 1351 k = r k
def rfU (r : Nat → Int32) (k : Nat) : Nat → Int32 := fun i => if i = k then r k + 1 else r i
theorem TRF.up {h : AH} {r : Nat → Int32} (T : TRF h r) (k : Nat) : TRF (wI 1351 k (r k + 1) h) (rfU r k) := by
  intro i hi
  rw [p_II]
  unfold rfU
  by_cases e : i = k
  · rw [if_pos ⟨rfl, e⟩, if_pos e]
  · rw [if_neg (fun z => e z.2), if_neg e]; exact T i hi
section Acts
variable {h : AH} {s : SH} {f : RW}
theorem T_feed (W : TKK (hK h) (hR h)) {t : Nat → Nat} {n : Nat} (P : TTP h t n) {r : Nat → Int32} (R : TRF h r) (a b c d e : Int32) :
    Ev (X7_feed 1349 a b c d e h) (fun z => (n + 20 ≤ 1600 → z.1 = nI (n + 20) ∧ FT (fun x k => x = 1350 ∨ (x = 1349 ∧ k = 1)) h z.2 ∧ TTP z.2 (fdT t n a b c d e) (n + 20)) ∧ (1600 < n + 20 → z.1 = -1 ∧ FT (fun x _ => x = 1351) h z.2 ∧ TRF z.2 (rfU r 0))) := by
  obtain ⟨p1, p2, p3⟩ := P
  have r0 := R 0 (by decide)
  simp (disch := first | assumption | ((repeat (first | with_reducible refine TKI ?_ | with_reducible refine TKL ?_)); assumption) | omega) only [X7_feed, ↓btgI, ↓btpI, ↓btgL, ↓btpL, ↓btisO, tgI, tpI, tgL, tpL, tisO, ↓btg_0, tg_0, ↓btx_1350, tx_1350, ↓bts_1350, ts_1350, ↓btxl_1350, txl_1350, ↓btsl_1350, tsl_1350, ↓btg_9, tg_9, ↓btx_1351, tx_1351, ↓bts_1351, ts_1351, ↓btxl_1351, txl_1351, ↓btsl_1351, tsl_1351, ↓Option.bind_some, ↓b2_some, ↓bX_l, ↓bX_r, Option.bind_some, Option.bind_none, b2_some, bX_l, bX_r, nn_e, if_true, if_false, reduceCtorEq, ↓reduceIte, Nat.reduceEqDiff, Nat.reduceLT, Nat.reduceLeDiff, Nat.reduceSubDiff, Nat.reduceAdd, Nat.reduceMul, nA1, nA2, nM1, nM2, n_add, n_mul, n_sub, nS1, nS2, nL0, nL1, nL2, nE0, nE1, nE2, nE3, bI_0, bI_1, bI_m, rz_b, rz_0, rz_1, p1, r0]
  by_cases q : 1600 < n + 20
  · rw [if_pos q, Ev_some]
    exact ⟨fun z => by omega, fun _ => ⟨rfl, (FT.refl _ _).wI rfl, R.up 0⟩⟩
  · rw [if_neg q, X7_feed_28]
    refine ev_for 20 (fun k st => st.1 = nI k ∧ FT (fun x k => x = 1350 ∨ (x = 1349 ∧ k = 1)) h st.2 ∧ hI st.2 1349 1 = nI (n + k) ∧ ∀ q, q < n + k → hI st.2 1350 q = nI (fdT t n a b c d e q)) ?_ ?_ 0 _ (by decide) ⟨rfl, FT.refl _ _, p1, fun q hq => by rw [(p3 q hq).1]; unfold fdT; rw [if_pos (by omega)]⟩
    · rintro k ⟨x, H⟩ hk ⟨hx, F2, e2, E2⟩
      simp only at hx F2 e2 E2
      subst hx
      have W2 := F2.tk W
      have nz4 : nz 4 = some () := nz_e (by decide)
      have jr : jrem (nI k) 4 = nI (k % 4) := n_rem (b := 4) (by omega) (by decide) (by decide)
      have m4 : k % 4 ≤ 3 := by omega
      have ix : 8 * (3 - nI (k % 4)) = nI (8 * (3 - k % 4)) := by rw [nS2 (show k % 4 ≤ (OfNat.ofNat 3 : Nat) from m4), nM2]
      have key : ∀ w, w = selW a b c d e k → ∃ H', X7_feed_81 1349 a b c d e (nI k) w H = some (.inl (nI (k + 1), H')) ∧ FT (fun x k => x = 1350 ∨ (x = 1349 ∧ k = 1)) h H' ∧ hI H' 1349 1 = nI (n + (k + 1)) ∧ ∀ q, q < n + (k + 1) → hI H' 1350 q = nI (fdT t n a b c d e q) := by
        rintro w rfl
        have bn := (byt_n (selW a b c d e k) (k % 4)).1
        refine ⟨wI 1349 1 (nI (n + k + 1)) (wI 1350 (n + k) (nI (byt (selW a b c d e k) (k % 4))) H), ?_, (F2.wI (Or.inl rfl)).wI (Or.inr ⟨rfl, rfl⟩), ?_, fun q hq => ?_⟩
        · have e3 : hI (wI 1350 (n + k) (nI (byt (selW a b c d e k) (k % 4))) H) 1349 1 = nI (n + k) := by rw [p_II, if_neg (by omega)]; exact e2
          simp (disch := first | assumption | ((repeat (first | with_reducible refine TKI ?_ | with_reducible refine TKL ?_)); assumption) | omega) only [X7_feed_81, ↓btgI, ↓btpI, ↓btgL, ↓btpL, ↓btisO, tgI, tpI, tgL, tpL, tisO, ↓btg_0, tg_0, ↓btx_1350, tx_1350, ↓bts_1350, ts_1350, ↓btxl_1350, txl_1350, ↓btsl_1350, tsl_1350, ↓btg_9, tg_9, ↓btx_1351, tx_1351, ↓bts_1351, ts_1351, ↓btxl_1351, txl_1351, ↓btsl_1351, tsl_1351, ↓Option.bind_some, ↓b2_some, ↓bX_l, ↓bX_r, Option.bind_some, Option.bind_none, b2_some, bX_l, bX_r, nn_e, if_true, if_false, reduceCtorEq, ↓reduceIte, Nat.reduceEqDiff, Nat.reduceLT, Nat.reduceLeDiff, Nat.reduceSubDiff, Nat.reduceAdd, Nat.reduceMul, e2, nz4, jr, ix, bn, e3, nA1]
        · rw [p_II, if_pos ⟨rfl, rfl⟩]; congr 1
        · rw [p_II, if_neg (by omega), p_II]
          by_cases eq : q = n + k
          · rw [if_pos ⟨rfl, eq⟩, eq]
            unfold fdT fdB
            rw [if_neg (by omega), Nat.add_sub_cancel_left]
          · rw [if_neg (fun z => eq z.2)]
            exact E2 q (by omega)
      have fin : ∀ w, w = selW a b c d e k → Ev (X7_feed_81 1349 a b c d e (nI k) w H) (fun o => ∃ H', o = .inl (nI (k + 1), H') ∧ FT (fun x k => x = 1350 ∨ (x = 1349 ∧ k = 1)) h H' ∧ hI H' 1349 1 = nI (n + (k + 1)) ∧ ∀ q, q < n + (k + 1) → hI H' 1350 q = nI (fdT t n a b c d e q)) := fun w hw => by
        obtain ⟨H', z, y⟩ := key w hw
        exact ⟨_, z, H', rfl, y⟩
      unfold selW at fin
      simp (disch := first | assumption | ((repeat (first | with_reducible refine TKI ?_ | with_reducible refine TKL ?_)); assumption) | omega) only [X7_feed_28b, nA1, nA2, nM1, nM2, n_add, n_mul, n_sub, nS1, nS2, nL0, nL1, nL2, nE0, nE1, nE2, nE3, bI_0, bI_1, bI_m, rz_b, rz_0, rz_1, hk, if_true]
      have done : ∀ {w : Int32}, Ev (X7_feed_81 1349 a b c d e (nI k) w H) (fun o => ∃ H', o = .inl (nI (k + 1), H') ∧ FT (fun x k => x = 1350 ∨ (x = 1349 ∧ k = 1)) h H' ∧ hI H' 1349 1 = nI (n + (k + 1)) ∧ ∀ q, q < n + (k + 1) → hI H' 1350 q = nI (fdT t n a b c d e q)) → ∃ H', X7_feed_81 1349 a b c d e (nI k) w H = some (.inl (nI (k + 1), H')) ∧ (FT (fun x k => x = 1350 ∨ (x = 1349 ∧ k = 1)) h H' ∧ hI H' 1349 1 = nI (n + (k + 1)) ∧ ∀ q, q < n + (k + 1) → hI H' 1350 q = nI (fdT t n a b c d e q)) := by
        rintro w ⟨_, z, H', rfl, y⟩
        exact ⟨H', z, y⟩
      by_cases q4 : k < 4
      · rw [if_pos q4]
        obtain ⟨H', z, y⟩ := done (fin a (by rw [if_pos q4]))
        exact ⟨_, z, rfl, y⟩
      · rw [if_neg q4]
        by_cases q8 : k < 8
        · rw [if_pos q8]
          obtain ⟨H', z, y⟩ := done (fin b (by rw [if_neg q4, if_pos q8]))
          exact ⟨_, z, rfl, y⟩
        · rw [if_neg q8]
          by_cases q12 : k < 12
          · rw [if_pos q12]
            obtain ⟨H', z, y⟩ := done (fin c (by rw [if_neg q4, if_neg q8, if_pos q12]))
            exact ⟨_, z, rfl, y⟩
          · rw [if_neg q12]
            by_cases q16 : k < 16
            · rw [if_pos q16]
              obtain ⟨H', z, y⟩ := done (fin d (by rw [if_neg q4, if_neg q8, if_neg q12, if_pos q16]))
              exact ⟨_, z, rfl, y⟩
            · rw [if_neg q16]
              obtain ⟨H', z, y⟩ := done (fin e (by rw [if_neg q4, if_neg q8, if_neg q12, if_neg q16]))
              exact ⟨_, z, rfl, y⟩
    · rintro ⟨x, H⟩ ⟨hx, F2, e2, E2⟩
      simp only at hx F2 e2 E2
      subst hx
      have W2 := F2.tk W
      simp (disch := first | assumption | ((repeat (first | with_reducible refine TKI ?_ | with_reducible refine TKL ?_)); assumption) | omega) only [X7_feed_28b, X7_feed_124, ↓btgI, ↓btpI, ↓btgL, ↓btpL, ↓btisO, tgI, tpI, tgL, tpL, tisO, ↓btg_0, tg_0, ↓btx_1350, tx_1350, ↓bts_1350, ts_1350, ↓btxl_1350, txl_1350, ↓btsl_1350, tsl_1350, ↓btg_9, tg_9, ↓btx_1351, tx_1351, ↓bts_1351, ts_1351, ↓btxl_1351, txl_1351, ↓btsl_1351, tsl_1351, ↓Option.bind_some, ↓b2_some, ↓bX_l, ↓bX_r, Option.bind_some, Option.bind_none, b2_some, bX_l, bX_r, nn_e, if_true, if_false, reduceCtorEq, ↓reduceIte, Nat.reduceEqDiff, Nat.reduceLT, Nat.reduceLeDiff, Nat.reduceSubDiff, Nat.reduceAdd, Nat.reduceMul, nA1, nA2, nM1, nM2, n_add, n_mul, n_sub, nS1, nS2, nL0, nL1, nL2, nE0, nE1, nE2, nE3, bI_0, bI_1, bI_m, rz_b, rz_0, rz_1, Nat.lt_irrefl, e2]
      rw [Ev_some]
      refine ⟨fun _ => ⟨rfl, F2, e2, by omega, fun q hq => ⟨E2 q hq, ?_⟩⟩, fun z => by omega⟩
      unfold fdT
      split
      · exact (p3 q (by assumption)).2
      · exact (byt_n _ _).2
theorem T_end (W : TKK (hK h) (hR h)) {t : Nat → Nat} {n : Nat} (P : TTP h t n) {r : Nat → Int32} (R : TRF h r) (x : Int32) :
    Ev (X7_end 1349 x h) (fun z => (inR x (n + 1) = true → z.1 = 1 ∧ z.2 = wI 1349 1 x h) ∧ (inR x (n + 1) = false → z.1 = 0 ∧ z.2 = wI 1351 0 (r 0 + 1) h)) := by
  obtain ⟨p1, p2, p3⟩ := P
  have r0 := R 0 (by decide)
  have refuse : Ev (X7_end_12 1349 h) (fun z => z.1 = 0 ∧ z.2 = wI 1351 0 (r 0 + 1) h) := by
    simp (disch := first | assumption | ((repeat (first | with_reducible refine TKI ?_ | with_reducible refine TKL ?_)); assumption) | omega) only [X7_end_12, ↓btgI, ↓btpI, ↓btgL, ↓btpL, ↓btisO, tgI, tpI, tgL, tpL, tisO, ↓btg_9, tg_9, ↓btx_1351, tx_1351, ↓bts_1351, ts_1351, ↓btxl_1351, txl_1351, ↓btsl_1351, tsl_1351, ↓Option.bind_some, ↓b2_some, ↓bX_l, ↓bX_r, Option.bind_some, Option.bind_none, b2_some, bX_l, bX_r, nn_e, if_true, if_false, reduceCtorEq, ↓reduceIte, Nat.reduceEqDiff, Nat.reduceLT, Nat.reduceLeDiff, Nat.reduceSubDiff, Nat.reduceAdd, Nat.reduceMul, r0]
    rw [Ev_some]
    exact ⟨rfl, rfl⟩
  simp (disch := first | assumption | ((repeat (first | with_reducible refine TKI ?_ | with_reducible refine TKL ?_)); assumption) | omega) only [X7_end, ↓btgI, ↓btpI, ↓btgL, ↓btpL, ↓btisO, tgI, tpI, tgL, tpL, tisO, ↓btg_9, tg_9, ↓btx_1351, tx_1351, ↓bts_1351, ts_1351, ↓btxl_1351, txl_1351, ↓btsl_1351, tsl_1351, ↓Option.bind_some, ↓b2_some, ↓bX_l, ↓bX_r, Option.bind_some, Option.bind_none, b2_some, bX_l, bX_r, nn_e, if_true, if_false, reduceCtorEq, ↓reduceIte, Nat.reduceEqDiff, Nat.reduceLT, Nat.reduceLeDiff, Nat.reduceSubDiff, Nat.reduceAdd, Nat.reduceMul, p1]
  have l0 : (x < 0) = (x.toInt < 0) := by rw [Int32.lt_iff_toInt_lt]; rfl
  have l1 : (nI n < x) = ((n : Int) < x.toInt) := by rw [Int32.lt_iff_toInt_lt, n_int (by omega)]
  have no : inR x (n + 1) = false → Ev (X7_end_12 1349 h) (fun z => (inR x (n + 1) = true → z.1 = 1 ∧ z.2 = wI 1349 1 x h) ∧ (inR x (n + 1) = false → z.1 = 0 ∧ z.2 = wI 1351 0 (r 0 + 1) h)) := fun e => ev_mono refuse (fun z hz => ⟨fun q => (by rw [e] at q; cases q), fun _ => hz⟩)
  by_cases q0 : x < 0
  · rw [if_pos q0]
    rw [l0] at q0
    exact no (by simp only [inR, decide_eq_false_iff_not]; omega)
  · rw [if_neg q0]
    by_cases q1 : nI n < x
    · rw [if_pos q1]
      rw [l1] at q1
      exact no (by simp only [inR, decide_eq_false_iff_not]; omega)
    · rw [if_neg q1, Ev_some]
      rw [l0] at q0
      rw [l1] at q1
      have e : inR x (n + 1) = true := by simp only [inR, decide_eq_true_eq]; omega
      exact ⟨fun _ => ⟨rfl, rfl⟩, fun z => by rw [e] at z; cases z⟩
theorem T_refuses (W : TKK (hK h) (hR h)) {r : Nat → Int32} (R : TRF h r) {k : Nat} (hk : k < 6) : X7_refuses 1349 (nI k) h = some (-1, wI 1351 k (r k + 1) h) := by
  have rk := R k hk
  simp (disch := first | assumption | ((repeat (first | with_reducible refine TKI ?_ | with_reducible refine TKL ?_)); assumption) | omega) only [X7_refuses, ↓btgI, ↓btpI, ↓btgL, ↓btpL, ↓btisO, tgI, tpI, tgL, tpL, tisO, ↓btg_9, tg_9, ↓btx_1351, tx_1351, ↓bts_1351, ts_1351, ↓btxl_1351, txl_1351, ↓btsl_1351, tsl_1351, ↓Option.bind_some, ↓b2_some, ↓bX_l, ↓bX_r, Option.bind_some, Option.bind_none, b2_some, bX_l, bX_r, nn_e, if_true, if_false, reduceCtorEq, ↓reduceIte, Nat.reduceEqDiff, Nat.reduceLT, Nat.reduceLeDiff, Nat.reduceSubDiff, Nat.reduceAdd, Nat.reduceMul, rk]
theorem T_status (W : TKK (hK h) (hR h)) {r : Nat → Int32} (R : TRF h r) (x : Int32) : X7_status 1349 x h = some (if inR x 6 = true then r (nt x) else -1, h) := by
  rw [X7_status, b2_of (T_isIn _ _ _ h), show ((5 : Int64)) = Int64.ofNat 5 from rfl, b_inL (by decide)]
  cases e : inR x 6 with
  | false => simp [bI]
  | true =>
    obtain ⟨k, hk, rfl⟩ := inR_ex (by decide) e
    have rk := R k hk
    rw [if_neg (by decide), if_pos rfl, nt_n (by omega)]
    simp (disch := first | assumption | ((repeat (first | with_reducible refine TKI ?_ | with_reducible refine TKL ?_)); assumption) | omega) only [↓btgI, ↓btpI, ↓btgL, ↓btpL, ↓btisO, tgI, tpI, tgL, tpL, tisO, ↓btg_9, tg_9, ↓btx_1351, tx_1351, ↓bts_1351, ts_1351, ↓btxl_1351, txl_1351, ↓btsl_1351, tsl_1351, ↓Option.bind_some, ↓b2_some, ↓bX_l, ↓bX_r, Option.bind_some, Option.bind_none, b2_some, bX_l, bX_r, nn_e, if_true, if_false, reduceCtorEq, ↓reduceIte, Nat.reduceEqDiff, Nat.reduceLT, Nat.reduceLeDiff, Nat.reduceSubDiff, Nat.reduceAdd, Nat.reduceMul, rk]
theorem T_fault (W : TKK (hK h) (hR h)) (x : Int32) : X7_fault 1349 x h = some (if x = 0 then hI h 1349 7 else if x = 1 then hI h 1349 8 else -1, h) := by
  simp (disch := first | assumption | ((repeat (first | with_reducible refine TKI ?_ | with_reducible refine TKL ?_)); assumption) | omega) only [X7_fault, ↓btgI, ↓btpI, ↓btgL, ↓btpL, ↓btisO, tgI, tpI, tgL, tpL, tisO, ↓Option.bind_some, ↓b2_some, ↓bX_l, ↓bX_r, Option.bind_some, Option.bind_none, b2_some, bX_l, bX_r, nn_e, if_true, if_false, reduceCtorEq, ↓reduceIte, Nat.reduceEqDiff, Nat.reduceLT, Nat.reduceLeDiff, Nat.reduceSubDiff, Nat.reduceAdd, Nat.reduceMul]
  repeat' split
  all_goals rfl
end Acts
