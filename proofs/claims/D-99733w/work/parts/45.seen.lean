set_option maxRecDepth 100000
theorem n_or (a b : Nat) : nI a ||| nI b = nI (a ||| b) := by
  apply Int32.toBitVec_inj.1
  simp only [nI, Int32.toBitVec_or, Int32.toBitVec_ofNat', BitVec.ofNat_or]
theorem n_and (a b : Nat) : nI a &&& nI b = nI (a &&& b) := by
  apply Int32.toBitVec_inj.1
  simp only [nI, Int32.toBitVec_and, Int32.toBitVec_ofNat', BitVec.ofNat_and]
theorem n_xor (a b : Nat) : nI a ^^^ nI b = nI (a ^^^ b) := by
  apply Int32.toBitVec_inj.1
  simp only [nI, Int32.toBitVec_xor, Int32.toBitVec_ofNat', BitVec.ofNat_xor]
theorem n_m1' : (-1 : Int32) = nI 4294967295 := by decide
/-- what of a is not in b -/
def an (a b : Nat) : Nat := a &&& (b ^^^ 4294967295)
theorem n_an (a b : Nat) : nI a &&& (nI b ^^^ (-1)) = nI (an a b) := by rw [n_m1', n_xor, n_and, an]
theorem an_lt {a b m : Nat} (h : a < m) : an a b < m := Nat.lt_of_le_of_lt Nat.and_le_left h
theorem and1 (x : Int32) : x &&& 1 = 0 ∨ x &&& 1 = 1 := by
  have e : (x &&& 1).toBitVec = (BitVec.ofBool (x.toBitVec.getLsbD 0)).setWidth 32 := by
    rw [Int32.toBitVec_and]
    exact BitVec.and_one_eq_setWidth_ofBool_getLsbD
  cases q : x.toBitVec.getLsbD 0 with
  | false => left; apply Int32.toBitVec_inj.1; rw [e, q]; rfl
  | true => right; apply Int32.toBitVec_inj.1; rw [e, q]; rfl
theorem gOK_or {x y : Int32} (hx : gOK x) (hy : gOK y) : gOK (x ||| y) := by
  obtain ⟨a, ha, rfl⟩ := hx
  obtain ⟨b, hb, rfl⟩ := hy
  exact ⟨a ||| b, Nat.or_lt_two_pow (n := 15) ha hb, n_or a b⟩
theorem gOK_and {x y : Int32} (hx : gOK x) (hy : gOK y) : gOK (x &&& y) := by
  obtain ⟨a, ha, rfl⟩ := hx
  obtain ⟨b, hb, rfl⟩ := hy
  exact ⟨a &&& b, Nat.lt_of_le_of_lt Nat.and_le_left ha, n_and a b⟩
theorem gOK_0 : gOK 0 := ⟨0, by decide, rfl⟩
theorem gOK_bit : ∀ k : Nat, k < 15 → gOK (jshl 1 (nI k)) := by
  intro k hk
  refine ⟨2 ^ k, Nat.pow_lt_pow_right (by decide) hk, ?_⟩
  have : ∀ k : Fin 15, jshl 1 (nI k.val) = nI (2 ^ k.val) := by decide
  exact this ⟨k, hk⟩
def rwH (how r : Nat) : Nat := if how = 1 ∨ how = 2 then 4 - r else r
def clH (how c : Nat) : Nat := if how = 1 ∨ how = 3 then 2 - c else c
/-- one stroke of a glyph that is seen so -/
def tn1 (how : Nat) (g : Int32) (r c : Nat) (t : Int32) : Int32 := t ||| jshl (jshr g (nI (3 * r + c)) &&& 1) (nI (3 * rwH how r + clH how c))
def tnr (how : Nat) (g : Int32) (r : Nat) (t : Int32) : Int32 := itr (fun c t => tn1 how g r c t) 3 t
/-- a glyph as it is seen -/
def tn (how : Nat) (g : Int32) : Int32 := itr (fun r t => tnr how g r t) 5 0
theorem jshl0 (y : Int32) : jshl 0 y = 0 := by
  unfold jshl
  apply Int32.toBitVec_inj.1
  rw [Int32.toBitVec_shiftLeft]
  simp
theorem or0 (x : Int32) : x ||| 0 = x := by
  apply Int32.toBitVec_inj.1
  simp
theorem tn1_alt (how : Nat) (g : Int32) (r c : Nat) (t : Int32) : tn1 how g r c t = if jshr g (nI (3 * r + c)) &&& 1 = 0 then t else t ||| jshl 1 (nI (3 * rwH how r + clH how c)) := by
  unfold tn1
  rcases and1 (jshr g (nI (3 * r + c))) with e | e
  · rw [e, if_pos rfl, jshl0, or0]
  · rw [e, if_neg (by decide)]
theorem tn1_ok {how : Nat} {g : Int32} {r c : Nat} {t : Int32} (hr : r < 5) (hc : c < 3) (ht : gOK t) : gOK (tn1 how g r c t) := by
  rw [tn1_alt]
  split
  · exact ht
  · refine gOK_or ht (gOK_bit _ ?_)
    unfold rwH clH
    repeat' split
    all_goals omega
theorem tnr_ok {how : Nat} {g : Int32} {r : Nat} {t : Int32} (hr : r < 5) (ht : gOK t) : gOK (tnr how g r t) := by
  simp only [tnr, itr]
  exact tn1_ok hr (by decide) (tn1_ok hr (by decide) (tn1_ok hr (by decide) ht))
theorem tn_ok (how : Nat) (g : Int32) : gOK (tn how g) := by
  simp only [tn, itr]
  exact tnr_ok (by decide) (tnr_ok (by decide) (tnr_ok (by decide) (tnr_ok (by decide) (tnr_ok (by decide) gOK_0))))
def tN (how n : Nat) : Nat := (tn how (nI n)).toInt.toNat
theorem tN_n (how n : Nat) : tn how (nI n) = nI (tN how n) ∧ tN how n < 32768 := by
  obtain ⟨m, hm, e⟩ := tn_ok how (nI n)
  have e2 : tN how n = m := by rw [tN, e, n_int (by omega), Int.toNat_natCast]
  rw [e2]
  exact ⟨e, hm⟩
section Seen
variable {h : AH} {how : Nat} (g : Int32)
theorem C_turned_row (hh : how < 4) {r : Nat} (hr : r < 5) (t : Int32) : X0_turned_12 g (nI how) t (nI r) 0 h = some (.inl (tnr how g r t, nI (r + 1), h)) := by
  rw [X0_turned_12, ← Ev_is]
  refine ev_for 3 (fun k st => st = (itr (fun c t => tn1 how g r c t) k t, nI k, h)) ?_ ?_ 0 _ (by decide) rfl
  · rintro k _ hk rfl
    simp (disch := first | assumption | ((repeat (first | with_reducible refine TKI ?_ | with_reducible refine TKL ?_)); assumption) | omega) only [X0_turned_12b, X0_turned_28, X0_turned_35, X0_turned_47, X0_turned_56, nA1, nA2, nM1, nM2, n_add, n_mul, n_sub, nS1, nS2, nL0, nL1, nL2, nE0, nE1, nE2, nE3, bI_0, bI_1, bI_m, rz_b, rz_0, rz_1, hk, if_true]
    have e1 : (how = 1 ∨ how = 2) → rwH how r = 4 - r := fun q => by unfold rwH; rw [if_pos q]
    have e2 : ¬ (how = 1 ∨ how = 2) → rwH how r = r := fun q => by unfold rwH; rw [if_neg q]
    have e3 : (how = 1 ∨ how = 3) → clH how k = 2 - k := fun q => by unfold clH; rw [if_pos q]
    have e4 : ¬ (how = 1 ∨ how = 3) → clH how k = k := fun q => by unfold clH; rw [if_neg q]
    rcases (by omega : how = 0 ∨ how = 1 ∨ how = 2 ∨ how = 3) with rfl | rfl | rfl | rfl
    · simp only [Nat.reduceEqDiff, if_false, if_true, Ev_some, itr, tn1, e2 (by decide), e4 (by decide)]
    · simp only [Nat.reduceEqDiff, if_false, if_true, Ev_some, itr, tn1, e1 (by decide), e3 (by decide)]
    · simp only [Nat.reduceEqDiff, if_false, if_true, Ev_some, itr, tn1, e1 (by decide), e4 (by decide)]
    · simp only [Nat.reduceEqDiff, if_false, if_true, Ev_some, itr, tn1, e2 (by decide), e3 (by decide)]
  · rintro _ rfl
    simp (disch := first | assumption | ((repeat (first | with_reducible refine TKI ?_ | with_reducible refine TKL ?_)); assumption) | omega) only [X0_turned_12b, nA1, nA2, nM1, nM2, n_add, n_mul, n_sub, nS1, nS2, nL0, nL1, nL2, nE0, nE1, nE2, nE3, bI_0, bI_1, bI_m, rz_b, rz_0, rz_1, Nat.lt_irrefl, if_false, Ev_some]
    rfl
theorem C_turned (hh : how < 4) : X0_turned g (nI how) h = some (tn how g, h) := by
  rw [X0_turned, X0_turned_4, ← Ev_is]
  refine ev_for 5 (fun k st => st = (itr (fun r t => tnr how g r t) k 0, nI k, h)) ?_ ?_ 0 _ (by decide) rfl
  · rintro k _ hk rfl
    simp (disch := first | assumption | ((repeat (first | with_reducible refine TKI ?_ | with_reducible refine TKL ?_)); assumption) | omega) only [X0_turned_4b, nA1, nA2, nM1, nM2, n_add, n_mul, n_sub, nS1, nS2, nL0, nL1, nL2, nE0, nE1, nE2, nE3, bI_0, bI_1, bI_m, rz_b, rz_0, rz_1, hk, if_true, C_turned_row g hh hk, Ev_some, itr]
  · rintro _ rfl
    simp (disch := first | assumption | ((repeat (first | with_reducible refine TKI ?_ | with_reducible refine TKL ?_)); assumption) | omega) only [X0_turned_4b, nA1, nA2, nM1, nM2, n_add, n_mul, n_sub, nS1, nS2, nL0, nL1, nL2, nE0, nE1, nE2, nE3, bI_0, bI_1, bI_m, rz_b, rz_0, rz_1, Nat.lt_irrefl, if_false, Ev_some]
    rfl
theorem T_seen_row (hh : how < 4) {r : Nat} (hr : r < 5) (t : Int32) : X7_seenBy_12 g (nI how) t (nI r) 0 h = some (.inl (tnr how g r t, nI (r + 1), h)) := by
  rw [X7_seenBy_12, ← Ev_is]
  refine ev_for 3 (fun k st => st = (itr (fun c t => tn1 how g r c t) k t, nI k, h)) ?_ ?_ 0 _ (by decide) rfl
  · rintro k _ hk rfl
    simp (disch := first | assumption | ((repeat (first | with_reducible refine TKI ?_ | with_reducible refine TKL ?_)); assumption) | omega) only [X7_seenBy_12b, X7_seenBy_44, X7_seenBy_51, X7_seenBy_63, X7_seenBy_72, nA1, nA2, nM1, nM2, n_add, n_mul, n_sub, nS1, nS2, nL0, nL1, nL2, nE0, nE1, nE2, nE3, bI_0, bI_1, bI_m, rz_b, rz_0, rz_1, hk, if_true]
    have e0 := tn1_alt how g r k (itr (fun c t => tn1 how g r c t) k t)
    by_cases z : jshr g (nI (3 * r + k)) &&& 1 = 0
    · rw [if_pos z] at e0
      rw [if_pos z, Ev_some]
      simp only [itr, e0]
    · rw [if_neg z] at e0
      rw [if_neg z]
      have e1 : (how = 1 ∨ how = 2) → rwH how r = 4 - r := fun q => by unfold rwH; rw [if_pos q]
      have e2 : ¬ (how = 1 ∨ how = 2) → rwH how r = r := fun q => by unfold rwH; rw [if_neg q]
      have e3 : (how = 1 ∨ how = 3) → clH how k = 2 - k := fun q => by unfold clH; rw [if_pos q]
      have e4 : ¬ (how = 1 ∨ how = 3) → clH how k = k := fun q => by unfold clH; rw [if_neg q]
      rcases (by omega : how = 0 ∨ how = 1 ∨ how = 2 ∨ how = 3) with rfl | rfl | rfl | rfl
      · rw [e2 (by decide), e4 (by decide)] at e0
        simp only [Nat.reduceEqDiff, if_false, if_true, Ev_some, itr, e0]
      · rw [e1 (by decide), e3 (by decide)] at e0
        simp only [Nat.reduceEqDiff, if_false, if_true, Ev_some, itr, e0]
      · rw [e1 (by decide), e4 (by decide)] at e0
        simp only [Nat.reduceEqDiff, if_false, if_true, Ev_some, itr, e0]
      · rw [e2 (by decide), e3 (by decide)] at e0
        simp only [Nat.reduceEqDiff, if_false, if_true, Ev_some, itr, e0]
  · rintro _ rfl
    simp (disch := first | assumption | ((repeat (first | with_reducible refine TKI ?_ | with_reducible refine TKL ?_)); assumption) | omega) only [X7_seenBy_12b, nA1, nA2, nM1, nM2, n_add, n_mul, n_sub, nS1, nS2, nL0, nL1, nL2, nE0, nE1, nE2, nE3, bI_0, bI_1, bI_m, rz_b, rz_0, rz_1, Nat.lt_irrefl, if_false, Ev_some]
    rfl
theorem T_seenBy (hh : how < 4) : X7_seenBy g (nI how) h = some (tn how g, h) := by
  rw [X7_seenBy, X7_seenBy_4, ← Ev_is]
  refine ev_for 5 (fun k st => st = (itr (fun r t => tnr how g r t) k 0, nI k, h)) ?_ ?_ 0 _ (by decide) rfl
  · rintro k _ hk rfl
    simp (disch := first | assumption | ((repeat (first | with_reducible refine TKI ?_ | with_reducible refine TKL ?_)); assumption) | omega) only [X7_seenBy_4b, nA1, nA2, nM1, nM2, n_add, n_mul, n_sub, nS1, nS2, nL0, nL1, nL2, nE0, nE1, nE2, nE3, bI_0, bI_1, bI_m, rz_b, rz_0, rz_1, hk, if_true, T_seen_row g hh hk, Ev_some, itr]
  · rintro _ rfl
    simp (disch := first | assumption | ((repeat (first | with_reducible refine TKI ?_ | with_reducible refine TKL ?_)); assumption) | omega) only [X7_seenBy_4b, nA1, nA2, nM1, nM2, n_add, n_mul, n_sub, nS1, nS2, nL0, nL1, nL2, nE0, nE1, nE2, nE3, bI_0, bI_1, bI_m, rz_b, rz_0, rz_1, Nat.lt_irrefl, if_false, Ev_some]
    rfl
theorem C_turnedN (hh : how < 4) (n : Nat) : X0_turned (nI n) (nI how) h = some (nI (tN how n), h) := by rw [C_turned _ hh, (tN_n how n).1]
theorem T_seenN (hh : how < 4) (n : Nat) : X7_seenBy (nI n) (nI how) h = some (nI (tN how n), h) := by rw [T_seenBy _ hh, (tN_n how n).1]
end Seen
