set_option maxRecDepth 100000
/-! ===== strokes counted, glyphs seen ===== -/
/-- fifteen strokes -/
def gOK (g : Int32) : Prop := ∃ n, n < 32768 ∧ g = nI n
def bc (x : Int32) : Int32 := ((((((((x - ((jushr x 1) &&& 1431655765)) &&& 858993459) + ((jushr (x - ((jushr x 1) &&& 1431655765)) 2) &&& 858993459)) + (jushr (((x - ((jushr x 1) &&& 1431655765)) &&& 858993459) + ((jushr (x - ((jushr x 1) &&& 1431655765)) 2) &&& 858993459)) 4)) &&& 252645135) + (jushr (((((x - ((jushr x 1) &&& 1431655765)) &&& 858993459) + ((jushr (x - ((jushr x 1) &&& 1431655765)) 2) &&& 858993459)) + (jushr (((x - ((jushr x 1) &&& 1431655765)) &&& 858993459) + ((jushr (x - ((jushr x 1) &&& 1431655765)) 2) &&& 858993459)) 4)) &&& 252645135) 8)) + (jushr ((((((x - ((jushr x 1) &&& 1431655765)) &&& 858993459) + ((jushr (x - ((jushr x 1) &&& 1431655765)) 2) &&& 858993459)) + (jushr (((x - ((jushr x 1) &&& 1431655765)) &&& 858993459) + ((jushr (x - ((jushr x 1) &&& 1431655765)) 2) &&& 858993459)) 4)) &&& 252645135) + (jushr (((((x - ((jushr x 1) &&& 1431655765)) &&& 858993459) + ((jushr (x - ((jushr x 1) &&& 1431655765)) 2) &&& 858993459)) + (jushr (((x - ((jushr x 1) &&& 1431655765)) &&& 858993459) + ((jushr (x - ((jushr x 1) &&& 1431655765)) 2) &&& 858993459)) 4)) &&& 252645135) 8)) 16)) &&& 63)
theorem C_bitCount (x : Int32) (h : AH) : J16_bitCount x h = some (bc x, h) := rfl
def btl : Nat → Int32 → Int32 → Int32 × Int32
  | 0, n, s => (n, s)
  | f + 1, n, s => if s = 0 then (n, s) else btl f (n + 1) (s &&& (s - 1))
/-- the strokes of n -/
def pcN (n : Nat) : Nat := n % 2 + n / 2 % 2 + n / 4 % 2 + n / 8 % 2 + n / 16 % 2 + n / 32 % 2 + n / 64 % 2 + n / 128 % 2 + n / 256 % 2 + n / 512 % 2 + n / 1024 % 2 + n / 2048 % 2 + n / 4096 % 2 + n / 8192 % 2 + n / 16384 % 2
def chk (n : Nat) : Bool := decide (bc (nI n) = nI (pcN n)) && decide (btl 16 0 (nI n) = (nI (pcN n), 0))
def chks (f n : Nat) : Bool := match f with
  | 0 => true
  | f + 1 => chk n && chks f (n + 1)
theorem chks_at : ∀ (f n k : Nat), chks f n = true → n ≤ k → k < n + f → chk k = true
  | 0, n, k, _, h1, h2 => by omega
  | f + 1, n, k, h, h1, h2 => by
    rw [chks, Bool.and_eq_true] at h
    rcases Nat.lt_or_ge n k with q | q
    · exact chks_at f (n + 1) k h.2 q (by omega)
    · have : k = n := by omega
      rw [this]; exact h.1
theorem chk_0 : chks 1024 0 = true := by decide +kernel
theorem chk_1 : chks 1024 1024 = true := by decide +kernel
theorem chk_2 : chks 1024 2048 = true := by decide +kernel
theorem chk_3 : chks 1024 3072 = true := by decide +kernel
theorem chk_4 : chks 1024 4096 = true := by decide +kernel
theorem chk_5 : chks 1024 5120 = true := by decide +kernel
theorem chk_6 : chks 1024 6144 = true := by decide +kernel
theorem chk_7 : chks 1024 7168 = true := by decide +kernel
theorem chk_8 : chks 1024 8192 = true := by decide +kernel
theorem chk_9 : chks 1024 9216 = true := by decide +kernel
theorem chk_10 : chks 1024 10240 = true := by decide +kernel
theorem chk_11 : chks 1024 11264 = true := by decide +kernel
theorem chk_12 : chks 1024 12288 = true := by decide +kernel
theorem chk_13 : chks 1024 13312 = true := by decide +kernel
theorem chk_14 : chks 1024 14336 = true := by decide +kernel
theorem chk_15 : chks 1024 15360 = true := by decide +kernel
theorem chk_16 : chks 1024 16384 = true := by decide +kernel
theorem chk_17 : chks 1024 17408 = true := by decide +kernel
theorem chk_18 : chks 1024 18432 = true := by decide +kernel
theorem chk_19 : chks 1024 19456 = true := by decide +kernel
theorem chk_20 : chks 1024 20480 = true := by decide +kernel
theorem chk_21 : chks 1024 21504 = true := by decide +kernel
theorem chk_22 : chks 1024 22528 = true := by decide +kernel
theorem chk_23 : chks 1024 23552 = true := by decide +kernel
theorem chk_24 : chks 1024 24576 = true := by decide +kernel
theorem chk_25 : chks 1024 25600 = true := by decide +kernel
theorem chk_26 : chks 1024 26624 = true := by decide +kernel
theorem chk_27 : chks 1024 27648 = true := by decide +kernel
theorem chk_28 : chks 1024 28672 = true := by decide +kernel
theorem chk_29 : chks 1024 29696 = true := by decide +kernel
theorem chk_30 : chks 1024 30720 = true := by decide +kernel
theorem chk_31 : chks 1024 31744 = true := by decide +kernel
theorem chk_all {n : Nat} (h : n < 32768) : chk n = true := by
  rcases Nat.lt_or_ge n 1024 with q0 | q0
  · exact chks_at _ _ _ chk_0 (by omega) (by omega)
  rcases Nat.lt_or_ge n 2048 with q1 | q1
  · exact chks_at _ _ _ chk_1 (by omega) (by omega)
  rcases Nat.lt_or_ge n 3072 with q2 | q2
  · exact chks_at _ _ _ chk_2 (by omega) (by omega)
  rcases Nat.lt_or_ge n 4096 with q3 | q3
  · exact chks_at _ _ _ chk_3 (by omega) (by omega)
  rcases Nat.lt_or_ge n 5120 with q4 | q4
  · exact chks_at _ _ _ chk_4 (by omega) (by omega)
  rcases Nat.lt_or_ge n 6144 with q5 | q5
  · exact chks_at _ _ _ chk_5 (by omega) (by omega)
  rcases Nat.lt_or_ge n 7168 with q6 | q6
  · exact chks_at _ _ _ chk_6 (by omega) (by omega)
  rcases Nat.lt_or_ge n 8192 with q7 | q7
  · exact chks_at _ _ _ chk_7 (by omega) (by omega)
  rcases Nat.lt_or_ge n 9216 with q8 | q8
  · exact chks_at _ _ _ chk_8 (by omega) (by omega)
  rcases Nat.lt_or_ge n 10240 with q9 | q9
  · exact chks_at _ _ _ chk_9 (by omega) (by omega)
  rcases Nat.lt_or_ge n 11264 with q10 | q10
  · exact chks_at _ _ _ chk_10 (by omega) (by omega)
  rcases Nat.lt_or_ge n 12288 with q11 | q11
  · exact chks_at _ _ _ chk_11 (by omega) (by omega)
  rcases Nat.lt_or_ge n 13312 with q12 | q12
  · exact chks_at _ _ _ chk_12 (by omega) (by omega)
  rcases Nat.lt_or_ge n 14336 with q13 | q13
  · exact chks_at _ _ _ chk_13 (by omega) (by omega)
  rcases Nat.lt_or_ge n 15360 with q14 | q14
  · exact chks_at _ _ _ chk_14 (by omega) (by omega)
  rcases Nat.lt_or_ge n 16384 with q15 | q15
  · exact chks_at _ _ _ chk_15 (by omega) (by omega)
  rcases Nat.lt_or_ge n 17408 with q16 | q16
  · exact chks_at _ _ _ chk_16 (by omega) (by omega)
  rcases Nat.lt_or_ge n 18432 with q17 | q17
  · exact chks_at _ _ _ chk_17 (by omega) (by omega)
  rcases Nat.lt_or_ge n 19456 with q18 | q18
  · exact chks_at _ _ _ chk_18 (by omega) (by omega)
  rcases Nat.lt_or_ge n 20480 with q19 | q19
  · exact chks_at _ _ _ chk_19 (by omega) (by omega)
  rcases Nat.lt_or_ge n 21504 with q20 | q20
  · exact chks_at _ _ _ chk_20 (by omega) (by omega)
  rcases Nat.lt_or_ge n 22528 with q21 | q21
  · exact chks_at _ _ _ chk_21 (by omega) (by omega)
  rcases Nat.lt_or_ge n 23552 with q22 | q22
  · exact chks_at _ _ _ chk_22 (by omega) (by omega)
  rcases Nat.lt_or_ge n 24576 with q23 | q23
  · exact chks_at _ _ _ chk_23 (by omega) (by omega)
  rcases Nat.lt_or_ge n 25600 with q24 | q24
  · exact chks_at _ _ _ chk_24 (by omega) (by omega)
  rcases Nat.lt_or_ge n 26624 with q25 | q25
  · exact chks_at _ _ _ chk_25 (by omega) (by omega)
  rcases Nat.lt_or_ge n 27648 with q26 | q26
  · exact chks_at _ _ _ chk_26 (by omega) (by omega)
  rcases Nat.lt_or_ge n 28672 with q27 | q27
  · exact chks_at _ _ _ chk_27 (by omega) (by omega)
  rcases Nat.lt_or_ge n 29696 with q28 | q28
  · exact chks_at _ _ _ chk_28 (by omega) (by omega)
  rcases Nat.lt_or_ge n 30720 with q29 | q29
  · exact chks_at _ _ _ chk_29 (by omega) (by omega)
  rcases Nat.lt_or_ge n 31744 with q30 | q30
  · exact chks_at _ _ _ chk_30 (by omega) (by omega)
  rcases Nat.lt_or_ge n 32768 with q31 | q31
  · exact chks_at _ _ _ chk_31 (by omega) (by omega)
  omega
theorem bc_n {n : Nat} (h : n < 32768) : bc (nI n) = nI (pcN n) := by
  have := chk_all h
  rw [chk, Bool.and_eq_true] at this
  exact of_decide_eq_true this.1
theorem pcN_le (n : Nat) : pcN n ≤ 15 := by unfold pcN; omega
theorem bt_ev (h : AH) : ∀ (f : Nat) (n s n' : Int32), btl f n s = (n', 0) → loopC (fun s : Int32 × Int32 × AH => X7_bits_4b s.1 s.2.1 s.2.2) (n, s, h) = some (n', h)
  | 0, n, s, n', e => by
    rw [btl] at e
    cases e
    exact loopC_end (by simp [X7_bits_4b])
  | f + 1, n, s, n', e => by
    rw [btl] at e
    by_cases z : s = 0
    · rw [if_pos z] at e
      cases e
      exact loopC_end (by simp [X7_bits_4b])
    · rw [if_neg z] at e
      rw [loopC_go (s' := (n + 1, s &&& (s - 1), h)) (by simp [X7_bits_4b, z])]
      exact bt_ev h f _ _ _ e
theorem C_bits {n : Nat} (hn : n < 32768) (h : AH) : J16_bitCount (nI n) h = some (nI (pcN n), h) := by rw [C_bitCount, bc_n hn]
theorem T_bits {n : Nat} (hn : n < 32768) (h : AH) : X7_bits (nI n) h = some (nI (pcN n), h) := by
  have := chk_all hn
  rw [chk, Bool.and_eq_true] at this
  rw [X7_bits, X7_bits_4]
  exact bt_ev h 16 _ _ _ (of_decide_eq_true this.2)
