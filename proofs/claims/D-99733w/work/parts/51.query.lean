set_option maxRecDepth 100000
/-! ===== what is asked of what there is: the answers, and the twin's ===== -/
def nt (x : Int32) : Nat := x.toInt.toNat
theorem nt_n {n : Nat} (h : n < 2147483648) : nt (nI n) = n := by rw [nt, n_int h, Int.toNat_natCast]
def q_strokes (s : SH) (f : RW) : Nat := itr (fun b a => itr (fun k a => a + pcN (f (3 + 8 * b + k))) 6 a) (z_nb s) 0
def q_has (s : SH) (f : RW) (un : Nat) (x : Int32) : Int32 := if x = 0 then nI (z_nl s 0) else if x = 1 then nI (z_nl s 1) else if x = 2 then nI (z_nw s) else if x = 3 then nI (z_nb s) else if x = 4 then nI (f 0) else if x = 5 then nI (q_strokes s f) else if x = 6 then nI (f 33) else if x = 7 then nI un else -1
def q_letter (s : SH) (x y w : Int32) : Int32 := if (inR x 2 && inR y (z_nl s (nt x))) = true then (if w = 0 then nI (z_lw s (nt x) (nt y)) else if w = 1 then nI (z_lg s (nt x) (nt y)) else if w = 2 then nI (pcN (z_lg s (nt x) (nt y))) else -1) else -1
def q_word (s : SH) (x y : Int32) : Int32 := if inR x (z_nw s) = true then (if inR y 6 = true then (if nt y < z_wl s (nt x) then nI (z_wc s (nt x) (nt y)) else 0) else -1) else -1
def q_board (s : SH) (f : RW) (x w : Int32) : Int32 := if inR x (z_nb s) = true then (if w = 0 then nI (f (1 + 8 * nt x)) else if w = 1 then nI (f (2 + 8 * nt x)) else if w = 2 then nI (z_wl s (f (1 + 8 * nt x))) else -1) else -1
def isP (s : SH) (f : RW) (x y : Int32) : Bool := inR x (z_nb s) && inR y (z_wl s (f (1 + 8 * nt x)))
def q_glyph (s : SH) (f : RW) (x y : Int32) : Int32 := if isP s f x y = true then nI (f (3 + 8 * nt x + nt y)) else -1
def q_kept (f : RW) (x y : Int32) : Int32 := if inR x (f 33) = true then (if inR y 3 = true then nI (f (34 + 3 * nt x + nt y)) else -1) else -1
def q_seen (x y : Int32) : Int32 := if inR x 32768 = true then (if inR y 4 = true then nI (tN (nt y) (nt x)) else -1) else -1
def q_doubt (s : SH) (x y g : Int32) : Int64 := if (inR x 2 && inR y (z_nl s (nt x))) = true then (if inR g 32768 = true then iL (dbt s (nt x) (nt y) (nt g) : Nat) else -1000000000000000) else -1000000000000000
def q_reads (s : SH) (x g w : Int32) : Int32 := if inR x 2 = true then (if inR g 32768 = true then (if inR w 4 = true then nI (rd s (nt x) (tN (nt w) (nt g))) else -1) else -1) else -1
/-- so many years ahead, of l to m -/
def isA (f : RW) (x : Int32) (l m : Nat) : Bool := decide ((l : Int) ≤ x.toInt ∧ x.toInt ≤ (m : Int) ∧ (f 0 : Int) + x.toInt ≤ 999)
def plH (how n k : Nat) : Nat := if how = 1 ∨ how = 3 then n - 1 - k else k
def q_says (s : SH) (f : RW) (b w n k : Int32) : Int32 := if isP s f b k = true then (if inR w 4 = true then (if isA f n 0 60 = true then
    nI (rd s (f (2 + 8 * nt b)) (tN (nt w) (yts s (nt n) f (3 + 8 * nt b + plH (nt w) (z_wl s (f (1 + 8 * nt b))) (nt k))))) else -1) else -1) else -1
/-- what a word says, seen so -/
def bcm (s : SH) (w hd how k : Nat) : Nat := rd s hd (tN how (gl s hd (z_wc s w (plH how (z_wl s w) k))))
def q_becomes (s : SH) (w hd how : Int32) : Int32 := if inR w (z_nw s) = true then (if inR hd 2 = true then (if inR how 4 = true then (if cp s (nt w) (nt hd) = true then
    fndI (z_nw s) (fun v => (z_wl s v == z_wl s (nt w)) && alln (fun k => z_wc s v k == bcm s (nt w) (nt hd) (nt how) k) (z_wl s (nt w))) else -1) else -1) else -1) else -1
theorem isA_ex {f : RW} {x : Int32} {l m : Nat} (hm : m ≤ 1000) (h : isA f x l m = true) : ∃ n, x = nI n ∧ l ≤ n ∧ n ≤ m ∧ f 0 + n ≤ 999 := by
  simp only [isA, decide_eq_true_eq] at h
  refine ⟨x.toInt.toNat, ?_, by omega, by omega, by omega⟩
  rw [← Int32.toInt_inj, n_int (by omega)]
  omega
section Query
variable {h : AH} {s : SH} {f : RW}
theorem T_letter (W : TKK (hK h) (hR h)) (F : WFS s) (S : TSH h s) (x y w : Int32) : X7_letter 1349 x y w h = some (q_letter s x y w, h) := by
  rw [X7_letter, tisO W, Option.bind_some, b2_of (T_isLetterOf W F S x y), q_letter]
  cases e : (inR x 2 && inR y (z_nl s x.toInt.toNat)) with
  | false => rw [show (inR x 2 && inR y (z_nl s (nt x))) = false from e]; simp [bI]
  | true =>
    rw [show (inR x 2 && inR y (z_nl s (nt x))) = true from e]
    rw [Bool.and_eq_true] at e
    obtain ⟨hd, h1, rfl⟩ := inR_ex (by decide) e.1
    have q := F.1 hd h1
    have e2 := e.2
    rw [n_int (by omega), Int.toNat_natCast] at e2
    obtain ⟨k, h2, rfl⟩ := inR_ex (by omega) e2
    have b := (F.2.1 hd k h1 h2).2.2
    rw [nt_n (by omega), nt_n (by omega), if_neg (by decide), if_pos rfl]
    simp (disch := first | assumption | ((repeat (first | with_reducible refine TKI ?_ | with_reducible refine TKL ?_)); assumption) | omega) only [↓btgI, ↓btpI, ↓btgL, ↓btpL, ↓btisO, tgI, tpI, tgL, tpL, tisO, ↓Option.bind_some, ↓b2_some, ↓bX_l, ↓bX_r, Option.bind_some, Option.bind_none, b2_some, bX_l, bX_r, nn_e, if_true, if_false, reduceCtorEq, ↓reduceIte, Nat.reduceEqDiff, Nat.reduceLT, Nat.reduceLeDiff, Nat.reduceSubDiff, Nat.reduceAdd, Nat.reduceMul, ↓b2_of (T_nameOf W F S h1 h2), ↓b2_of (T_glyphOf W F S h1 h2), ↓b2_of (T_bits b h)]
    repeat' split
    all_goals rfl
theorem T_word (W : TKK (hK h) (hR h)) (F : WFS s) (S : TSH h s) (x y : Int32) : X7_word 1349 x y h = some (q_word s x y, h) := by
  have q := F.2.2.1
  rw [X7_word, tisO W, Option.bind_some, b2_of (T_isWord W F S x), q_word]
  cases e : inR x (z_nw s) with
  | false => simp [bI]
  | true =>
    obtain ⟨w, h1, rfl⟩ := inR_ex (by omega) e
    obtain ⟨q1, q2, -, -⟩ := F.2.2.2.1 w h1
    rw [if_neg (by decide), if_pos rfl, b2_of (T_isIn _ _ _ h), show ((5 : Int64)) = Int64.ofNat 5 from rfl, b_inL (by decide)]
    cases e2 : inR y 6 with
    | false => simp [bI]
    | true =>
      obtain ⟨k, h2, rfl⟩ := inR_ex (by decide) e2
      rw [if_neg (by decide), if_pos rfl, nt_n (by omega), nt_n (by omega)]
      simp (disch := first | assumption | ((repeat (first | with_reducible refine TKI ?_ | with_reducible refine TKL ?_)); assumption) | omega) only [↓btgI, ↓btpI, ↓btgL, ↓btpL, ↓btisO, tgI, tpI, tgL, tpL, tisO, ↓Option.bind_some, ↓b2_some, ↓bX_l, ↓bX_r, Option.bind_some, Option.bind_none, b2_some, bX_l, bX_r, nn_e, if_true, if_false, reduceCtorEq, ↓reduceIte, Nat.reduceEqDiff, Nat.reduceLT, Nat.reduceLeDiff, Nat.reduceSubDiff, Nat.reduceAdd, Nat.reduceMul, nA1, nA2, nM1, nM2, n_add, n_mul, n_sub, nS1, nS2, nL0, nL1, nL2, nE0, nE1, nE2, nE3, bI_0, bI_1, bI_m, rz_b, rz_0, rz_1, ↓b2_of (T_longOf W F S h1)]
      by_cases e3 : k < z_wl s w
      · rw [if_pos e3, if_pos e3, b2_of (T_letterOf W F S h1 e3)]
      · rw [if_neg e3, if_neg e3]
theorem T_board (W : TKK (hK h) (hR h)) (F : WFS s) (S : TSH h s) (N : TNOW h f) (G : WFN s f) (x w : Int32) : X7_board 1349 x w h = some (q_board s f x w, h) := by
  have q := F.2.2.2.2.1
  rw [X7_board, tisO W, Option.bind_some, b2_of (T_isBoard W F S x), q_board]
  cases e : inR x (z_nb s) with
  | false => simp [bI]
  | true =>
    obtain ⟨b, h1, rfl⟩ := inR_ex (by omega) e
    obtain ⟨g1, g2, -, g3⟩ := G.2.1 b h1
    rw [if_neg (by decide), if_pos rfl, nt_n (by omega)]
    simp (disch := first | assumption | ((repeat (first | with_reducible refine TKI ?_ | with_reducible refine TKL ?_)); assumption) | omega) only [↓btgI, ↓btpI, ↓btgL, ↓btpL, ↓btisO, tgI, tpI, tgL, tpL, tisO, ↓Option.bind_some, ↓b2_some, ↓bX_l, ↓bX_r, Option.bind_some, Option.bind_none, b2_some, bX_l, bX_r, nn_e, if_true, if_false, reduceCtorEq, ↓reduceIte, Nat.reduceEqDiff, Nat.reduceLT, Nat.reduceLeDiff, Nat.reduceSubDiff, Nat.reduceAdd, Nat.reduceMul, ↓b2_of (T_wordOf W N (show b < 4 by omega)), ↓b2_of (T_handOf W N (show b < 4 by omega)), ↓b2_of (T_longOf W F S g1)]
    repeat' split
    all_goals rfl
theorem T_isPlace (W : TKK (hK h) (hR h)) (F : WFS s) (S : TSH h s) (N : TNOW h f) (G : WFN s f) (x y : Int32) : X7_isPlace 1349 x y h = some (bI (isP s f x y), h) := by
  have q := F.2.2.2.2.1
  rw [X7_isPlace, tisO W, Option.bind_some, b2_of (T_isBoard W F S x), isP]
  cases e : inR x (z_nb s) with
  | false => simp [bI]
  | true =>
    obtain ⟨b, h1, rfl⟩ := inR_ex (by omega) e
    obtain ⟨g1, g2, -, g3⟩ := G.2.1 b h1
    have q2 := WFN_6 F G b h1
    rw [if_neg (by decide), nt_n (by omega), Bool.true_and]
    simp (disch := first | assumption | ((repeat (first | with_reducible refine TKI ?_ | with_reducible refine TKL ?_)); assumption) | omega) only [↓btgI, ↓btpI, ↓btgL, ↓btpL, ↓btisO, tgI, tpI, tgL, tpL, tisO, ↓Option.bind_some, ↓b2_some, ↓bX_l, ↓bX_r, Option.bind_some, Option.bind_none, b2_some, bX_l, bX_r, nn_e, if_true, if_false, reduceCtorEq, ↓reduceIte, Nat.reduceEqDiff, Nat.reduceLT, Nat.reduceLeDiff, Nat.reduceSubDiff, Nat.reduceAdd, Nat.reduceMul, ↓b2_of (T_wordOf W N (show b < 4 by omega)), ↓b2_of (T_longOf W F S g1), ↓b2_of (T_isIn _ _ _ h), b_inR (show z_wl s (f (1 + 8 * b)) < 2147483648 by omega), bI_0]
    cases e2 : inR y (z_wl s (f (1 + 8 * b))) <;> simp [bI]
theorem isP_ex {x y : Int32} (F : WFS s) (G : WFN s f) (e : isP s f x y = true) : ∃ b k, x = nI b ∧ y = nI k ∧ b < z_nb s ∧ k < z_wl s (f (1 + 8 * b)) ∧ k < 6 ∧ b < 4 := by
  have q := F.2.2.2.2.1
  rw [isP, Bool.and_eq_true] at e
  obtain ⟨b, h1, rfl⟩ := inR_ex (by omega) e.1
  have q2 := WFN_6 F G b h1
  have e2 := e.2
  rw [nt_n (by omega)] at e2
  obtain ⟨k, h2, rfl⟩ := inR_ex (by omega) e2
  exact ⟨b, k, rfl, rfl, h1, h2, by omega, by omega⟩
theorem T_glyph (W : TKK (hK h) (hR h)) (F : WFS s) (S : TSH h s) (N : TNOW h f) (G : WFN s f) (x y : Int32) : X7_glyph 1349 x y h = some (q_glyph s f x y, h) := by
  rw [X7_glyph, tisO W, Option.bind_some, b2_of (T_isPlace W F S N G x y), q_glyph]
  cases e : isP s f x y with
  | false => simp [bI]
  | true =>
    obtain ⟨b, k, rfl, rfl, h1, h2, h3, h4⟩ := isP_ex F G e
    rw [if_neg (by decide), if_pos rfl, nt_n (by omega), nt_n (by omega), tisO W, Option.bind_some, b2_of (T_glyphAt W N h4 h3)]
theorem T_kept (W : TKK (hK h) (hR h)) (N : TNOW h f) (h33 : f 33 ≤ 40) (x y : Int32) : X7_kept 1349 x y h = some (q_kept f x y, h) := by
  have e33 : hI h 1389 33 = nI (f 33) := N 33 (by decide)
  simp (disch := first | assumption | ((repeat (first | with_reducible refine TKI ?_ | with_reducible refine TKL ?_)); assumption) | omega) only [X7_kept, ↓btgI, ↓btpI, ↓btgL, ↓btpL, ↓btisO, tgI, tpI, tgL, tpL, tisO, ↓btg_57, tg_57, ↓btx_1389, tx_1389, ↓bts_1389, ts_1389, ↓btxl_1389, txl_1389, ↓btsl_1389, tsl_1389, ↓Option.bind_some, ↓b2_some, ↓bX_l, ↓bX_r, Option.bind_some, Option.bind_none, b2_some, bX_l, bX_r, nn_e, if_true, if_false, reduceCtorEq, ↓reduceIte, Nat.reduceEqDiff, Nat.reduceLT, Nat.reduceLeDiff, Nat.reduceSubDiff, Nat.reduceAdd, Nat.reduceMul, e33]
  rw [b2_of (T_isIn _ _ _ h), b_inR (by omega), q_kept]
  cases e : inR x (f 33) with
  | false => simp [bI]
  | true =>
    obtain ⟨n, h1, rfl⟩ := inR_ex (by omega) e
    rw [if_neg (by decide), if_pos rfl, b2_of (T_isIn _ _ _ h), show ((2 : Int64)) = Int64.ofNat 2 from rfl, b_inL (by decide)]
    cases e2 : inR y 3 with
    | false => simp [bI]
    | true =>
      obtain ⟨k, h2, rfl⟩ := inR_ex (by decide) e2
      rw [if_neg (by decide), if_pos rfl, nt_n (by omega), nt_n (by omega)]
      simp (disch := first | assumption | ((repeat (first | with_reducible refine TKI ?_ | with_reducible refine TKL ?_)); assumption) | omega) only [↓btgI, ↓btpI, ↓btgL, ↓btpL, ↓btisO, tgI, tpI, tgL, tpL, tisO, ↓btg_57, tg_57, ↓btx_1389, tx_1389, ↓bts_1389, ts_1389, ↓btxl_1389, txl_1389, ↓btsl_1389, tsl_1389, ↓Option.bind_some, ↓b2_some, ↓bX_l, ↓bX_r, Option.bind_some, Option.bind_none, b2_some, bX_l, bX_r, nn_e, if_true, if_false, reduceCtorEq, ↓reduceIte, Nat.reduceEqDiff, Nat.reduceLT, Nat.reduceLeDiff, Nat.reduceSubDiff, Nat.reduceAdd, Nat.reduceMul, nA1, nA2, nM1, nM2, n_add, n_mul, n_sub, nS1, nS2, nL0, nL1, nL2, nE0, nE1, nE2, nE3, bI_0, bI_1, bI_m, rz_b, rz_0, rz_1]
      rw [N _ (by omega)]
theorem T_seen (W : TKK (hK h) (hR h)) (x y : Int32) : X7_seen 1349 x y h = some (q_seen x y, h) := by
  rw [X7_seen, tisO W, Option.bind_some, b2_of (T_isGlyph x), q_seen]
  cases e : inR x 32768 with
  | false => simp [bI]
  | true =>
    obtain ⟨n, h1, rfl⟩ := inR_ex (by decide) e
    rw [if_neg (by decide), if_pos rfl, b2_of (T_isIn _ _ _ h), show ((3 : Int64)) = Int64.ofNat 3 from rfl, b_inL (by decide)]
    cases e2 : inR y 4 with
    | false => simp [bI]
    | true =>
      obtain ⟨k, h2, rfl⟩ := inR_ex (by decide) e2
      rw [if_neg (by decide), if_pos rfl, nt_n (by omega), nt_n (by omega), b2_of (T_seenN h2 n)]
theorem T_doubt (W : TKK (hK h) (hR h)) (F : WFS s) (S : TSH h s) (x y g : Int32) : Ev (X7_doubt 1349 x y g h) (fun z => z.1 = q_doubt s x y g ∧ FT PD2 h z.2) := by
  rw [X7_doubt, tisO W, Option.bind_some, b2_of (T_isLetterOf W F S x y), q_doubt]
  cases e : (inR x 2 && inR y (z_nl s x.toInt.toNat)) with
  | false => rw [show (inR x 2 && inR y (z_nl s (nt x))) = false from e, if_pos (show bI false = 0 from rfl), X7_doubt_28, Ev_some]; exact ⟨rfl, FT.refl _ _⟩
  | true =>
    rw [show (inR x 2 && inR y (z_nl s (nt x))) = true from e]
    rw [Bool.and_eq_true] at e
    obtain ⟨hd, h1, rfl⟩ := inR_ex (by decide) e.1
    have q := F.1 hd h1
    have e2 := e.2
    rw [n_int (by omega), Int.toNat_natCast] at e2
    obtain ⟨k, h2, rfl⟩ := inR_ex (by omega) e2
    rw [nt_n (by omega), nt_n (by omega), if_neg (by decide), if_pos rfl, tisO W, Option.bind_some, b2_of (T_isGlyph g)]
    cases e3 : inR g 32768 with
    | false => rw [if_pos (show bI false = 0 from rfl), X7_doubt_28, Ev_some]; exact ⟨rfl, FT.refl _ _⟩
    | true =>
      obtain ⟨n, h3, rfl⟩ := inR_ex (by decide) e3
      rw [if_neg (by decide), if_pos rfl, nt_n (by omega), tisO W, Option.bind_some, Ev_b2]
      refine ev_mono (T_doubtOf W F S h1 h2 h3) ?_
      rintro ⟨v, H⟩ ⟨hv, F2⟩
      simp only at hv F2
      subst hv
      have := dbt_le F hd k n
      rw [Ev_some, i2L, n_int (by omega)]
      exact ⟨rfl, F2⟩
theorem T_reads (W : TKK (hK h) (hR h)) (F : WFS s) (S : TSH h s) (x g w : Int32) : Ev (X7_reads 1349 x g w h) (fun z => z.1 = q_reads s x g w ∧ FT PD2 h z.2) := by
  rw [X7_reads, tisO W, Option.bind_some, b2_of (T_isHand x), q_reads]
  cases e : inR x 2 with
  | false => rw [if_pos (show bI false = 0 from rfl), Ev_some]; exact ⟨rfl, FT.refl _ _⟩
  | true =>
    obtain ⟨hd, h1, rfl⟩ := inR_ex (by decide) e
    rw [if_neg (by decide), if_pos rfl, tisO W, Option.bind_some, b2_of (T_isGlyph g)]
    cases e2 : inR g 32768 with
    | false => rw [if_pos (show bI false = 0 from rfl), Ev_some]; exact ⟨rfl, FT.refl _ _⟩
    | true =>
      obtain ⟨n, h2, rfl⟩ := inR_ex (by decide) e2
      rw [if_neg (by decide), if_pos rfl, b2_of (T_isIn _ _ _ h), show ((3 : Int64)) = Int64.ofNat 3 from rfl, b_inL (by decide)]
      cases e3 : inR w 4 with
      | false => rw [if_pos (show bI false = 0 from rfl), Ev_some]; exact ⟨rfl, FT.refl _ _⟩
      | true =>
        obtain ⟨k, h3, rfl⟩ := inR_ex (by decide) e3
        rw [if_neg (by decide), if_pos rfl, nt_n (by omega), nt_n (by omega), nt_n (by omega), b2_of (T_seenN h3 n), tisO W, Option.bind_some, Ev_b2]
        refine ev_mono (T_readAs W F S h1 (tN_n k n).2) ?_
        rintro ⟨v, H⟩ ⟨hv, F2⟩
        simp only at hv F2
        subst hv
        rw [Ev_some]
        exact ⟨rfl, F2⟩
theorem T_isAhead (W : TKK (hK h) (hR h)) (N : TNOW h f) (h0 : f 0 ≤ 999) (x : Int32) {l m : Nat} (hl : l ≤ 1000) (hm : m ≤ 1000) : X7_isAhead 1349 x (nI l) (nI m) h = some (bI (isA f x l m), h) := by
  have e0 : hI h 1389 0 = nI (f 0) := N 0 (by decide)
  rw [X7_isAhead, b2_of (T_isIn _ _ _ h), Int32.toInt_toInt64, Int32.toInt_toInt64, Int32.toInt_toInt64, n_int (by omega), n_int (by omega)]
  by_cases e : (l : Int) ≤ x.toInt ∧ x.toInt ≤ (m : Int)
  · obtain ⟨n, rfl, n1, n2⟩ : ∃ n, x = nI n ∧ l ≤ n ∧ n ≤ m := by
      refine ⟨x.toInt.toNat, ?_, by omega, by omega⟩
      rw [← Int32.toInt_inj, n_int (by omega)]
      omega
    rw [n_int (by omega)] at e
    rw [n_int (by omega), if_neg (by simp [bI, e])]
    simp (disch := first | assumption | ((repeat (first | with_reducible refine TKI ?_ | with_reducible refine TKL ?_)); assumption) | omega) only [↓btgI, ↓btpI, ↓btgL, ↓btpL, ↓btisO, tgI, tpI, tgL, tpL, tisO, ↓btg_57, tg_57, ↓btx_1389, tx_1389, ↓bts_1389, ts_1389, ↓btxl_1389, txl_1389, ↓btsl_1389, tsl_1389, ↓Option.bind_some, ↓b2_some, ↓bX_l, ↓bX_r, Option.bind_some, Option.bind_none, b2_some, bX_l, bX_r, nn_e, if_true, if_false, reduceCtorEq, ↓reduceIte, Nat.reduceEqDiff, Nat.reduceLT, Nat.reduceLeDiff, Nat.reduceSubDiff, Nat.reduceAdd, Nat.reduceMul, nA1, nA2, nM1, nM2, n_add, n_mul, n_sub, nS1, nS2, nL0, nL1, nL2, nE0, nE1, nE2, nE3, bI_0, bI_1, bI_m, rz_b, rz_0, rz_1, e0]
    rw [isA, n_int (by omega)]
    by_cases e3 : 999 < f 0 + n
    · rw [if_pos e3, decide_eq_false (by omega)]; rfl
    · rw [if_neg e3, decide_eq_true (by omega)]; rfl
  · rw [if_pos (by simp only [bI]; rw [if_neg (by simpa using e)]), isA, decide_eq_false (fun z => e ⟨z.1, z.2.1⟩)]
    rfl
end Query
