set_option maxRecDepth 100000
/-! ===== lines, plain ===== -/
/-- the glyphs of both words, letter by letter; the second from its end, turned -/
def lA (s : SH) (one hd i : Nat) : Nat := gl s hd (z_wc s one i)
def lB (s : SH) (oth hd j : Nat) : Nat := tN 1 (gl s hd (z_wc s oth (z_wl s oth - 1 - j)))
def chs (c a t : Nat) : Nat := if c = 0 then a else if c = 1 then t else if c = 2 then a ||| t else a &&& t
theorem chs_lt {c a t : Nat} (ha : a < 32768) (ht : t < 32768) : chs c a t < 32768 := by
  unfold chs
  repeat' split
  · exact ha
  · exact ht
  · exact Nat.or_lt_two_pow (n := 15) ha ht
  · exact Nat.lt_of_le_of_lt Nat.and_le_left ha
/-- what a piece for both leaves in doubt; none if it is not forgiven -/
def bth (s : SH) (one oth hd i j c : Nat) : Option Nat :=
  let g := chs c (lA s one hd i) (lB s oth hd j)
  let x := dbt s hd (lp s hd (z_wc s one i)) g
  let y := dbt s hd (lp s hd (z_wc s oth (z_wl s oth - 1 - j))) (tN 1 g)
  if x ≤ z_fg s ∧ y ≤ z_fg s then some (x + y) else none
/-- candidates for the first piece from i, j on: doubt, strokes, by which; the rest is told by R -/
def cand (s : SH) (one oth hd i j : Nat) (R : Nat → Nat → Nat × Nat) (by_ : Nat) : Option (Nat × Nat) :=
  if by_ < 4 then (if i < z_wl s one ∧ j < z_wl s oth then (match bth s one oth hd i j by_ with
      | none => none
      | some n => some (n + (R (i + 1) (j + 1)).1, pcN (chs by_ (lA s one hd i) (lB s oth hd j)) + (R (i + 1) (j + 1)).2)) else none)
  else if by_ = 4 then (if i < z_wl s one then some (z_bk s + (R (i + 1) j).1, pcN (lA s one hd i) + (R (i + 1) j).2) else none)
  else (if j < z_wl s oth then some (z_bk s + (R i (j + 1)).1, pcN (lB s oth hd j) + (R i (j + 1)).2) else none)
/-- the least so far: by which, doubt, strokes -/
def bst1 (b : Option (Nat × Nat × Nat)) (k : Nat) (c : Option (Nat × Nat)) : Option (Nat × Nat × Nat) := match c with
  | none => b
  | some (d, n) => match b with
    | none => some (k, d, n)
    | some (k0, d0, n0) => if d < d0 ∨ (d = d0 ∧ n < n0) then some (k, d, n) else some (k0, d0, n0)
def bst (s : SH) (one oth hd i j : Nat) (R : Nat → Nat → Nat × Nat) : Nat → Option (Nat × Nat × Nat) := fun m => itr (fun k b => bst1 b k (cand s one oth hd i j R k)) m none
/-- a line from i, j on, q pieces of letters left: doubt and strokes -/
def ln (s : SH) (one oth hd : Nat) : Nat → Nat → Nat → Nat × Nat
  | 0, _, _ => (0, 0)
  | q + 1, i, j => match bst s one oth hd i j (fun i' j' => ln s one oth hd q i' j') 6 with
    | none => (0, 0)
    | some (_, d, n) => (d, n)
theorem dbt_bth {s : SH} {one oth hd i j c n : Nat} (h : bth s one oth hd i j c = some n) : n ≤ 2 * z_fg s := by
  unfold bth at h
  simp only at h
  split at h
  · cases h; omega
  · cases h
theorem cand_le {s : SH} (F : WFS s) {one oth hd i j : Nat} {R : Nat → Nat → Nat × Nat} {k d n D M : Nat} (hR : ∀ i' j', (R i' j').1 ≤ D ∧ (R i' j').2 ≤ M) (h : cand s one oth hd i j R k = some (d, n)) : d ≤ 198 + D ∧ n ≤ 15 + M := by
  obtain ⟨f1, f2, -⟩ := F.2.2.2.2.2.1
  have p := fun x => pcN_le x
  unfold cand at h
  split at h
  · split at h
    · cases e : bth s one oth hd i j k with
      | none => rw [e] at h; cases h
      | some m =>
        rw [e] at h
        have := dbt_bth e
        have a := hR (i + 1) (j + 1)
        have b := p (chs k (lA s one hd i) (lB s oth hd j))
        cases h
        omega
    · cases h
  · split at h
    · split at h
      · have a := hR (i + 1) j
        have b := p (lA s one hd i)
        cases h
        omega
      · cases h
    · split at h
      · have a := hR i (j + 1)
        have b := p (lB s oth hd j)
        cases h
        omega
      · cases h
theorem bst_le {s : SH} (F : WFS s) {one oth hd i j : Nat} {R : Nat → Nat → Nat × Nat} {D M : Nat} (hR : ∀ i' j', (R i' j').1 ≤ D ∧ (R i' j').2 ≤ M) : ∀ (m : Nat) (p : Nat × Nat × Nat), bst s one oth hd i j R m = some p → p.1 < m ∧ p.2.1 ≤ 198 + D ∧ p.2.2 ≤ 15 + M
  | 0, p, h => by cases h
  | m + 1, p, h => by
    have ih := bst_le F (one := one) (oth := oth) (hd := hd) (i := i) (j := j) hR m
    change bst1 (bst s one oth hd i j R m) m (cand s one oth hd i j R m) = some p at h
    cases c : cand s one oth hd i j R m with
    | none =>
      rw [c] at h
      have := ih p h
      omega
    | some q =>
      obtain ⟨d, n⟩ := q
      have cl := cand_le F hR c
      rw [c] at h
      cases b : bst s one oth hd i j R m with
      | none =>
        rw [b] at h
        cases h
        exact ⟨by simp, by simpa using cl.1, by simpa using cl.2⟩
      | some r =>
        obtain ⟨k0, d0, n0⟩ := r
        rw [b] at h
        simp only [bst1] at h
        have i0 := ih _ b
        split at h
        · cases h
          exact ⟨by simp, by simpa using cl.1, by simpa using cl.2⟩
        · cases h
          simp only at i0 ⊢
          omega
theorem ln_le {s : SH} (F : WFS s) (one oth hd : Nat) : ∀ q i j, (ln s one oth hd q i j).1 ≤ 198 * q ∧ (ln s one oth hd q i j).2 ≤ 15 * q
  | 0, i, j => by simp [ln]
  | q + 1, i, j => by
    have ih := ln_le F one oth hd q
    have b := bst_le F (one := one) (oth := oth) (hd := hd) (i := i) (j := j) ih 6
    rw [ln]
    cases e : bst s one oth hd i j (fun i' j' => ln s one oth hd q i' j') 6 with
    | none => simp
    | some p =>
      obtain ⟨k, d, n⟩ := p
      have := b _ e
      simp only at this ⊢
      omega
theorem cand_congr {s : SH} {one oth hd i j : Nat} {R R' : Nat → Nat → Nat × Nat} (h1 : i < z_wl s one → j < z_wl s oth → R (i + 1) (j + 1) = R' (i + 1) (j + 1)) (h2 : i < z_wl s one → R (i + 1) j = R' (i + 1) j) (h3 : j < z_wl s oth → R i (j + 1) = R' i (j + 1)) (k : Nat) : cand s one oth hd i j R k = cand s one oth hd i j R' k := by
  unfold cand
  split
  · split
    · rename_i q
      rw [h1 q.1 q.2]
    · rfl
  · split
    · split
      · rename_i q
        rw [h2 q]
      · rfl
    · split
      · rename_i q
        rw [h3 q]
      · rfl
theorem bst_congr {s : SH} {one oth hd i j : Nat} {R R' : Nat → Nat → Nat × Nat} (h1 : i < z_wl s one → j < z_wl s oth → R (i + 1) (j + 1) = R' (i + 1) (j + 1)) (h2 : i < z_wl s one → R (i + 1) j = R' (i + 1) j) (h3 : j < z_wl s oth → R i (j + 1) = R' i (j + 1)) : ∀ m, bst s one oth hd i j R m = bst s one oth hd i j R' m
  | 0 => rfl
  | m + 1 => by
    show bst1 (bst s one oth hd i j R m) m (cand s one oth hd i j R m) = bst1 (bst s one oth hd i j R' m) m (cand s one oth hd i j R' m)
    rw [bst_congr h1 h2 h3 m, cand_congr h1 h2 h3 m]
theorem ln_fuel {s : SH} (one oth hd : Nat) : ∀ q i j, (z_wl s one - i) + (z_wl s oth - j) < q → ln s one oth hd q i j = ln s one oth hd (q + 1) i j
  | 0, i, j, h => by omega
  | q + 1, i, j, h => by
    rw [ln, ln, bst_congr (R := fun i' j' => ln s one oth hd q i' j') (R' := fun i' j' => ln s one oth hd (q + 1) i' j') (fun a b => ln_fuel one oth hd q _ _ (by omega)) (fun a => ln_fuel one oth hd q _ _ (by omega)) (fun a => ln_fuel one oth hd q _ _ (by omega))]
/-- a line from i, j on -/
def lq (s : SH) (one oth hd i j : Nat) : Nat × Nat := ln s one oth hd 14 i j
def lb (s : SH) (one oth hd i j : Nat) : Option (Nat × Nat × Nat) := bst s one oth hd i j (lq s one oth hd) 6
theorem lq_eq {s : SH} {one oth : Nat} (h1 : z_wl s one ≤ 6) (h2 : z_wl s oth ≤ 6) (hd i j : Nat) : lq s one oth hd i j = match lb s one oth hd i j with
    | none => (0, 0)
    | some (_, d, n) => (d, n) := by
  unfold lq lb
  rw [ln, bst_congr (R := fun i' j' => ln s one oth hd 13 i' j') (R' := lq s one oth hd) (fun a b => ln_fuel one oth hd 13 _ _ (by omega)) (fun a => ln_fuel one oth hd 13 _ _ (by omega)) (fun a => ln_fuel one oth hd 13 _ _ (by omega))]
theorem lq_le {s : SH} (F : WFS s) (one oth hd i j : Nat) : (lq s one oth hd i j).1 ≤ 2772 ∧ (lq s one oth hd i j).2 ≤ 210 := ln_le F one oth hd 14 i j
theorem lb_le {s : SH} (F : WFS s) {one oth hd i j : Nat} {p : Nat × Nat × Nat} (m : Nat) (h : bst s one oth hd i j (lq s one oth hd) m = some p) : p.1 < m ∧ p.2.1 ≤ 3000 ∧ p.2.2 ≤ 250 := by
  have := bst_le F (lq_le F one oth hd) m p h
  omega
theorem bst_some {s : SH} {one oth hd i j : Nat} {R : Nat → Nat → Nat × Nat} : ∀ (m k : Nat), k < m → cand s one oth hd i j R k ≠ none → bst s one oth hd i j R m ≠ none
  | 0, k, h, _ => by omega
  | m + 1, k, h, hc => by
    show bst1 (bst s one oth hd i j R m) m (cand s one oth hd i j R m) ≠ none
    rcases Nat.lt_or_ge k m with q | q
    · have ih := bst_some m k q hc
      cases b : bst s one oth hd i j R m with
      | none => exact absurd b ih
      | some r =>
        obtain ⟨k0, d0, n0⟩ := r
        cases c : cand s one oth hd i j R m with
        | none => simp [bst1]
        | some p => obtain ⟨d, n⟩ := p; simp only [bst1]; split <;> simp
    · have : k = m := by omega
      subst this
      cases c : cand s one oth hd i j R k with
      | none => exact absurd c hc
      | some p =>
        obtain ⟨d, n⟩ := p
        cases b : bst s one oth hd i j R k with
        | none => simp [bst1]
        | some r => obtain ⟨k0, d0, n0⟩ := r; simp only [bst1]; split <;> simp
theorem bst_cand {s : SH} {one oth hd i j : Nat} {R : Nat → Nat → Nat × Nat} : ∀ (m : Nat) (p : Nat × Nat × Nat), bst s one oth hd i j R m = some p → cand s one oth hd i j R p.1 = some (p.2.1, p.2.2)
  | 0, p, h => by cases h
  | m + 1, p, h => by
    change bst1 (bst s one oth hd i j R m) m (cand s one oth hd i j R m) = some p at h
    cases c : cand s one oth hd i j R m with
    | none => rw [c] at h; exact bst_cand m p h
    | some q =>
      obtain ⟨d, n⟩ := q
      rw [c] at h
      cases b : bst s one oth hd i j R m with
      | none => rw [b] at h; cases h; exact c
      | some r =>
        obtain ⟨k0, d0, n0⟩ := r
        rw [b] at h
        simp only [bst1] at h
        split at h
        · cases h; exact c
        · cases h; exact bst_cand m _ b
/-- the end: no piece is left exactly when both words are used up -/
theorem lb_none {s : SH} {one oth hd i j : Nat} : lb s one oth hd i j = none ↔ z_wl s one ≤ i ∧ z_wl s oth ≤ j := by
  constructor
  · intro h
    refine ⟨?_, ?_⟩
    · rcases Nat.lt_or_ge i (z_wl s one) with q | q
      · exact absurd h (bst_some 6 4 (by decide) (by unfold cand; simp [q]))
      · exact q
    · rcases Nat.lt_or_ge j (z_wl s oth) with q | q
      · exact absurd h (bst_some 6 5 (by decide) (by unfold cand; simp [q]))
      · exact q
  · rintro ⟨h1, h2⟩
    cases e : lb s one oth hd i j with
    | none => rfl
    | some p =>
      have := bst_cand 6 p e
      unfold cand at this
      rw [if_neg (show ¬ (i < z_wl s one ∧ j < z_wl s oth) by omega), if_neg (show ¬ i < z_wl s one by omega), if_neg (show ¬ j < z_wl s oth by omega)] at this
      revert this
      repeat' split
      all_goals (intro z; cases z)
/-- the pieces from i, j on -/
def pcs (s : SH) (one oth hd : Nat) : Nat → Nat → Nat → List (Nat × Nat)
  | 0, _, _ => []
  | q + 1, i, j => match lb s one oth hd i j with
    | none => []
    | some (k, _, _) => if k < 4 then (0, chs k (lA s one hd i) (lB s oth hd j)) :: pcs s one oth hd q (i + 1) (j + 1) else if k = 4 then (1, lA s one hd i) :: pcs s one oth hd q (i + 1) j else (2, lB s oth hd j) :: pcs s one oth hd q i (j + 1)
