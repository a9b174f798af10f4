set_option maxRecDepth 100000
/-! ===== plain tools 2: reads and writes as equations; numbers; loops ===== -/
theorem p_II (a k : Nat) (v : Int32) (h : AH) (x y : Nat) : hI (wI a k v h) x y = if x = a ∧ y = k then v else hI h x y := rfl
theorem p_KI (a k : Nat) (v : Int32) (h : AH) : hK (wI a k v h) = hK h := rfl
theorem p_LI (a k : Nat) (v : Int32) (h : AH) : hL (wI a k v h) = hL h := rfl
theorem p_RI (a k : Nat) (v : Int32) (h : AH) : hR (wI a k v h) = hR h := rfl
theorem p_nI (a k : Nat) (v : Int32) (h : AH) : hn (wI a k v h) = hn h := rfl
theorem p_sI (a k : Nat) (v : Int32) (h : AH) : hs (wI a k v h) = hs h := rfl
theorem p_LL (a k : Nat) (v : Int64) (h : AH) (x y : Nat) : hL (wL a k v h) x y = if x = a ∧ y = k then v else hL h x y := rfl
theorem p_KL (a k : Nat) (v : Int64) (h : AH) : hK (wL a k v h) = hK h := rfl
theorem p_IL (a k : Nat) (v : Int64) (h : AH) : hI (wL a k v h) = hI h := rfl
theorem p_RL (a k : Nat) (v : Int64) (h : AH) : hR (wL a k v h) = hR h := rfl
theorem p_nL (a k : Nat) (v : Int64) (h : AH) : hn (wL a k v h) = hn h := rfl
theorem p_sL (a k : Nat) (v : Int64) (h : AH) : hs (wL a k v h) = hs h := rfl
theorem p_RR (a k : Nat) (v : Option Nat) (h : AH) (x y : Nat) : hR (wR a k v h) x y = if x = a ∧ y = k then v else hR h x y := rfl
theorem p_KR (a k : Nat) (v : Option Nat) (h : AH) : hK (wR a k v h) = hK h := rfl
theorem p_IR (a k : Nat) (v : Option Nat) (h : AH) : hI (wR a k v h) = hI h := rfl
theorem p_LR (a k : Nat) (v : Option Nat) (h : AH) : hL (wR a k v h) = hL h := rfl
theorem p_nR (a k : Nat) (v : Option Nat) (h : AH) : hn (wR a k v h) = hn h := rfl
theorem p_sR (a k : Nat) (v : Option Nat) (h : AH) : hs (wR a k v h) = hs h := rfl
/-! Ev -/
theorem Ev_some {α : Type} {v : α} {P : α → Prop} : Ev (some v) P ↔ P v := ⟨fun ⟨_, e, p⟩ => by cases e; exact p, ev_some⟩
theorem Ev_bind {α β : Type} {x : Option α} {f : α → Option β} {P : β → Prop} : Ev (x.bind f) P ↔ Ev x (fun v => Ev (f v) P) := by
  constructor
  · rintro ⟨z, e, p⟩
    obtain ⟨v, e1, e2⟩ := ob e
    exact ⟨v, e1, z, e2, p⟩
  · exact ev_bind
theorem Ev_b2 {α β : Type} {x : Option (α × AH)} {f : α → AH → Option β} {P : β → Prop} : Ev (b2 x f) P ↔ Ev x (fun p => Ev (f p.1 p.2) P) := Ev_bind
theorem Ev_is {α : Type} {x : Option α} {v : α} : Ev x (fun z => z = v) ↔ x = some v := ⟨fun ⟨_, e, p⟩ => by rw [e, p], fun h => ⟨v, h, rfl⟩⟩
theorem Ev_of {α : Type} {x : Option α} {v : α} {P : α → Prop} (h : x = some v) (p : P v) : Ev x P := ⟨v, h, p⟩
theorem b2_some {α β : Type} (v : α) (h : AH) (f : α → AH → Option β) : b2 (some (v, h)) f = f v h := rfl
theorem bX_l {α β : Type} (v : α) (h : AH) (f : α → AH → Option β) (g : Nat → AH → Option β) : bX (some (.inl v, h)) f g = f v h := rfl
theorem bX_r {α β : Type} (b : Nat) (h : AH) (f : α → AH → Option β) (g : Nat → AH → Option β) : bX (some (.inr b, h)) f g = g b h := rfl
theorem Ev_bX {α β : Type} {x : Option ((α ⊕ Nat) × AH)} {f : α → AH → Option β} {g : Nat → AH → Option β} {P : β → Prop}
    (h : Ev x (fun p => match p.1 with | .inl v => Ev (f v p.2) P | .inr b => Ev (g b p.2) P)) : Ev (bX x f g) P := by
  obtain ⟨⟨w, h1⟩, e, p⟩ := h
  rw [e]
  cases w with
  | inl v => exact p
  | inr b => exact p
/-- a loop with a measure that need not be read off the state -/
theorem ev_wf {σ τ : Type} {b : σ → Option (σ ⊕ τ)} {P : τ → Prop} (I : Nat → σ → Prop)
    (hb : ∀ m s, I m s → Ev (b s) (fun o => match o with | .inl s' => ∃ m', m' < m ∧ I m' s' | .inr z => P z)) : ∀ (m : Nat) (s : σ), I m s → Ev (loopC b s) P := by
  intro m
  induction m using Nat.strongRecOn with
  | ind m ih =>
    intro s h
    obtain ⟨o, ho, hp⟩ := hb m s h
    cases o with
    | inl s' =>
      obtain ⟨m', hm, h'⟩ := hp
      rw [loopC_go ho]
      exact ih m' hm s' h'
    | inr z => exact ⟨z, loopC_end ho, hp⟩
/-- a loop that counts up to n, with exits -/
theorem ev_for {σ τ : Type} {b : σ → Option (σ ⊕ τ)} {P : τ → Prop} (n : Nat) (S : Nat → σ → Prop)
    (hs : ∀ k s, k < n → S k s → Ev (b s) (fun o => match o with | .inl s' => S (k + 1) s' | .inr z => P z))
    (he : ∀ s, S n s → Ev (b s) (fun o => match o with | .inl _ => False | .inr z => P z)) (k : Nat) (s : σ) (hk : k ≤ n) (h : S k s) : Ev (loopC b s) P := by
  refine ev_wf (I := fun m s => ∃ k, k + m = n ∧ S k s) ?_ (n - k) s ⟨k, by omega, h⟩
  rintro m s ⟨k, hkm, hS⟩
  rcases Nat.lt_or_ge k n with hl | hg
  · obtain ⟨o, ho, hp⟩ := hs k s hl hS
    refine ⟨o, ho, ?_⟩
    cases o with
    | inl s' => exact ⟨m - 1, by omega, k + 1, by omega, hp⟩
    | inr z => exact hp
  · have e : k = n := by omega
    subst e
    obtain ⟨o, ho, hp⟩ := he s hS
    refine ⟨o, ho, ?_⟩
    cases o with
    | inl s' => exact absurd hp (fun x => x)
    | inr z => exact hp
/-! numbers -/
theorem nA1 (a k : Nat) : nI a + no_index (OfNat.ofNat k) = nI (a + OfNat.ofNat k) := n_add a k
theorem nA2 (a k : Nat) : no_index (OfNat.ofNat k) + nI a = nI (OfNat.ofNat k + a) := n_add k a
theorem nM1 (a k : Nat) : nI a * no_index (OfNat.ofNat k) = nI (a * OfNat.ofNat k) := n_mul a k
theorem nM2 (a k : Nat) : no_index (OfNat.ofNat k) * nI a = nI (OfNat.ofNat k * a) := n_mul k a
theorem n_sub {a b : Nat} (h : b ≤ a) : nI a - nI b = nI (a - b) := (Int32.ofNat_sub a b h).symm
theorem nS1 {a k : Nat} (h : (OfNat.ofNat k : Nat) ≤ a) : nI a - no_index (OfNat.ofNat k) = nI (a - OfNat.ofNat k) := n_sub h
theorem nS2 {a k : Nat} (h : a ≤ (OfNat.ofNat k : Nat)) : no_index (OfNat.ofNat k) - nI a = nI (OfNat.ofNat k - a) := n_sub h
theorem nL0 {a b : Nat} (ha : a < 2147483648) (hb : b < 2147483648) : nI a < nI b ↔ a < b := n_lt ha hb
theorem nL1 {a k : Nat} (ha : a < 2147483648) (hb : (OfNat.ofNat k : Nat) < 2147483648) : nI a < no_index (OfNat.ofNat k) ↔ a < OfNat.ofNat k := n_lt ha hb
theorem nL2 {a k : Nat} (ha : a < 2147483648) (hb : (OfNat.ofNat k : Nat) < 2147483648) : no_index (OfNat.ofNat k) < nI a ↔ OfNat.ofNat k < a := n_lt hb ha
theorem nE0 {a b : Nat} (ha : a < 2147483648) (hb : b < 2147483648) : nI a = nI b ↔ a = b := n_eq ha hb
theorem nE1 {a k : Nat} (ha : a < 2147483648) (hb : (OfNat.ofNat k : Nat) < 2147483648) : nI a = no_index (OfNat.ofNat k) ↔ a = OfNat.ofNat k := n_eq ha hb
theorem n_ge0 {a : Nat} (ha : a < 2147483648) : (0 : Int) ≤ (nI a).toInt := by rw [nI, Int32.toInt_ofNat_of_lt ha]; omega
theorem n_int {n : Nat} (h : n < 2147483648) : (nI n).toInt = n := Int32.toInt_ofNat_of_lt h
theorem nE2 {a : Nat} (ha : a < 2147483648) : (nI a = -1) = False := by
  refine eq_false (fun h => ?_)
  have := n_ge0 ha
  rw [h] at this
  exact absurd this (by decide)
theorem nE3 {a : Nat} (ha : a < 2147483648) : (-1 = nI a) = False := eq_false (fun h => Eq.mp (nE2 ha) h.symm)
theorem n_m1lt : (-1 : Int32) < 0 := by decide
/-! the first of n at which p holds -/
def fnd (p : Nat → Bool) : Nat → Nat → Nat
  | k, 0 => k
  | k, f + 1 => if p k then k else fnd p (k + 1) f
theorem fnd_miss {p : Nat → Bool} : ∀ (f k : Nat), (∀ j, k ≤ j → j < k + f → p j = false) → fnd p k f = k + f
  | 0, k, _ => rfl
  | f + 1, k, h => by
    rw [fnd, if_neg (by rw [h k (by omega) (by omega)]; decide), fnd_miss f (k + 1) (fun j h1 h2 => h j (by omega) (by omega))]
    omega
theorem fnd_hit {p : Nat → Bool} : ∀ (f k r : Nat), k ≤ r → r < k + f → p r = true → (∀ j, k ≤ j → j < r → p j = false) → fnd p k f = r
  | 0, k, r, h1, h2, _, _ => by omega
  | f + 1, k, r, h1, h2, hp, h => by
    rw [fnd]
    by_cases hk : k = r
    · subst hk; rw [if_pos hp]
    · rw [if_neg (by rw [h k (by omega) (by omega)]; decide)]
      exact fnd_hit f (k + 1) r (by omega) (by omega) hp (fun j h3 h4 => h j (by omega) h4)
theorem fnd_le {p : Nat → Bool} : ∀ (f k : Nat), fnd p k f ≤ k + f
  | 0, k => Nat.le_refl _
  | f + 1, k => by
    rw [fnd]
    split
    · omega
    · have := fnd_le (p := p) f (k + 1); omega
theorem fnd_ok {p : Nat → Bool} : ∀ (f k : Nat), fnd p k f < k + f → p (fnd p k f) = true
  | 0, k, h => by rw [fnd] at h; omega
  | f + 1, k, h => by
    rw [fnd] at h ⊢
    split
    · assumption
    · rename_i hk
      rw [if_neg hk] at h
      exact fnd_ok f (k + 1) (by omega)
def fndI (n : Nat) (p : Nat → Bool) : Int32 := if fnd p 0 n < n then nI (fnd p 0 n) else -1
theorem fndI_hit {n r : Nat} {p : Nat → Bool} (h : r < n) (hp : p r = true) (hj : ∀ j, j < r → p j = false) : fndI n p = nI r := by
  have e := fnd_hit (p := p) n 0 r (by omega) (by omega) hp (fun j _ h2 => hj j h2)
  rw [fndI, e, if_pos h]
theorem fndI_miss {n : Nat} {p : Nat → Bool} (hj : ∀ j, j < n → p j = false) : fndI n p = -1 := by
  have e := fnd_miss (p := p) n 0 (fun j _ h2 => hj j (by omega))
  rw [fndI, e, if_neg (by omega)]
theorem fndI_ne {n : Nat} {p : Nat → Bool} (h : fndI n p ≠ -1) : fnd p 0 n < n ∧ p (fnd p 0 n) = true ∧ fndI n p = nI (fnd p 0 n) := by
  rw [fndI] at h ⊢
  split at h
  · rename_i hl
    exact ⟨hl, fnd_ok n 0 (by omega), by rw [if_pos hl]⟩
  · exact absurd rfl h
theorem fnd_lt {p : Nat → Bool} : ∀ (f k r : Nat), k ≤ r → r < k + f → p r = true → fnd p k f ≤ r
  | 0, k, r, h1, h2, _ => by omega
  | f + 1, k, r, h1, h2, hp => by
    rw [fnd]
    split
    · exact h1
    · rename_i hk
      have hne : k ≠ r := fun e => hk (by rw [e]; exact hp)
      exact fnd_lt f (k + 1) r (by omega) (by omega) hp
theorem fndI_ex {n r : Nat} {p : Nat → Bool} (h : r < n) (hp : p r = true) : fnd p 0 n < n ∧ p (fnd p 0 n) = true ∧ fndI n p = nI (fnd p 0 n) := by
  have hl := fnd_lt (p := p) n 0 r (by omega) (by omega) hp
  have h2 : fnd p 0 n < n := by omega
  exact ⟨h2, fnd_ok n 0 (by omega), by rw [fndI, if_pos h2]⟩
theorem fndI_congr {n : Nat} {p q : Nat → Bool} (h : ∀ j, j < n → p j = q j) : fndI n p = fndI n q := by
  have hf : ∀ (f k : Nat), k + f = n → fnd p k f = fnd q k f := by
    intro f
    induction f with
    | zero => intro k _; rfl
    | succ f ih =>
      intro k hk
      rw [fnd, fnd, h k (by omega), ih (k + 1) (by omega)]
  rw [fndI, fndI, hf n 0 (by omega)]
/-! n times -/
def itr {α : Type} (f : Nat → α → α) : Nat → α → α
  | 0, a => a
  | n + 1, a => f n (itr f n a)
/-! every one of n -/
def alln (p : Nat → Bool) : Nat → Bool
  | 0 => true
  | n + 1 => alln p n && p n
theorem alln_iff {p : Nat → Bool} : ∀ n : Nat, alln p n = true ↔ ∀ k, k < n → p k = true
  | 0 => by simp [alln]
  | n + 1 => by
    rw [alln, Bool.and_eq_true, alln_iff n]
    constructor
    · rintro ⟨h1, h2⟩ k hk
      rcases Nat.lt_or_ge k n with q | q
      · exact h1 k q
      · have : k = n := by omega
        rw [this]; exact h2
    · intro h
      exact ⟨fun k hk => h k (by omega), h n (by omega)⟩
theorem alln_no {p : Nat → Bool} {n k : Nat} (hk : k < n) (h : p k = false) : alln p n = false := by
  cases e : alln p n with
  | false => rfl
  | true => rw [(alln_iff n).mp e k hk] at h; cases h
/-- a truth value as an int -/
def bI (b : Bool) : Int32 := if b then 1 else 0
theorem bI_0 (b : Bool) : (bI b = 0) = (b = false) := by cases b <;> simp [bI]
theorem bI_1 (b : Bool) : (bI b = 1) = (b = true) := by cases b <;> simp [bI]
theorem bI_01 (b : Bool) : bI b = 0 ∨ bI b = 1 := by cases b <;> simp [bI]
theorem bI_m (b : Bool) : (bI b = -1) = False := by cases b <;> simp [bI]
/-! arrays and fields whose kind is known -/
theorem xI_e {t a L n : Nat} {h : AH} (hk : hK h a = (t, L)) (hn : n < L) (hB : L ≤ 2147483647) : xI t (some a) (nI n) h = some (hI h a n) := by
  have e := n_toN (a := n) (by omega)
  simp only [xI, hk, e]
  rw [if_pos ⟨trivial, n_neg (by omega), hn⟩]
theorem xL_e {t a L n : Nat} {h : AH} (hk : hK h a = (t, L)) (hn : n < L) (hB : L ≤ 2147483647) : xL t (some a) (nI n) h = some (hL h a n) := by
  have e := n_toN (a := n) (by omega)
  simp only [xL, hk, e]
  rw [if_pos ⟨trivial, n_neg (by omega), hn⟩]
theorem xR_e {t a L n : Nat} {h : AH} (hk : hK h a = (t, L)) (hn : n < L) (hB : L ≤ 2147483647) : xR t (some a) (nI n) h = some (hR h a n) := by
  have e := n_toN (a := n) (by omega)
  simp only [xR, hk, e]
  rw [if_pos ⟨trivial, n_neg (by omega), hn⟩]
theorem sI_e {t a L n : Nat} {v : Int32} {h : AH} (hk : hK h a = (t, L)) (ha : NC ≤ a) (hn : n < L) (hB : L ≤ 2147483647) : sI t (some a) (nI n) v h = some (wI a n v h) := by
  have e := n_toN (a := n) (by omega)
  simp only [sI, hk, e]
  rw [if_pos ⟨trivial, ha, n_neg (by omega), hn⟩]
theorem sL_e {t a L n : Nat} {v : Int64} {h : AH} (hk : hK h a = (t, L)) (ha : NC ≤ a) (hn : n < L) (hB : L ≤ 2147483647) : sL t (some a) (nI n) v h = some (wL a n v h) := by
  have e := n_toN (a := n) (by omega)
  simp only [sL, hk, e]
  rw [if_pos ⟨trivial, ha, n_neg (by omega), hn⟩]
theorem gI_e {t k a L : Nat} {h : AH} (hk : hK h a = (t, L)) : gI t k (some a) h = some (hI h a k) := by simp only [gI, hk, if_true]
theorem gL_e {t k a L : Nat} {h : AH} (hk : hK h a = (t, L)) : gL t k (some a) h = some (hL h a k) := by simp only [gL, hk, if_true]
theorem gR_e {t k a L : Nat} {h : AH} (hk : hK h a = (t, L)) : gR t k (some a) h = some (hR h a k) := by simp only [gR, hk, if_true]
theorem pI_e {t k a L : Nat} {v : Int32} {h : AH} (hk : hK h a = (t, L)) (ha : NC ≤ a) : pI t k (some a) v h = some (wI a k v h) := by
  simp only [pI, hk]
  rw [if_pos ⟨trivial, ha⟩]
theorem pZ_e {t k a L : Nat} {v : Int32} {h : AH} (hk : hK h a = (t, L)) (ha : NC ≤ a) (hv : v = 0 ∨ v = 1) : pZ t k (some a) v h = some (wI a k v h) := by
  simp only [pZ, hk]
  rw [if_pos ⟨trivial, ha, hv⟩]
theorem pL_e {t k a L : Nat} {v : Int64} {h : AH} (hk : hK h a = (t, L)) (ha : NC ≤ a) : pL t k (some a) v h = some (wL a k v h) := by
  simp only [pL, hk]
  rw [if_pos ⟨trivial, ha⟩]
theorem pR_e {t k a L : Nat} {v : Option Nat} {h : AH} (hk : hK h a = (t, L)) (ha : NC ≤ a) : pR t k (some a) v h = some (wR a k v h) := by
  simp only [pR, hk]
  rw [if_pos ⟨trivial, ha⟩]
theorem isO_e {t a L : Nat} {h : AH} (hk : hK h a = (t, L)) : isO t (some a) h = some a := by simp only [isO, hk, if_true]
theorem aln_e {t a L : Nat} {h : AH} (hk : hK h a = (t, L)) (h1 : 100 ≤ t) (h2 : t ≤ 107) : aln (some a) h = some (nI L) := by
  simp only [aln, hk]
  rw [if_pos ⟨h1, h2⟩]
theorem nn_e (a : Nat) : nn (some a) = some a := rfl
theorem rz_e {v : Int32} {h : AH} (hv : v = 0 ∨ v = 1) : rz v h = some (v, h) := by rw [rz, if_pos hv]
theorem rz_b (b : Bool) (h : AH) : rz (bI b) h = some (bI b, h) := rz_e (bI_01 b)
theorem rz_0 (h : AH) : rz 0 h = some (0, h) := rz_e (Or.inl rfl)
theorem rz_1 (h : AH) : rz 1 h = some (1, h) := rz_e (Or.inr rfl)
theorem nz_e {v : Int32} (hv : v ≠ 0) : nz v = some () := by rw [nz, if_neg hv]
theorem nzL_e {v : Int64} (hv : v ≠ 0) : nzL v = some () := by rw [nzL, if_neg hv]
