set_option maxRecDepth 100000
/-! ===== plain tools: what a function of the extraction comes to ===== -/
/-- x comes to something of which P holds -/
def Ev {α : Type} (x : Option α) (P : α → Prop) : Prop := ∃ v, x = some v ∧ P v
theorem ev_some {α : Type} {v : α} {P : α → Prop} (h : P v) : Ev (some v) P := ⟨v, rfl, h⟩
theorem ev_bind {α β : Type} {x : Option α} {f : α → Option β} {P : β → Prop} (h : Ev x (fun v => Ev (f v) P)) : Ev (x.bind f) P := by
  obtain ⟨v, hv, w, hw, hp⟩ := h
  exact ⟨w, by rw [hv]; exact hw, hp⟩
theorem ev_b2 {α β : Type} {x : Option (α × AH)} {f : α → AH → Option β} {P : β → Prop} (h : Ev x (fun p => Ev (f p.1 p.2) P)) : Ev (b2 x f) P := ev_bind h
theorem ev_mono {α : Type} {x : Option α} {P Q : α → Prop} (h : Ev x P) (k : ∀ v, P v → Q v) : Ev x Q := by
  obtain ⟨v, hv, hp⟩ := h
  exact ⟨v, hv, k v hp⟩
theorem ev_eq {α : Type} {x : Option α} {v : α} {P : α → Prop} (h : x = some v) (k : P v) : Ev x P := ⟨v, h, k⟩
theorem ev_loop {σ τ : Type} {b : σ → Option (σ ⊕ τ)} {P : τ → Prop} (I : σ → Prop) (μ : σ → Nat) (hb : ∀ s, I s → Ev (b s) (fun o => match o with | .inl s' => I s' ∧ μ s' < μ s | .inr z => P z)) : ∀ s, I s → Ev (loopC b s) P := by
  intro s hs
  generalize hm : μ s = m
  induction m using Nat.strongRecOn generalizing s with
  | ind m ih =>
    obtain ⟨o, ho, hp⟩ := hb s hs
    cases o with
    | inl s' =>
      rw [loopC_go ho]
      exact ih (μ s') (by have := hp.2; omega) s' hp.1 rfl
    | inr z => exact ⟨z, loopC_end ho, hp⟩
/-! numbers: every index as nI of a natural number -/
theorem n_add (a b : Nat) : nI a + nI b = nI (a + b) := by simp [nI, Int32.ofNat_add]
theorem n_mul (a b : Nat) : nI a * nI b = nI (a * b) := by simp [nI, Int32.ofNat_mul]
theorem n_toN {a : Nat} (h : a < 2 ^ 31) : (nI a).toNatClampNeg = a := Int32.toNatClampNeg_ofNat_of_lt h
theorem n_lt {a b : Nat} (ha : a < 2 ^ 31) (hb : b < 2 ^ 31) : nI a < nI b ↔ a < b := by
  exact Int32.ofNat_lt_ofNat ha hb
theorem n_neg {a : Nat} (ha : a < 2 ^ 31) : ¬ nI a < 0 := by
  intro h
  have := (n_lt (b := 0) ha (by decide)).mp h
  omega
theorem n_inj {a b : Nat} (ha : a < 2 ^ 31) (hb : b < 2 ^ 31) (h : nI a = nI b) : a = b := by
  have := congrArg Int32.toNatClampNeg h
  rwa [n_toN ha, n_toN hb] at this
theorem n_eq {a b : Nat} (ha : a < 2 ^ 31) (hb : b < 2 ^ 31) : nI a = nI b ↔ a = b := ⟨n_inj ha hb, fun h => by rw [h]⟩
