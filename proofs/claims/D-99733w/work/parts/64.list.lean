set_option maxRecDepth 100000
/-! ===== lists, strings: read ===== -/
/-- h' holds what h holds at all addresses of Q -/
def AgS (Q : Nat → Prop) (h h' : AH) : Prop := ∀ a, Q a → hK h' a = hK h a ∧ (∀ k, hI h' a k = hI h a k) ∧ (∀ k, hL h' a k = hL h a k) ∧ ∀ k, hR h' a k = hR h a k
theorem AgS.refl (Q : Nat → Prop) (h : AH) : AgS Q h h := fun _ _ => ⟨rfl, fun _ => rfl, fun _ => rfl, fun _ => rfl⟩
theorem AgS.trans {Q : Nat → Prop} {h h' h'' : AH} (A : AgS Q h h') (B : AgS Q h' h'') : AgS Q h h'' := fun a q =>
  ⟨(B a q).1.trans (A a q).1, fun k => ((B a q).2.1 k).trans ((A a q).2.1 k), fun k => ((B a q).2.2.1 k).trans ((A a q).2.2.1 k), fun k => ((B a q).2.2.2 k).trans ((A a q).2.2.2 k)⟩
theorem AgS.mono {Q Q' : Nat → Prop} {h h' : AH} (A : AgS Q h h') (q : ∀ a, Q' a → Q a) : AgS Q' h h' := fun a z => A a (q a z)
theorem FT.ag {P : Nat → Nat → Prop} {h h' : AH} (F : FT P h h') {Q : Nat → Prop} (q : ∀ a k, Q a → ¬ P a k) : AgS Q h h' := fun a z => ⟨by rw [F.1], fun k => F.i (q a k z), fun k => F.l (q a k z), fun k => by rw [F.2.1]⟩
/-- a list: its cell, how many, which -/
def AL (Q : Nat → Prop) (h : AH) (l n : Nat) (e : Nat → Nat) : Prop := ∃ arr cap, hK h l = (23, 0) ∧ hR h l 1 = some arr ∧ hI h l 2 = nI n ∧ hK h arr = (104, cap) ∧ n ≤ cap ∧ cap ≤ 100000 ∧ (∀ i, i < n → hR h arr i = some (e i)) ∧ Q l ∧ Q arr
/-- a text: its cell, how long, which letters -/
def STR (Q : Nat → Prop) (h : AH) (a n : Nat) (c : Nat → Nat) : Prop := ∃ v, hK h a = (24, 0) ∧ hR h a 0 = some v ∧ hI h a 1 = 0 ∧ hK h v = (101, n) ∧ n ≤ 100000 ∧ (∀ i, i < n → hI h v i = nI (c i) ∧ c i < 128) ∧ Q a ∧ Q v
theorem AL.ag {Q : Nat → Prop} {h h' : AH} {l n : Nat} {e : Nat → Nat} (A : AgS Q h h') (L : AL Q h l n e) : AL Q h' l n e := by
  obtain ⟨arr, cap, a1, a2, a3, a4, a5, a6, a7, q1, q2⟩ := L
  refine ⟨arr, cap, (A l q1).1.trans a1, ((A l q1).2.2.2 1).trans a2, ((A l q1).2.1 2).trans a3, (A arr q2).1.trans a4, a5, a6, fun i hi => ((A arr q2).2.2.2 i).trans (a7 i hi), q1, q2⟩
theorem STR.ag {Q : Nat → Prop} {h h' : AH} {a n : Nat} {c : Nat → Nat} (A : AgS Q h h') (L : STR Q h a n c) : STR Q h' a n c := by
  obtain ⟨v, a1, a2, a3, a4, a5, a6, q1, q2⟩ := L
  refine ⟨v, (A a q1).1.trans a1, ((A a q1).2.2.2 0).trans a2, ((A a q1).2.1 1).trans a3, (A v q2).1.trans a4, a5, fun i hi => ⟨((A v q2).2.1 i).trans (a6 i hi).1, (a6 i hi).2⟩, q1, q2⟩
theorem AL.mono {Q Q' : Nat → Prop} {h : AH} {l n : Nat} {e : Nat → Nat} (q : ∀ a, Q a → Q' a) (L : AL Q h l n e) : AL Q' h l n e := by
  obtain ⟨arr, cap, a1, a2, a3, a4, a5, a6, a7, q1, q2⟩ := L
  exact ⟨arr, cap, a1, a2, a3, a4, a5, a6, a7, q _ q1, q _ q2⟩
theorem STR.mono {Q Q' : Nat → Prop} {h : AH} {a n : Nat} {c : Nat → Nat} (q : ∀ a, Q a → Q' a) (L : STR Q h a n c) : STR Q' h a n c := by
  obtain ⟨v, a1, a2, a3, a4, a5, a6, q1, q2⟩ := L
  exact ⟨v, a1, a2, a3, a4, a5, a6, q _ q1, q _ q2⟩
theorem cst_e {L : List Nat} {a t l : Nat} {h : AH} (hk : hK h a = (t, l)) (ht : t ∈ L) (h1 : t < 100) : cst L (some a) h = some () := by
  simp only [cst, hk]
  rw [if_pos ⟨ht, fun z => by omega⟩]
section Lists
variable {h : AH} {Q : Nat → Prop}
theorem AL.k {l n : Nat} {e : Nat → Nat} (A : AL Q h l n e) : hK h l = (23, 0) := by obtain ⟨_, _, a, _⟩ := A; exact a
theorem AL.o {l n : Nat} {e : Nat → Nat} (A : AL Q h l n e) : isO 23 (some l) h = some l := isO_e A.k
theorem J_size {l n : Nat} {e : Nat → Nat} (A : AL Q h l n e) : J2_size l h = some (nI n, h) := by
  obtain ⟨arr, cap, a1, a2, a3, -⟩ := A
  rw [J2_size, gI_e a1, Option.bind_some, a3]
theorem J_chk {i n : Nat} (hi : i < n) (hn : n < 2147483648) (r : Option Nat) : J11_checkIndex (nI i) (nI n) r h = some (nI i, h) := by
  rw [J11_checkIndex, if_neg (n_neg (by omega)), if_pos ((nL0 (by omega) hn).mpr hi)]
theorem J_get {l n i : Nat} {e : Nat → Nat} (A : AL Q h l n e) (hi : i < n) : J2_get l (nI i) h = some (some (e i), h) := by
  obtain ⟨arr, cap, a1, a2, a3, a4, a5, a6, a7, -⟩ := A
  rw [J2_get, gI_e a1, Option.bind_some, a3, J13_checkIndex, J_chk hi (by omega), b2_some, b2_some, isO_e a1, Option.bind_some, J2_elementData, gR_e a1, Option.bind_some, a2, xR_e a4 (show i < cap by omega) (by omega), Option.bind_some, a7 i hi, b2_some]
theorem jshr_0 (x : Int32) : jshr x 0 = x := by
  unfold jshr
  apply Int32.toBitVec_inj.1
  rw [Int32.toBitVec_shiftRight]
  simp
theorem J_len {a n : Nat} {c : Nat → Nat} (S : STR Q h a n c) (h0 : hI h 120 0 = 1) : J9_length a h = some (nI n, h) := by
  obtain ⟨v, a1, a2, a3, a4, a5, -⟩ := S
  rw [J9_length, gR_e a1, Option.bind_some, a2, aln_e a4 (by decide) (by decide), Option.bind_some, isO_e a1, Option.bind_some, J9_coder, h0, if_neg (by decide), gI_e a1, Option.bind_some, a3, rz_0, b2_some, b2_some, jshr_0]
theorem chr_ok {c : Nat} (hc : c < 128) : ji2c (nI c &&& 255) = nI c ∧ nCh (nI c) = nI c := by
  have : ∀ c : Fin 128, ji2c (nI c.val &&& 255) = nI c.val ∧ nCh (nI c.val) = nI c.val := by decide
  exact this ⟨c, hc⟩
theorem J_char {a n i : Nat} {c : Nat → Nat} (S : STR Q h a n c) (h0 : hI h 120 0 = 1) (hi : i < n) : J9_charAt a (nI i) h = some (nI (c i), h) := by
  obtain ⟨v, a1, a2, a3, a4, a5, a6, -⟩ := S
  obtain ⟨b1, b2⟩ := a6 i hi
  obtain ⟨c1, c2⟩ := chr_ok b2
  have rc : rC (nI (c i)) h = some (nI (c i), h) := by rw [rC, if_pos c2]
  rw [J9_charAt, isO_e a1, Option.bind_some, J9_isLatin1, h0, if_neg (by decide), gI_e a1, Option.bind_some, a3, if_pos rfl, b2_some, if_neg (by decide), gR_e a1, Option.bind_some, a2, J12_charAt, aln_e a4 (by decide) (by decide), Option.bind_some, J9_checkIndex, J_chk hi (by omega), b2_some, Option.bind_some, xI_e a4 hi (by omega), Option.bind_some, b1, c1, rc, b2_some, b2_some, rc, b2_some]
end Lists
