set_option maxRecDepth 100000
/-! ===== the class's shop ===== -/
/-- the moment that doubt and rain are asked at -/
def MOM (h : AH) (e : ENV) (a b : Nat) : Prop := hK h 143 = (4, 0) ∧ hR h 143 0 = some 144 ∧ hK h 144 = (103, 10) ∧ ∀ k, a ≤ k → k < b → hL h 144 k = iL (e.1 k) ∧ rng (e.1 k)
/-- a sum of a shop tells as its codes do -/
def DVd (va : VaT) (Q : Nat → Prop) (h : AH) (d : Nat) (L : List Nat) : Prop := ∀ h' e, AgS Q h h' → MOM h' e 0 3 → va (some d) (some 143) h' = some (iL (evl e L), h')
def DVr (th : ThT) (Q : Nat → Prop) (h : AH) (d : Nat) (L : List Nat) : Prop := ∀ h' e, AgS Q h h' → MOM h' e 3 8 → th (some d) (some 143) h' = some (bI (decide (evl e L = 1)), h')
def CDD (va : VaT) (Q : Nat → Prop) (h : AH) (r : Option Nat) (c : Option (List Nat)) : Prop := match c with
  | none => r = none
  | some L => ∃ d, r = some d ∧ DVd va Q h d L
def CDR (th : ThT) (Q : Nat → Prop) (h : AH) (r : Option Nat) (c : Option (List Nat)) : Prop := match c with
  | none => r = none
  | some L => ∃ d, r = some d ∧ DVr th Q h d L
/-- letters of the hands -/
def CLT (Q : Nat → Prop) (h : AH) (L : Nat) (s : SH) : Prop := ∃ (ll : Nat → Nat) (le : Nat → Nat → Nat), AL Q h L 2 ll ∧ ∀ hd, hd < 2 → AL Q h (ll hd) (z_nl s hd) (le hd) ∧ ∀ k, k < z_nl s hd → hK h (le hd k) = (8, 0) ∧ Q (le hd k) ∧ hI h (le hd k) 0 = nI (z_lw s hd k) ∧ hI h (le hd k) 1 = nI (z_lg s hd k)
/-- a word's cell -/
def CW1 (Q : Nat → Prop) (h : AH) (o : Nat) (n : Nat) (c : Nat → Nat) : Prop := ∃ st, hK h o = (9, 0) ∧ Q o ∧ hR h o 0 = some st ∧ STR Q h st n (fun k => c k + 96)
def CWD (Q : Nat → Prop) (h : AH) (L : Nat) (s : SH) : Prop := ∃ we, AL Q h L (z_nw s) we ∧ ∀ w, w < z_nw s → CW1 Q h (we w) (z_wl s w) (z_wc s w)
def CSH (va : VaT) (th : ThT) (Q : Nat → Prop) (h : AH) (sp : Nat) (s : SH) : Prop := (hK h sp = (1, 0) ∧ Q sp) ∧ (hI h sp 1 = nI (z_fg s) ∧ hI h sp 2 = nI (z_bk s) ∧ hI h sp 3 = nI (z_hl s)) ∧
  (∃ L, hR h sp 4 = some L ∧ CLT Q h L s) ∧ (∃ L, hR h sp 5 = some L ∧ CWD Q h L s) ∧ (∃ L e, hR h sp 6 = some L ∧ AL Q h L (z_nb s) e) ∧ CDD va Q h (hR h sp 7) (z_dc s) ∧ CDR th Q h (hR h sp 8) (z_rc s)
theorem CLT.ag {Q : Nat → Prop} {h h' : AH} {L : Nat} {s : SH} (A : AgS Q h h') (C : CLT Q h L s) : CLT Q h' L s := by
  obtain ⟨ll, le, a, b⟩ := C
  refine ⟨ll, le, a.ag A, fun hd q => ⟨(b hd q).1.ag A, fun k hk => ?_⟩⟩
  obtain ⟨c1, c2, c3, c4⟩ := (b hd q).2 k hk
  exact ⟨(A _ c2).1.trans c1, c2, ((A _ c2).2.1 0).trans c3, ((A _ c2).2.1 1).trans c4⟩
theorem CW1.ag {Q : Nat → Prop} {h h' : AH} {o n : Nat} {c : Nat → Nat} (A : AgS Q h h') (C : CW1 Q h o n c) : CW1 Q h' o n c := by
  obtain ⟨st, a, b, c, d⟩ := C
  exact ⟨st, (A _ b).1.trans a, b, ((A _ b).2.2.2 0).trans c, d.ag A⟩
theorem CWD.ag {Q : Nat → Prop} {h h' : AH} {L : Nat} {s : SH} (A : AgS Q h h') (C : CWD Q h L s) : CWD Q h' L s := by
  obtain ⟨we, a, b⟩ := C
  exact ⟨we, a.ag A, fun w q => (b w q).ag A⟩
theorem CDD.ag {va : VaT} {Q : Nat → Prop} {h h' : AH} {r : Option Nat} {c : Option (List Nat)} (A : AgS Q h h') (C : CDD va Q h r c) : CDD va Q h' r c := by
  cases c with
  | none => exact C
  | some L => obtain ⟨d, e, f⟩ := C; exact ⟨d, e, fun h2 e2 B m => f h2 e2 (A.trans B) m⟩
theorem CDR.ag {th : ThT} {Q : Nat → Prop} {h h' : AH} {r : Option Nat} {c : Option (List Nat)} (A : AgS Q h h') (C : CDR th Q h r c) : CDR th Q h' r c := by
  cases c with
  | none => exact C
  | some L => obtain ⟨d, e, f⟩ := C; exact ⟨d, e, fun h2 e2 B m => f h2 e2 (A.trans B) m⟩
theorem CSH.ag {va : VaT} {th : ThT} {Q : Nat → Prop} {h h' : AH} {sp : Nat} {s : SH} (A : AgS Q h h') (C : CSH va th Q h sp s) : CSH va th Q h' sp s := by
  obtain ⟨⟨a1, a2⟩, ⟨b1, b2, b3⟩, ⟨L1, c1, c2⟩, ⟨L2, d1, d2⟩, ⟨L3, e, e1, e2⟩, f1, f2⟩ := C
  have B := A sp a2
  refine ⟨⟨B.1.trans a1, a2⟩, ⟨(B.2.1 1).trans b1, (B.2.1 2).trans b2, (B.2.1 3).trans b3⟩, ⟨L1, (B.2.2.2 4).trans c1, c2.ag A⟩, ⟨L2, (B.2.2.2 5).trans d1, d2.ag A⟩, ⟨L3, e, (B.2.2.2 6).trans e1, e2.ag A⟩, ?_, ?_⟩
  · rw [B.2.2.2 7]; exact f1.ag A
  · rw [B.2.2.2 8]; exact f2.ag A
/-- what the class's methods rest on -/
def CB (va : VaT) (th : ThT) (Q : Nat → Prop) (h : AH) (sp : Nat) (s : SH) : Prop := CKK (hK h) (hR h) ∧ hI h 120 0 = 1 ∧ hR h 128 0 = some sp ∧ CSH va th Q h sp s
section CShop
variable {va : VaT} {th : ThT} {Q : Nat → Prop} {h : AH} {sp : Nat} {s : SH}
theorem CLT.sz {L hd : Nat} (C : CLT Q h L s) (h1 : hd < 2) : ∃ l e, J2_get L (nI hd) h = some (some l, h) ∧ hK h l = (23, 0) ∧ J2_size l h = some (nI (z_nl s hd), h) ∧ AL Q h l (z_nl s hd) e ∧ ∀ k, k < z_nl s hd → hK h (e k) = (8, 0) ∧ Q (e k) ∧ hI h (e k) 0 = nI (z_lw s hd k) ∧ hI h (e k) 1 = nI (z_lg s hd k) := by
  obtain ⟨ll, le, a, b⟩ := C
  obtain ⟨b1, b2⟩ := b hd h1
  exact ⟨ll hd, le hd, J_get a h1, b1.k, J_size b1, b1, b2⟩
theorem C_sletter (F : WFS s) (C : CSH va th Q h sp s) {hd c : Nat} (h1 : hd < 2) (hc : c < 1000) : X1_letter sp (nI hd) (nI c) h = some (la s hd c, h) := by
  obtain ⟨⟨a1, -⟩, -, ⟨L, c1, c2⟩, -⟩ := C
  have Lk : hK h L = (23, 0) := by obtain ⟨_, _, x, _⟩ := c2; exact x.k
  obtain ⟨l, e, g1, g2, g3, g4, g5⟩ := c2.sz h1
  have qn := F.1 hd h1
  rw [X1_letter, gR_e a1, Option.bind_some, c1, isO_e Lk, Option.bind_some, b2_of g1, cst_e g2 (by decide) (by decide), Option.bind_some, X1_letter_17, ← Ev_is]
  refine ev_for (z_nl s hd) (fun k st => st = (nI k, h) ∧ ∀ j, j < k → (z_lw s hd j == c) = false) ?_ ?_ 0 _ (Nat.zero_le _) ⟨rfl, fun j hj => absurd hj (Nat.not_lt_zero _)⟩
  · rintro k _ hk ⟨rfl, hj⟩
    obtain ⟨o1, -, o3, -⟩ := g5 k hk
    have r := F.2.1 hd k h1 hk
    have oc : cst [8] (some (e k)) h = some () := cst_e o1 (by decide) (by decide)
    have og : gI 8 0 (some (e k)) h = some (nI (z_lw s hd k)) := by rw [gI_e o1, o3]
    simp (disch := first | assumption | ((repeat (first | with_reducible refine TKI ?_ | with_reducible refine TKL ?_ | with_reducible refine CKI ?_ | with_reducible refine CKL ?_)); assumption) | omega) only [X1_letter_17b, ↓Option.bind_some, ↓b2_some, ↓bX_l, ↓bX_r, Option.bind_some, Option.bind_none, b2_some, bX_l, bX_r, nn_e, if_true, if_false, reduceCtorEq, ↓reduceIte, Nat.reduceEqDiff, Nat.reduceLT, Nat.reduceLeDiff, Nat.reduceSubDiff, Nat.reduceAdd, Nat.reduceMul, nA1, nA2, nM1, nM2, n_add, n_mul, n_sub, nS1, nS2, nL0, nL1, nL2, nE0, nE1, nE2, nE3, bI_0, bI_1, bI_m, rz_b, rz_0, rz_1, ↓bd_of (isO_e g2), ↓b2_of g3, hk, ↓b2_of (J_get g4 hk), ↓bd_of oc, ↓bd_of og]
    by_cases q : z_lw s hd k = c
    · rw [if_pos q, Ev_some]
      exact Prod.ext (fndI_hit hk (by simp [q]) hj).symm rfl
    · rw [if_neg q, Ev_some]
      refine ⟨rfl, fun j h2 => ?_⟩
      rcases Nat.lt_or_ge j k with z | z
      · exact hj j z
      · have : j = k := by omega
        subst this
        simpa using q
  · rintro _ ⟨rfl, hj⟩
    simp (disch := first | assumption | ((repeat (first | with_reducible refine TKI ?_ | with_reducible refine TKL ?_ | with_reducible refine CKI ?_ | with_reducible refine CKL ?_)); assumption) | omega) only [X1_letter_17b, ↓Option.bind_some, ↓b2_some, ↓bX_l, ↓bX_r, Option.bind_some, Option.bind_none, b2_some, bX_l, bX_r, nn_e, if_true, if_false, reduceCtorEq, ↓reduceIte, Nat.reduceEqDiff, Nat.reduceLT, Nat.reduceLeDiff, Nat.reduceSubDiff, Nat.reduceAdd, Nat.reduceMul, nA1, nA2, nM1, nM2, n_add, n_mul, n_sub, nS1, nS2, nL0, nL1, nL2, nE0, nE1, nE2, nE3, bI_0, bI_1, bI_m, rz_b, rz_0, rz_1, ↓bd_of (isO_e g2), ↓b2_of g3, Nat.lt_irrefl]
    rw [Ev_some]
    exact Prod.ext (fndI_miss hj).symm rfl
theorem CW1.sz {o n : Nat} {c : Nat → Nat} (C : CW1 Q h o n c) (h0 : hI h 120 0 = 1) : X9_size o h = some (nI n, h) := by
  obtain ⟨st, a, b, c, d⟩ := C
  have dk : hK h st = (24, 0) := by obtain ⟨_, x, _⟩ := d; exact x
  rw [X9_size, gR_e a, Option.bind_some, c, isO_e dk, Option.bind_some, b2_of (J_len d h0)]
theorem CW1.at {o n k : Nat} {c : Nat → Nat} (C : CW1 Q h o n c) (h0 : hI h 120 0 = 1) (hk : k < 100000) (hc : ∀ j, j < n → 1 ≤ c j) : X9_at o (nI k) h = some (if k < n then nI (c k) else 0, h) := by
  obtain ⟨st, a, b, c', d⟩ := C
  have dk : hK h st = (24, 0) := by obtain ⟨_, x, _⟩ := d; exact x
  have dn : n ≤ 100000 := by obtain ⟨_, _, _, _, _, x, _⟩ := d; exact x
  have og : gR 9 0 (some o) h = some (some st) := by rw [gR_e a, c']
  simp (disch := first | assumption | ((repeat (first | with_reducible refine TKI ?_ | with_reducible refine TKL ?_ | with_reducible refine CKI ?_ | with_reducible refine CKL ?_)); assumption) | omega) only [X9_at, ↓Option.bind_some, ↓b2_some, ↓bX_l, ↓bX_r, Option.bind_some, Option.bind_none, b2_some, bX_l, bX_r, nn_e, if_true, if_false, reduceCtorEq, ↓reduceIte, Nat.reduceEqDiff, Nat.reduceLT, Nat.reduceLeDiff, Nat.reduceSubDiff, Nat.reduceAdd, Nat.reduceMul, nA1, nA2, nM1, nM2, n_add, n_mul, n_sub, nS1, nS2, nL0, nL1, nL2, nE0, nE1, nE2, nE3, bI_0, bI_1, bI_m, rz_b, rz_0, rz_1, ↓bd_of og, ↓bd_of (isO_e dk), ↓b2_of (J_len d h0)]
  by_cases q : k < n
  · rw [if_pos q, if_pos q, b2_of (J_char d h0 q)]
    have := hc k q
    rw [nS1 (show (OfNat.ofNat 97 : Nat) ≤ c k + 96 by show 97 ≤ c k + 96; omega), nA1]
    exact congrArg (fun x => some (nI x, h)) (by show c k + 96 - 97 + 1 = c k; omega)
  · rw [if_neg q, if_neg q]
theorem CWD.w {L w : Nat} (C : CWD Q h L s) (hw : w < z_nw s) : ∃ o, J2_get L (nI w) h = some (some o, h) ∧ hK h o = (9, 0) ∧ CW1 Q h o (z_wl s w) (z_wc s w) := by
  obtain ⟨we, a, b⟩ := C
  have c := b w hw
  exact ⟨we w, J_get a hw, by obtain ⟨_, x, _⟩ := c; exact x, c⟩
theorem C_isIn (F : WFS s) (C : CSH va th Q h sp s) (h0 : hI h 120 0 = 1) {hd w o : Nat} (h1 : hd < 2) (hw : w < z_nw s) (ok : hK h o = (9, 0)) (O : CW1 Q h o (z_wl s w) (z_wc s w)) : X1_isIn sp (nI hd) (some o) h = some (bI (cp s w hd), h) := by
  obtain ⟨w1, w2, w3, -⟩ := F.2.2.2.1 w hw
  have spk := C.1.1
  rw [X1_isIn, X1_isIn_2, ← Ev_is]
  refine ev_for (z_wl s w) (fun k st => st = (nI k, h) ∧ ∀ j, j < k → la s hd (z_wc s w j) ≠ -1) ?_ ?_ 0 _ (Nat.zero_le _) ⟨rfl, fun j hj => absurd hj (Nat.not_lt_zero _)⟩
  · rintro k _ hk ⟨rfl, hj⟩
    have r := w3 k hk
    have ta := O.at h0 (k := k) (by omega) (fun j hj => (w3 j hj).1)
    rw [if_pos hk] at ta
    simp (disch := first | assumption | ((repeat (first | with_reducible refine TKI ?_ | with_reducible refine TKL ?_ | with_reducible refine CKI ?_ | with_reducible refine CKL ?_)); assumption) | omega) only [X1_isIn_2b, ↓Option.bind_some, ↓b2_some, ↓bX_l, ↓bX_r, Option.bind_some, Option.bind_none, b2_some, bX_l, bX_r, nn_e, if_true, if_false, reduceCtorEq, ↓reduceIte, Nat.reduceEqDiff, Nat.reduceLT, Nat.reduceLeDiff, Nat.reduceSubDiff, Nat.reduceAdd, Nat.reduceMul, nA1, nA2, nM1, nM2, n_add, n_mul, n_sub, nS1, nS2, nL0, nL1, nL2, nE0, nE1, nE2, nE3, bI_0, bI_1, bI_m, rz_b, rz_0, rz_1, ↓bd_of (isO_e ok), ↓b2_of (O.sz h0), hk, ↓b2_of ta, ↓bd_of (isO_e spk), ↓b2_of (C_sletter F C h1 (show z_wc s w k < 1000 by omega))]
    by_cases e : la s hd (z_wc s w k) = -1
    · rw [if_pos e, Ev_some]
      refine Prod.ext ?_ rfl
      rw [cp, alln_no hk (by simp [e])]
      rfl
    · rw [if_neg e, Ev_some]
      refine ⟨rfl, fun j h3 => ?_⟩
      rcases Nat.lt_or_ge j k with z | z
      · exact hj j z
      · have : j = k := by omega
        subst this
        exact e
  · rintro _ ⟨rfl, hj⟩
    simp (disch := first | assumption | ((repeat (first | with_reducible refine TKI ?_ | with_reducible refine TKL ?_ | with_reducible refine CKI ?_ | with_reducible refine CKL ?_)); assumption) | omega) only [X1_isIn_2b, ↓Option.bind_some, ↓b2_some, ↓bX_l, ↓bX_r, Option.bind_some, Option.bind_none, b2_some, bX_l, bX_r, nn_e, if_true, if_false, reduceCtorEq, ↓reduceIte, Nat.reduceEqDiff, Nat.reduceLT, Nat.reduceLeDiff, Nat.reduceSubDiff, Nat.reduceAdd, Nat.reduceMul, nA1, nA2, nM1, nM2, n_add, n_mul, n_sub, nS1, nS2, nL0, nL1, nL2, nE0, nE1, nE2, nE3, bI_0, bI_1, bI_m, rz_b, rz_0, rz_1, ↓bd_of (isO_e ok), ↓b2_of (O.sz h0), Nat.lt_irrefl]
    rw [Ev_some]
    refine Prod.ext ?_ rfl
    rw [cp, (alln_iff _).mpr (fun k hk => by simpa using hj k hk)]
    rfl
theorem C_sglyph (F : WFS s) (C : CSH va th Q h sp s) (h0 : hI h 120 0 = 1) {hd w k : Nat} (h1 : hd < 2) (hw : w < z_nw s) (hk : k < z_wl s w) (hi : isn s hd (z_wc s w k)) : X1_glyph sp (nI hd) (nI w) (nI k) h = some (nI (gl s hd (z_wc s w k)), h) := by
  have CC := C
  obtain ⟨⟨a1, -⟩, -, ⟨L, c1, c2⟩, ⟨M, d1, d2⟩, -⟩ := C
  have Lk : hK h L = (23, 0) := by obtain ⟨_, _, x, _⟩ := c2; exact x.k
  have Mk : hK h M = (23, 0) := by obtain ⟨_, x, _⟩ := d2; exact x.k
  obtain ⟨l, e, g1, g2, g3, g4, g5⟩ := c2.sz h1
  obtain ⟨o, o1, o2, o3⟩ := d2.w hw
  obtain ⟨w1, w2, w3, -⟩ := F.2.2.2.1 w hw
  have r := w3 k hk
  have li := la_in hi
  have ta := o3.at h0 (k := k) (by omega) (fun j hj => (w3 j hj).1)
  rw [if_pos hk] at ta
  have tl := C_sletter F CC h1 (show z_wc s w k < 1000 by omega)
  rw [li.2.2] at tl
  obtain ⟨p1, -, -, p4⟩ := g5 _ li.1
  rw [X1_glyph, gR_e a1, Option.bind_some, c1, isO_e Lk, Option.bind_some, b2_of g1, cst_e g2 (by decide) (by decide), Option.bind_some, gR_e a1, Option.bind_some, d1, isO_e Mk, Option.bind_some, b2_of o1, cst_e o2 (by decide) (by decide), Option.bind_some, isO_e o2, Option.bind_some, b2_of ta, isO_e a1, Option.bind_some, b2_of tl, isO_e g2, Option.bind_some, b2_of (J_get g4 li.1), cst_e p1 (by decide) (by decide), Option.bind_some, gI_e p1, Option.bind_some, p4]
  rfl
theorem C_words (B : CB va th Q h sp s) : X0_words 128 h = some (nI (z_nw s), h) := by
  obtain ⟨K, h0, e, C⟩ := B
  obtain ⟨⟨a1, -⟩, -, -, ⟨M, d1, d2⟩, -⟩ := C
  obtain ⟨we, x, -⟩ := d2
  rw [X0_words, gR_e (ck_128 K), Option.bind_some, e, gR_e a1, Option.bind_some, d1, x.o, Option.bind_some, b2_of (J_size x)]
theorem C_boards (B : CB va th Q h sp s) : X0_boards 128 h = some (nI (z_nb s), h) := by
  obtain ⟨K, h0, e, C⟩ := B
  obtain ⟨⟨a1, -⟩, -, -, -, ⟨M, we, d1, x⟩, -⟩ := C
  rw [X0_boards, gR_e (ck_128 K), Option.bind_some, e, gR_e a1, Option.bind_some, d1, x.o, Option.bind_some, b2_of (J_size x)]
theorem C_letters (B : CB va th Q h sp s) {hd : Nat} (h1 : hd < 2) : X0_letters 128 (nI hd) h = some (nI (z_nl s hd), h) := by
  obtain ⟨K, h0, e, C⟩ := B
  obtain ⟨⟨a1, -⟩, -, ⟨L, c1, c2⟩, -⟩ := C
  have Lk : hK h L = (23, 0) := by obtain ⟨_, _, x, _⟩ := c2; exact x.k
  obtain ⟨l, e', g1, g2, g3, -⟩ := c2.sz h1
  rw [X0_letters, gR_e (ck_128 K), Option.bind_some, e, gR_e a1, Option.bind_some, c1, isO_e Lk, Option.bind_some, b2_of g1, cst_e g2 (by decide) (by decide), Option.bind_some, isO_e g2, Option.bind_some, b2_of g3]
theorem C_letterOf (B : CB va th Q h sp s) {hd k : Nat} (h1 : hd < 2) (hk : k < z_nl s hd) : ∃ o, X0_letterOf 128 (nI hd) (nI k) h = some (some o, h) ∧ hK h o = (8, 0) ∧ Q o ∧ hI h o 0 = nI (z_lw s hd k) ∧ hI h o 1 = nI (z_lg s hd k) := by
  obtain ⟨K, h0, e, C⟩ := B
  obtain ⟨⟨a1, -⟩, -, ⟨L, c1, c2⟩, -⟩ := C
  have Lk : hK h L = (23, 0) := by obtain ⟨_, _, x, _⟩ := c2; exact x.k
  obtain ⟨l, e', g1, g2, g3, g4, g5⟩ := c2.sz h1
  obtain ⟨p1, p2, p3, p4⟩ := g5 k hk
  refine ⟨e' k, ?_, p1, p2, p3, p4⟩
  rw [X0_letterOf, gR_e (ck_128 K), Option.bind_some, e, gR_e a1, Option.bind_some, c1, isO_e Lk, Option.bind_some, b2_of g1, cst_e g2 (by decide) (by decide), Option.bind_some, isO_e g2, Option.bind_some, b2_of (J_get g4 hk), cst_e p1 (by decide) (by decide), Option.bind_some]
end CShop
