set_option maxRecDepth 100000
/-! ===== the class: a state is copied ===== -/
def PCP (t a k : Nat) : Prop := (a = t ∧ k ≤ 1) ∨ a = t + 1 ∨ a = t + 2 ∨ (t + 4 ≤ a ∧ a < t + 8) ∨ (t + 9 ≤ a ∧ a < t + 49)
theorem McP_PCP {st : Nat} (hz : SZ st) : McP (PCP st) := fun a k z => by unfold PCP at z; unfold SZ at hz; unfold Mc PRT; omega
section CCopy
variable {h : AH} {t st : Nat} {s : SH} {f : RW}
theorem C_copy49 (S : STK h st) (T : STK h t) (hd : st + 54 ≤ t ∨ t + 54 ≤ st) {b : Nat} (hb : b < 4) : Ev (X5_copy_49 t (some st) (nI b) 0 h) (fun o => ∃ H, o = .inl (nI (b + 1), H) ∧ FT (fun a _ => a = t + 4 + b) h H ∧ ∀ k, k < 6 → hI H (t + 4 + b) k = hI h (st + 4 + b) k) := by
  rw [X5_copy_49]
  refine ev_for 6 (fun k z => z.1 = nI k ∧ FT (fun a _ => a = t + 4 + b) h z.2 ∧ ∀ k', k' < k → hI z.2 (t + 4 + b) k' = hI h (st + 4 + b) k') ?_ ?_ 0 _ (by decide) ⟨rfl, FT.refl _ _, fun k z => absurd z (Nat.not_lt_zero _)⟩
  · rintro k ⟨x, H⟩ hk ⟨hx, F2, A2⟩
    simp only at hx F2 A2
    subst hx
    have S2 := S.ft F2
    have T2 := T.ft F2
    simp (disch := first | assumption | ((repeat (first | with_reducible refine TKI ?_ | with_reducible refine TKL ?_ | with_reducible refine CKI ?_ | with_reducible refine CKL ?_)); assumption) | omega) only [X5_copy_49b, ↓Option.bind_some, ↓b2_some, ↓bX_l, ↓bX_r, Option.bind_some, Option.bind_none, b2_some, bX_l, bX_r, nn_e, if_true, if_false, reduceCtorEq, ↓reduceIte, Nat.reduceEqDiff, Nat.reduceLT, Nat.reduceLeDiff, Nat.reduceSubDiff, Nat.reduceAdd, Nat.reduceMul, nL0, nL1, nL2, hk, ↓bd_of T2.g6, ↓bd_of S2.g6, ↓bd_of (T2.x3 hb), ↓bd_of (S2.x3 hb), ↓bd_of (S2.x4 hb hk), ↓bd_of (T2.s4 hb hk), nA1]
    rw [Ev_some]
    refine ⟨rfl, F2.wI rfl, fun k' z => ?_⟩
    simp only
    rw [p_II]
    by_cases e : k' = k
    · rw [if_pos ⟨rfl, e⟩, e]
      exact F2.i (by omega)
    · rw [if_neg (fun y => e y.2)]
      exact A2 k' (by omega)
  · rintro ⟨x, H⟩ ⟨hx, F2, A2⟩
    simp only at hx F2 A2
    subst hx
    simp (disch := first | assumption | ((repeat (first | with_reducible refine TKI ?_ | with_reducible refine TKL ?_ | with_reducible refine CKI ?_ | with_reducible refine CKL ?_)); assumption) | omega) only [X5_copy_49b, ↓Option.bind_some, ↓b2_some, ↓bX_l, ↓bX_r, Option.bind_some, Option.bind_none, b2_some, bX_l, bX_r, nn_e, if_true, if_false, reduceCtorEq, ↓reduceIte, Nat.reduceEqDiff, Nat.reduceLT, Nat.reduceLeDiff, Nat.reduceSubDiff, Nat.reduceAdd, Nat.reduceMul, nL0, nL1, nL2, Nat.lt_irrefl, nA1]
    rw [Ev_some]
    exact ⟨H, rfl, F2, A2⟩
theorem C_copy95 (S : STK h st) (T : STK h t) (hd : st + 54 ≤ t ∨ t + 54 ≤ st) {p q : Nat → Nat} (P : PRM h st p) (R : PRM h t q) {i : Nat} (hi : i < 40) : Ev (X5_copy_95 t (some st) (nI i) 0 h) (fun o => ∃ H, o = .inl (nI (i + 1), H) ∧ FT (fun a _ => a = t + 9 + q i) h H ∧ ∀ j, j < 3 → hI H (t + 9 + q i) j = hI h (st + 9 + p i) j) := by
  have p1 := (P.1 i hi).1
  have q1 := (R.1 i hi).1
  rw [X5_copy_95]
  refine ev_for 3 (fun k z => z.1 = nI k ∧ FT (fun a _ => a = t + 9 + q i) h z.2 ∧ ∀ k', k' < k → hI z.2 (t + 9 + q i) k' = hI h (st + 9 + p i) k') ?_ ?_ 0 _ (by decide) ⟨rfl, FT.refl _ _, fun k z => absurd z (Nat.not_lt_zero _)⟩
  · rintro k ⟨x, H⟩ hk ⟨hx, F2, A2⟩
    simp only at hx F2 A2
    subst hx
    have S2 := S.ft F2
    have T2 := T.ft F2
    have P2 : PRM H st p := P.fc F2.fc (fun k => by omega)
    have R2 : PRM H t q := R.fc F2.fc (fun k => by omega)
    simp (disch := first | assumption | ((repeat (first | with_reducible refine TKI ?_ | with_reducible refine TKL ?_ | with_reducible refine CKI ?_ | with_reducible refine CKL ?_)); assumption) | omega) only [X5_copy_95b, ↓Option.bind_some, ↓b2_some, ↓bX_l, ↓bX_r, Option.bind_some, Option.bind_none, b2_some, bX_l, bX_r, nn_e, if_true, if_false, reduceCtorEq, ↓reduceIte, Nat.reduceEqDiff, Nat.reduceLT, Nat.reduceLeDiff, Nat.reduceSubDiff, Nat.reduceAdd, Nat.reduceMul, nL0, nL1, nL2, hk, ↓bd_of T2.g7, ↓bd_of S2.g7, ↓bd_of (T2.x8 R2 hi), ↓bd_of (S2.x8 P2 hi), ↓bd_of (S2.x9 p1 hk), ↓bd_of (T2.s9 q1 hk), nA1]
    rw [Ev_some]
    refine ⟨rfl, F2.wI rfl, fun k' z => ?_⟩
    simp only
    rw [p_II]
    by_cases e : k' = k
    · rw [if_pos ⟨rfl, e⟩, e]
      exact F2.i (by omega)
    · rw [if_neg (fun y => e y.2)]
      exact A2 k' (by omega)
  · rintro ⟨x, H⟩ ⟨hx, F2, A2⟩
    simp only at hx F2 A2
    subst hx
    simp (disch := first | assumption | ((repeat (first | with_reducible refine TKI ?_ | with_reducible refine TKL ?_ | with_reducible refine CKI ?_ | with_reducible refine CKL ?_)); assumption) | omega) only [X5_copy_95b, ↓Option.bind_some, ↓b2_some, ↓bX_l, ↓bX_r, Option.bind_some, Option.bind_none, b2_some, bX_l, bX_r, nn_e, if_true, if_false, reduceCtorEq, ↓reduceIte, Nat.reduceEqDiff, Nat.reduceLT, Nat.reduceLeDiff, Nat.reduceSubDiff, Nat.reduceAdd, Nat.reduceMul, nL0, nL1, nL2, Nat.lt_irrefl, nA1]
    rw [Ev_some]
    exact ⟨H, rfl, F2, A2⟩
theorem C_copy85 (S : STK h st) (T : STK h t) (hd : st + 54 ≤ t ∨ t + 54 ≤ st) {p q : Nat → Nat} (P : PRM h st p) (R : PRM h t q) {m : Nat} (hm : m ≤ 40) (em : hI h t 1 = nI m) : Ev (X5_copy_85 t (some st) 0 h) (fun z => z.1 = some t ∧ FT (fun a _ => t + 9 ≤ a ∧ a < t + 49) h z.2 ∧ ∀ i j, i < m → j < 3 → hI z.2 (t + 9 + q i) j = hI h (st + 9 + p i) j) := by
  rw [X5_copy_85]
  refine ev_for m (fun k z => z.1 = nI k ∧ FT (fun a _ => t + 9 ≤ a ∧ a < t + 49) h z.2 ∧ ∀ i j, i < k → j < 3 → hI z.2 (t + 9 + q i) j = hI h (st + 9 + p i) j) ?_ ?_ 0 _ (Nat.zero_le _) ⟨rfl, FT.refl _ _, fun i j z => absurd z (Nat.not_lt_zero _)⟩
  · rintro k ⟨x, H⟩ hk ⟨hx, F2, A2⟩
    simp only at hx F2 A2
    subst hx
    have S2 := S.ft F2
    have T2 := T.ft F2
    have P2 : PRM H st p := P.fc F2.fc (fun k => by omega)
    have R2 : PRM H t q := R.fc F2.fc (fun k => by omega)
    have p1 := (P.1 k (by omega)).1
    have q1 := (R.1 k (by omega)).1
    have e1 : hI H t 1 = nI m := (F2.i (by omega)).trans em
    simp (disch := first | assumption | ((repeat (first | with_reducible refine TKI ?_ | with_reducible refine TKL ?_ | with_reducible refine CKI ?_ | with_reducible refine CKL ?_)); assumption) | omega) only [X5_copy_85b, ↓Option.bind_some, ↓b2_some, ↓bX_l, ↓bX_r, Option.bind_some, Option.bind_none, b2_some, bX_l, bX_r, nn_e, if_true, if_false, reduceCtorEq, ↓reduceIte, Nat.reduceEqDiff, Nat.reduceLT, Nat.reduceLeDiff, Nat.reduceSubDiff, Nat.reduceAdd, Nat.reduceMul, nL0, nL1, nL2, ↓bd_of (T2.gi 1), e1, hk]
    refine ev_mono (C_copy95 S2 T2 hd P2 R2 (show k < 40 by omega)) ?_
    rintro _ ⟨H3, rfl, F3, A3⟩
    refine ⟨rfl, F2.trans (F3.mono (fun a k z => by omega)), fun i j hi hj => ?_⟩
    by_cases e : i = k
    · rw [e, A3 j hj]
      exact F2.i (by omega)
    · have ne : q i ≠ q k := fun z => e (R.2 i k (by omega) (by omega) z)
      show hI H3 (t + 9 + q i) j = _
      rw [F3.i (by omega)]
      exact A2 i j (by omega) hj
  · rintro ⟨x, H⟩ ⟨hx, F2, A2⟩
    simp only at hx F2 A2
    subst hx
    have T2 := T.ft F2
    have e1 : hI H t 1 = nI m := (F2.i (by omega)).trans em
    simp (disch := first | assumption | ((repeat (first | with_reducible refine TKI ?_ | with_reducible refine TKL ?_ | with_reducible refine CKI ?_ | with_reducible refine CKL ?_)); assumption) | omega) only [X5_copy_85b, ↓Option.bind_some, ↓b2_some, ↓bX_l, ↓bX_r, Option.bind_some, Option.bind_none, b2_some, bX_l, bX_r, nn_e, if_true, if_false, reduceCtorEq, ↓reduceIte, Nat.reduceEqDiff, Nat.reduceLT, Nat.reduceLeDiff, Nat.reduceSubDiff, Nat.reduceAdd, Nat.reduceMul, nL0, nL1, nL2, ↓bd_of (T2.gi 1), e1, Nat.lt_irrefl]
    rw [Ev_some]
    exact ⟨rfl, F2, A2⟩
theorem C_copy (C : CST s h st f) (h4 : z_nb s ≤ 4) (h40 : f 33 ≤ 40) (T : STK h t) {q : Nat → Nat} (R : PRM h t q) (hd : st + 54 ≤ t ∨ t + 54 ≤ st) : Ev (X5_copy t (some st) h) (fun z => z.1 = some t ∧ FC (PCP t) h z.2 ∧ CST s z.2 t f) := by
  obtain ⟨S, p, P, ⟨v1, v2⟩, v3, v4⟩ := C
  have r1 : hI (wI t 0 (nI (f 0)) h) st 1 = nI (f 33) := by rw [p_II, if_neg (by omega)]; exact v2
  rw [X5_copy, S.gi, Option.bind_some, v1, T.pi, Option.bind_some, S.w.gi, Option.bind_some, r1, T.w.pi, Option.bind_some, X5_copy_18]
  have F1 : FT (PCP t) h (wI t 1 (nI (f 33)) (wI t 0 (nI (f 0)) h)) := ((FT.refl _ h).wI (by unfold PCP; omega)).wI (by unfold PCP; omega)
  have a0 : hI (wI t 1 (nI (f 33)) (wI t 0 (nI (f 0)) h)) t 0 = nI (f 0) := by rw [p_II, if_neg (by omega), p_II, if_pos ⟨rfl, rfl⟩]
  have a1 : hI (wI t 1 (nI (f 33)) (wI t 0 (nI (f 0)) h)) t 1 = nI (f 33) := by rw [p_II, if_pos ⟨rfl, rfl⟩]
  generalize (wI t 1 (nI (f 33)) (wI t 0 (nI (f 0)) h)) = H1 at *
  refine ev_for 4 (fun b z => z.1 = nI b ∧ FT (PCP t) h z.2 ∧ (hI z.2 t 0 = nI (f 0) ∧ hI z.2 t 1 = nI (f 33)) ∧ ∀ b', b' < b → hI z.2 (t + 1) b' = hI h (st + 1) b' ∧ hI z.2 (t + 2) b' = hI h (st + 2) b' ∧ ∀ k, k < 6 → hI z.2 (t + 4 + b') k = hI h (st + 4 + b') k) ?_ ?_ 0 _ (by decide) ⟨rfl, F1, ⟨a0, a1⟩, fun b z => absurd z (Nat.not_lt_zero _)⟩
  · rintro b ⟨x, H⟩ hb ⟨hx, F2, ⟨e0, e1⟩, A2⟩
    simp only at hx F2 e0 e1 A2
    subst hx
    have S2 := S.ft F2
    have T2 := T.ft F2
    have x2 : hI (wI (t + 1) b (hI H (st + 1) b) H) (st + 2) b = hI H (st + 2) b := by rw [p_II, if_neg (by omega)]
    simp (disch := first | assumption | ((repeat (first | with_reducible refine TKI ?_ | with_reducible refine TKL ?_ | with_reducible refine CKI ?_ | with_reducible refine CKL ?_)); assumption) | omega) only [X5_copy_18b, ↓Option.bind_some, ↓b2_some, ↓bX_l, ↓bX_r, Option.bind_some, Option.bind_none, b2_some, bX_l, bX_r, nn_e, if_true, if_false, reduceCtorEq, ↓reduceIte, Nat.reduceEqDiff, Nat.reduceLT, Nat.reduceLeDiff, Nat.reduceSubDiff, Nat.reduceAdd, Nat.reduceMul, nL0, nL1, nL2, hb, ↓bd_of T2.g4, ↓bd_of S2.g4, ↓bd_of (S2.x1 hb), ↓bd_of (T2.s1 hb), ↓bd_of T2.w.g5, ↓bd_of S2.w.g5, ↓bd_of (S2.w.x2 hb), ↓bd_of (T2.w.s2 hb), x2]
    have s1 : hI H (st + 1) b = hI h (st + 1) b := F2.i (by unfold PCP; omega)
    have s2 : hI H (st + 2) b = hI h (st + 2) b := F2.i (by unfold PCP; omega)
    have F3 : FT (PCP t) H (wI (t + 2) b (hI H (st + 2) b) (wI (t + 1) b (hI H (st + 1) b) H)) := ((FT.refl _ H).wI (by unfold PCP; omega)).wI (by unfold PCP; omega)
    refine ev_mono (C_copy49 (h := wI (t + 2) b (hI H (st + 2) b) (wI (t + 1) b (hI H (st + 1) b) H)) S2 T2 hd hb) ?_
    rintro _ ⟨H3, rfl, F4, A4⟩
    refine ⟨rfl, (F2.trans F3).trans (F4.mono (fun a k z => by unfold PCP; omega)), ⟨?_, ?_⟩, fun b' hb' => ?_⟩
    · show hI H3 t 0 = _
      rw [F4.i (by omega), p_II, if_neg (by omega), p_II, if_neg (by omega), e0]
    · show hI H3 t 1 = _
      rw [F4.i (by omega), p_II, if_neg (by omega), p_II, if_neg (by omega), e1]
    · show hI H3 (t + 1) b' = _ ∧ hI H3 (t + 2) b' = _ ∧ ∀ k, k < 6 → hI H3 (t + 4 + b') k = _
      rw [F4.i (by omega), F4.i (by omega), p_II, if_neg (by omega), p_II, p_II, p_II]
      by_cases e : b' = b
      · subst e
        rw [if_pos ⟨rfl, rfl⟩, if_pos ⟨rfl, rfl⟩, s1, s2]
        refine ⟨rfl, rfl, fun k hk => ?_⟩
        rw [A4 k hk, p_II, if_neg (by omega), p_II, if_neg (by omega)]
        exact F2.i (by unfold PCP; omega)
      · rw [if_neg (fun z => e z.2), if_neg (fun z => e z.2), if_neg (by omega)]
        obtain ⟨y1, y2, y3⟩ := A2 b' (by omega)
        refine ⟨y1, y2, fun k hk => ?_⟩
        rw [F4.i (by omega), p_II, if_neg (by omega), p_II, if_neg (by omega)]
        exact y3 k hk
  · rintro ⟨x, H⟩ ⟨hx, F2, ⟨e0, e1⟩, A2⟩
    simp only at hx F2 e0 e1 A2
    subst hx
    have S2 := S.ft F2
    have T2 := T.ft F2
    have P2 : PRM H st p := P.fc (F2.fc.mono (fun a k z => z)) (fun k => by unfold PCP; omega)
    have R2 : PRM H t q := R.fc F2.fc (fun k => by unfold PCP; omega)
    simp (disch := first | assumption | ((repeat (first | with_reducible refine TKI ?_ | with_reducible refine TKL ?_ | with_reducible refine CKI ?_ | with_reducible refine CKL ?_)); assumption) | omega) only [X5_copy_18b, ↓Option.bind_some, ↓b2_some, ↓bX_l, ↓bX_r, Option.bind_some, Option.bind_none, b2_some, bX_l, bX_r, nn_e, if_true, if_false, reduceCtorEq, ↓reduceIte, Nat.reduceEqDiff, Nat.reduceLT, Nat.reduceLeDiff, Nat.reduceSubDiff, Nat.reduceAdd, Nat.reduceMul, nL0, nL1, nL2, Nat.lt_irrefl]
    obtain ⟨⟨y, H3⟩, h3, y3, F3, A3⟩ := C_copy85 S2 T2 hd P2 R2 h40 e1
    simp only at y3 F3 A3
    subst y3
    rw [h3, Option.bind_some, Ev_some]
    refine ⟨rfl, (F2.trans (F3.mono (fun a k z => by unfold PCP; omega))).fc, T2.ft F3, q, R2.fc F3.fc (fun k => by omega), ⟨?_, ?_⟩, fun b hb => ⟨?_, ?_, fun k hk => ?_⟩, fun i j hi hj => ?_⟩
    · show hI H3 t 0 = _
      rw [F3.i (by omega), e0]
    · show hI H3 t 1 = _
      rw [F3.i (by omega), e1]
    · show hI H3 (t + 1) b = _
      rw [F3.i (by omega), (A2 b (by omega)).1, (v3 b hb).1]
    · show hI H3 (t + 2) b = _
      rw [F3.i (by omega), (A2 b (by omega)).2.1, (v3 b hb).2.1]
    · show hI H3 (t + 4 + b) k = _
      rw [F3.i (by omega), (A2 b (by omega)).2.2 k hk, (v3 b hb).2.2 k hk]
    · show hI H3 (t + 9 + q i) j = _
      have := (P.1 i (by omega)).1
      rw [A3 i j hi hj, F2.i (by unfold PCP; omega), v4 i j hi hj]
end CCopy
