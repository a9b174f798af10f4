set_option maxRecDepth 100000
/-! ===== the class: what is kept of a year ===== -/
def PTL (st a k : Nat) : Prop := a = 144 ∨ (a = st ∧ k = 1) ∨ (st + 8 ≤ a ∧ a < st + 49)
theorem plH0 (n k : Nat) : plH 0 n k = k := by unfold plH; rw [if_neg (by omega)]
theorem psh_e {g : RW} {y b sl : Nat} (h : g 33 ≠ 40) : psh g y b sl = fun i => if i = 36 + 3 * g 33 then sl else if i = 35 + 3 * g 33 then b else if i = 34 + 3 * g 33 then y else if i = 33 then g 33 + 1 else g i := by
  unfold psh
  rw [if_neg h]
theorem PRM.w {h : AH} {st : Nat} {p : Nat → Nat} {a k : Nat} {v : Int32} (P : PRM h st p) : PRM (wI a k v h) st p := P
theorem PRM.fc {P : Nat → Nat → Prop} {h h' : AH} {st : Nat} {p : Nat → Nat} (F : FC P h h') (hP : ∀ k, ¬ P (st + 8) k) (S : PRM h st p) : PRM h' st p := ⟨fun i hi => ⟨(S.1 i hi).1, (F.r (hP i)).trans (S.1 i hi).2⟩, S.2⟩
section CTells
variable {va : VaT} {th : ThT} {Q : Nat → Prop} {h : AH} {sp st : Nat} {s : SH} {f g g' : RW}
theorem STK.s90 (S : STK h st) {i : Nat} {v : Int32} (hi : i < 40) : sI 100 (some (st + 9 + i)) 0 v h = some (wI (st + 9 + i) 0 v h) := S.s9 (j := 0) hi (by decide)
theorem STK.s91 (S : STK h st) {i : Nat} {v : Int32} (hi : i < 40) : sI 100 (some (st + 9 + i)) 1 v h = some (wI (st + 9 + i) 1 v h) := S.s9 (j := 1) hi (by decide)
theorem STK.s92 (S : STK h st) {i : Nat} {v : Int32} (hi : i < 40) : sI 100 (some (st + 9 + i)) 2 v h = some (wI (st + 9 + i) 2 v h) := S.s9 (j := 2) hi (by decide)
theorem C_tells99 (S : STK h st) {p : Nat → Nat} (P : PRM h st p) {m y : Nat} (hm : m < 40) (e1 : hI h st 1 = nI m) (e0 : hI h st 0 = nI y) (b sl : Int32) : X5_tells_99 va st b sl h = some (wI st 1 (nI (m + 1)) (wI (st + 9 + p m) 2 sl (wI (st + 9 + p m) 1 b (wI (st + 9 + p m) 0 (nI y) h)))) := by
  have hp := (P.1 m hm).1
  have r1 : hI (wI (st + 9 + p m) 0 (nI y) h) st 1 = nI m := by rw [p_II, if_neg (by omega)]; exact e1
  have r2 : hI (wI (st + 9 + p m) 1 b (wI (st + 9 + p m) 0 (nI y) h)) st 1 = nI m := by rw [p_II, if_neg (by omega)]; exact r1
  have r3 : hI (wI (st + 9 + p m) 2 sl (wI (st + 9 + p m) 1 b (wI (st + 9 + p m) 0 (nI y) h))) st 1 = nI m := by rw [p_II, if_neg (by omega)]; exact r2
  rw [X5_tells_99, S.g7, Option.bind_some, S.gi, Option.bind_some, e1, S.x8 P hm, Option.bind_some, S.gi, Option.bind_some, e0, S.s90 hp, Option.bind_some, S.w.g7, Option.bind_some, S.w.gi, Option.bind_some, r1, S.w.x8 P.w hm, Option.bind_some, S.w.s91 hp, Option.bind_some,
    S.w.w.g7, Option.bind_some, S.w.w.gi, Option.bind_some, r2, S.w.w.x8 P.w.w hm, Option.bind_some, S.w.w.s92 hp, Option.bind_some, S.w.w.w.gi, Option.bind_some, r3, S.w.w.w.pi, Option.bind_some, nA1]
theorem C_tells66 (F : WFS s) (hQ : ∀ a, Q a → Im a) (B : CB va th Q h sp s) (C : CST s h st g') (G : WFN s g) (e : ∀ i, i < 33 → g' i = g i) (hz : SZ st) (hm : g' 33 < 40) {b : Nat} (hb : b < z_nb s) : Ev (X5_tells_66 va st (nI b) 0 0 h) (fun H => FC (PTL st) h H ∧ CST s H st (psh g' (g 0) b (sil s g b (z_wl s (g (1 + 8 * b)))))) := by
  have q4 := F.2.2.2.2.1
  obtain ⟨g1, g2, -, g3⟩ := G.2.1 b hb
  have q6 := WFN_6 F G b hb
  obtain ⟨S, p, P, ⟨v1, v2⟩, v3, v4⟩ := C
  obtain ⟨b1, b2', b3⟩ := v3 b hb
  rw [e _ (by omega)] at b1 b2'
  have zz := hz
  unfold SZ at zz
  rw [X5_tells_66]
  refine ev_for (z_wl s (g (1 + 8 * b))) (fun k z => z.1 = nI (sil s g b k) ∧ z.2.1 = nI k ∧ FT PC1 h z.2.2 ∧ sil s g b k ≤ k) ?_ ?_ 0 _ (Nat.zero_le _) ⟨rfl, rfl, FT.refl _ _, Nat.le_refl _⟩
  · rintro k ⟨x, y, H⟩ hk ⟨hx, hy, F2, hl⟩
    simp only at hx hy F2 hl
    subst hx hy
    have B2 := B.ft hQ F2 PC1_Mc
    have S2 := S.ft F2
    have c1 : hI H (st + 1) b = nI (g (1 + 8 * b)) := (F2.i (by unfold PC1; omega)).trans b1
    have c2 : hI H (st + 2) b = nI (g (2 + 8 * b)) := (F2.i (by unfold PC1; omega)).trans b2'
    have c3 : hI H (st + 4 + b) (plH 0 (z_wl s (g (1 + 8 * b))) k) = nI (g (3 + 8 * b + k)) := by rw [plH0, F2.i (by unfold PC1; omega), b3 k (by omega), e _ (by omega)]
    simp (disch := first | assumption | ((repeat (first | with_reducible refine TKI ?_ | with_reducible refine TKL ?_ | with_reducible refine CKI ?_ | with_reducible refine CKL ?_)); assumption) | omega) only [X5_tells_66b, ↓Option.bind_some, ↓b2_some, ↓bX_l, ↓bX_r, Option.bind_some, Option.bind_none, b2_some, bX_l, bX_r, nn_e, if_true, if_false, reduceCtorEq, ↓reduceIte, Nat.reduceEqDiff, Nat.reduceLT, Nat.reduceLeDiff, Nat.reduceSubDiff, Nat.reduceAdd, Nat.reduceMul, nA1, nA2, nM1, nM2, n_add, n_mul, n_sub, nS1, nS2, nL0, nL1, nL2, nE0, nE1, nE2, nE3, bI_0, bI_1, bI_m, rz_b, rz_0, rz_1, ↓bd_of S2.o, ↓b2_of (C_places F B2 S2 (show b < 4 by omega) g1 c1), hk, Ev_b2]
    refine ev_mono (C_ssays F hQ B2 S2 (how := 0) (show b < 4 by omega) g1 g2 (by decide) hk c1 c2 c3 (g3 k (by omega))) ?_
    rintro ⟨y, H3⟩ ⟨hy, F3⟩
    simp only at hy F3
    subst hy
    rw [tN_0 (g3 k (by omega)), show rd s (g (2 + 8 * b)) (g (3 + 8 * b + k)) = sdf s g b k from rfl]
    have sl := sdf_lt F G (k := k) hb
    have z0 : nI (sdf s g b k) = 0 ↔ sdf s g b k = 0 := by rw [show (0 : Int32) = nI 0 from rfl, n_eq (by omega) (by decide)]
    have si : sil s g b (k + 1) = if sdf s g b k = 0 then sil s g b k + 1 else sil s g b k := rfl
    by_cases q : sdf s g b k = 0
    · rw [if_pos q] at si
      rw [if_pos (z0.mpr q), Ev_some, si]
      exact ⟨rfl, rfl, F2.trans F3, by omega⟩
    · rw [if_neg q] at si
      rw [if_neg (fun z => q (z0.mp z)), Ev_some, si]
      exact ⟨rfl, rfl, F2.trans F3, by omega⟩
  · rintro ⟨x, y, H⟩ ⟨hx, hy, F2, hl⟩
    simp only at hx hy F2 hl
    subst hx hy
    have B2 := B.ft hQ F2 PC1_Mc
    have S2 := S.ft F2
    have P2 : PRM H st p := P.fc F2.fc (fun k => by unfold PC1; omega)
    have c1 : hI H (st + 1) b = nI (g (1 + 8 * b)) := (F2.i (by unfold PC1; omega)).trans b1
    have d1 : hI H st 1 = nI (g' 33) := (F2.i (by unfold PC1; omega)).trans v2
    have d0 : hI H st 0 = nI (g 0) := (F2.i (by unfold PC1; omega)).trans (by rw [v1, e 0 (by decide)])
    have hp := (P.1 _ hm).1
    simp (disch := first | assumption | ((repeat (first | with_reducible refine TKI ?_ | with_reducible refine TKL ?_ | with_reducible refine CKI ?_ | with_reducible refine CKL ?_)); assumption) | omega) only [X5_tells_66b, ↓Option.bind_some, ↓b2_some, ↓bX_l, ↓bX_r, Option.bind_some, Option.bind_none, b2_some, bX_l, bX_r, nn_e, if_true, if_false, reduceCtorEq, ↓reduceIte, Nat.reduceEqDiff, Nat.reduceLT, Nat.reduceLeDiff, Nat.reduceSubDiff, Nat.reduceAdd, Nat.reduceMul, nA1, nA2, nM1, nM2, n_add, n_mul, n_sub, nS1, nS2, nL0, nL1, nL2, nE0, nE1, nE2, nE3, bI_0, bI_1, bI_m, rz_b, rz_0, rz_1, ↓bd_of S2.o, ↓b2_of (C_places F B2 S2 (show b < 4 by omega) g1 c1), Nat.lt_irrefl, ↓bd_of (C_tells99 S2 P2 hm d1 d0 _ _)]
    rw [Ev_some]
    have F3 : FC (PTL st) H (wI st 1 (nI (g' 33 + 1)) (wI (st + 9 + p (g' 33)) 2 (nI (sil s g b (z_wl s (g (1 + 8 * b))))) (wI (st + 9 + p (g' 33)) 1 (nI b) (wI (st + 9 + p (g' 33)) 0 (nI (g 0)) H)))) := ((((FC.refl _ H).wI (by unfold PTL; omega)).wI (by unfold PTL; omega)).wI (by unfold PTL; omega)).wI (by unfold PTL; omega)
    refine ⟨(F2.fc.mono (fun a k z => by unfold PC1 at z; unfold PTL; omega)).trans F3, S2, p, P2, ⟨?_, ?_⟩, fun b' hb' => ⟨?_, ?_, fun k hk => ?_⟩, fun i j hi hj => ?_⟩
    · rw [p_II, if_neg (by omega), p_II, if_neg (by omega), p_II, if_neg (by omega), p_II, if_neg (by omega), psh_lo (by decide), d0, e 0 (by decide)]
    · rw [p_II, if_pos ⟨rfl, rfl⟩, psh_e (by omega)]
      simp only
      rw [if_neg (by omega), if_neg (by omega), if_neg (by omega), if_pos trivial]
    · rw [p_II, if_neg (by omega), p_II, if_neg (by omega), p_II, if_neg (by omega), p_II, if_neg (by omega), psh_lo (by omega), F2.i (by unfold PC1; omega)]
      exact (v3 b' hb').1
    · rw [p_II, if_neg (by omega), p_II, if_neg (by omega), p_II, if_neg (by omega), p_II, if_neg (by omega), psh_lo (by omega), F2.i (by unfold PC1; omega)]
      exact (v3 b' hb').2.1
    · rw [p_II, if_neg (by omega), p_II, if_neg (by omega), p_II, if_neg (by omega), p_II, if_neg (by omega), psh_lo (by omega), F2.i (by unfold PC1; omega)]
      exact (v3 b' hb').2.2 k hk
    · have i33 : psh g' (g 0) b (sil s g b (z_wl s (g (1 + 8 * b)))) 33 = g' 33 + 1 := by
        rw [psh_e (by omega)]
        simp only
        rw [if_neg (by omega), if_neg (by omega), if_neg (by omega), if_pos trivial]
      rw [i33] at hi
      have hpi := (P.1 i (by omega)).1
      rw [psh_e (by omega), p_II, if_neg (by omega), p_II, p_II, p_II]
      simp only
      by_cases ei : i = g' 33
      · subst ei
        rcases (by omega : j = 0 ∨ j = 1 ∨ j = 2) with rfl | rfl | rfl
        · rw [if_neg (by omega), if_neg (by omega), if_pos ⟨rfl, rfl⟩, if_neg (by omega), if_neg (by omega), if_pos (by omega)]
        · rw [if_neg (by omega), if_pos ⟨rfl, rfl⟩, if_neg (by omega), if_pos (by omega)]
        · rw [if_pos ⟨rfl, rfl⟩, if_pos (by omega)]
      · have ne : p i ≠ p (g' 33) := fun z => ei (P.2 i _ (by omega) (by omega) z)
        rw [if_neg (by omega), if_neg (by omega), if_neg (by omega), if_neg (by omega), if_neg (by omega), if_neg (by omega), if_neg (by omega), F2.i (by unfold PC1; omega)]
        exact v4 i j (by omega) hj
theorem C_tells (F : WFS s) (hQ : ∀ a, Q a → Im a) (B : CB va th Q h sp s) (C : CST s h st g) (G : WFN s g) (hz : SZ st) {b : Nat} (hb : b < z_nb s) : Ev (X5_tells va st (nI b) h) (fun H => FC (PTL st) h H ∧ CST s H st (psh g (g 0) b (sil s g b (z_wl s (g (1 + 8 * b)))))) := by
  have CC := C
  have q4 := F.2.2.2.2.1
  have zz := hz
  unfold SZ at zz
  obtain ⟨S, p, P, ⟨v1, v2⟩, v3, v4⟩ := C
  have h40 := G.2.2
  rw [X5_tells, S.gi, Option.bind_some, v2]
  have c40 : nI (g 33) = 40 ↔ g 33 = 40 := n_eq (b := 40) (by omega) (by decide)
  by_cases q : g 33 = 40
  · have x80 : xR 106 (some (st + 8)) 0 h = some (some (st + 9 + p 0)) := S.x8 P (i := 0) (by decide)
    rw [if_pos (c40.mpr q), S.g7, Option.bind_some, x80, Option.bind_some, X5_tells_18]
    have hN := S.1.1
    refine ev_for 40 (fun k z => 1 ≤ k ∧ z.1 = nI k ∧ FC (fun a _ => a = st + 8) h z.2 ∧ ∀ i, i < 40 → hR z.2 (st + 8) i = some (st + 9 + if i + 1 < k then p (i + 1) else p i)) ?_ ?_ 1 _ (by decide) ⟨Nat.le_refl _, rfl, FC.refl _ _, fun i hi => by rw [if_neg (by omega)]; exact (P.1 i hi).2⟩
    · rintro k ⟨x, H⟩ hk ⟨k1, hx, F2, R⟩
      simp only at hx F2 R
      subst hx
      have S2 : STK H st := S.fc F2 (fun a k z => by omega)
      have pk := (P.1 k hk).1
      have xk : xR 106 (some (st + 8)) (nI k) H = some (some (st + 9 + p k)) := by rw [xR_e S2.2.1.2.2.2.1 hk (by decide), R k hk, if_neg (by omega)]
      have sk : sR 106 [100] (some (st + 8)) (nI (k - 1)) (some (st + 9 + p k)) H = some (wR (st + 8) (k - 1) (some (st + 9 + p k)) H) := sR_e S2.2.1.2.2.2.1 (by omega) (by omega) (by decide) (S2.2.2.2.1 _ pk) (by decide) (by omega)
      have mk : nI k - 1 = nI (k - 1) := nS1 k1
      simp (disch := first | assumption | ((repeat (first | with_reducible refine TKI ?_ | with_reducible refine TKL ?_ | with_reducible refine CKI ?_ | with_reducible refine CKL ?_)); assumption) | omega) only [X5_tells_18b, ↓Option.bind_some, ↓b2_some, ↓bX_l, ↓bX_r, Option.bind_some, Option.bind_none, b2_some, bX_l, bX_r, nn_e, if_true, if_false, reduceCtorEq, ↓reduceIte, Nat.reduceEqDiff, Nat.reduceLT, Nat.reduceLeDiff, Nat.reduceSubDiff, Nat.reduceAdd, Nat.reduceMul, nL1, nL2, nA1, hk, ↓bd_of S2.g7, ↓bd_of xk, mk, ↓bd_of sk]
      rw [Ev_some]
      refine ⟨trivial, rfl, F2.wR rfl, fun i hi => ?_⟩
      rw [p_RR]
      by_cases ei : i = k - 1
      · rw [if_pos ⟨rfl, ei⟩, if_pos (by omega), show i + 1 = k by omega]
      · rw [if_neg (fun z => ei z.2), R i hi]
        by_cases e2 : i + 1 < k
        · rw [if_pos e2, if_pos (by omega)]
        · rw [if_neg e2, if_neg (by omega)]
    · rintro ⟨x, H⟩ ⟨-, hx, F2, R⟩
      simp only at hx F2 R
      subst hx
      have S2 : STK H st := S.fc F2 (fun a k z => by omega)
      have p0 := (P.1 0 (by decide)).1
      have s39 : sR 106 [100] (some (st + 8)) 39 (some (st + 9 + p 0)) H = some (wR (st + 8) 39 (some (st + 9 + p 0)) H) := sR_e (n := 39) S2.2.1.2.2.2.1 (by omega) (by decide) (by decide) (S2.2.2.2.1 _ p0) (by decide) (by omega)
      have F3 : FC (fun a _ => a = st + 8) h (wR (st + 8) 39 (some (st + 9 + p 0)) H) := F2.wR rfl
      have S3 : STK (wR (st + 8) 39 (some (st + 9 + p 0)) H) st := S.fc F3 (fun a k z => by omega)
      have e1 : hI (wR (st + 8) 39 (some (st + 9 + p 0)) H) st 1 = nI 40 := by rw [F3.i (by omega), v2, q]
      have m1 : nI 40 - 1 = nI 39 := by decide
      have R3 : ∀ i, i < 40 → hR (wR (st + 8) 39 (some (st + 9 + p 0)) H) (st + 8) i = some (st + 9 + if i = 39 then p 0 else p (i + 1)) := by
        intro i hi
        rw [p_RR]
        by_cases ei : i = 39
        · rw [if_pos ⟨rfl, ei⟩, if_pos ei]
        · rw [if_neg (fun z => ei z.2), if_neg ei, R i hi, if_pos (by omega)]
      simp (disch := first | assumption | ((repeat (first | with_reducible refine TKI ?_ | with_reducible refine TKL ?_ | with_reducible refine CKI ?_ | with_reducible refine CKL ?_)); assumption) | omega) only [X5_tells_18b, ↓Option.bind_some, ↓b2_some, ↓bX_l, ↓bX_r, Option.bind_some, Option.bind_none, b2_some, bX_l, bX_r, nn_e, if_true, if_false, reduceCtorEq, ↓reduceIte, Nat.reduceEqDiff, Nat.reduceLT, Nat.reduceLeDiff, Nat.reduceSubDiff, Nat.reduceAdd, Nat.reduceMul, nL1, nL2, Nat.lt_irrefl, X5_tells_44, ↓bd_of S2.g7, ↓bd_of s39, ↓bd_of (S3.gi 1), e1, m1, ↓bd_of (S3.pi 1 _)]
      have F4 : FC (PTL st) h (wI st 1 (nI 39) (wR (st + 8) 39 (some (st + 9 + p 0)) H)) := (F3.mono (fun a k z => by unfold PTL; omega)).wI (by unfold PTL; omega)
      have B4 : CB va th Q (wI st 1 (nI 39) (wR (st + 8) 39 (some (st + 9 + p 0)) H)) sp s := B.fc hQ F4 (fun a k z => by unfold PTL at z; unfold Mc PRT; omega)
      have C4 : CST s (wI st 1 (nI 39) (wR (st + 8) 39 (some (st + 9 + p 0)) H)) st (fun i => if i = 33 then 39 else if 34 ≤ i ∧ i < 151 then g (i + 3) else g i) := by
        refine ⟨S3, fun i => if i = 39 then p 0 else p (i + 1), ⟨fun i hi => ⟨?_, R3 i hi⟩, fun i j hi hj hij => ?_⟩, ⟨?_, ?_⟩, fun b' hb' => ⟨?_, ?_, fun k hk => ?_⟩, fun i j hi hj => ?_⟩
        · simp only
          split
          · exact p0
          · exact (P.1 (i + 1) (by omega)).1
        · simp only at hij
          split at hij <;> split at hij
          · omega
          · have := P.2 0 (j + 1) (by decide) (by omega) hij; omega
          · have := P.2 (i + 1) 0 (by omega) (by decide) hij; omega
          · have := P.2 (i + 1) (j + 1) (by omega) (by omega) hij; omega
        · rw [p_II, if_neg (by omega), F3.i (by omega), v1]
          rfl
        · rw [p_II, if_pos ⟨rfl, rfl⟩]
          rfl
        · simp only
          rw [p_II, if_neg (by omega), F3.i (by omega), (v3 b' hb').1, if_neg (by omega), if_neg (by omega)]
        · simp only
          rw [p_II, if_neg (by omega), F3.i (by omega), (v3 b' hb').2.1, if_neg (by omega), if_neg (by omega)]
        · simp only
          rw [p_II, if_neg (by omega), F3.i (by omega), (v3 b' hb').2.2 k hk, if_neg (by omega), if_neg (by omega)]
        · have hi : i < 39 := hi
          simp only
          rw [if_neg (by omega)]
          have := (P.1 (i + 1) (by omega)).1
          rw [p_II, if_neg (by omega), F3.i (by omega), v4 (i + 1) j (by omega) hj, if_neg (by omega), if_pos (by omega)]
          exact congrArg (fun x => nI (g x)) (by omega)
      obtain ⟨H5, h5, F5, C5⟩ := C_tells66 F hQ B4 C4 G (fun i hi => by rw [if_neg (by omega), if_neg (by omega)]) hz (by show (39 : Nat) < 40; decide) hb
      rw [h5, Option.bind_some, Ev_some]
      refine ⟨F4.trans F5, C5.congr q4 ?_ (fun k _ => ?_)⟩
      · exact psh_33 (by show (39 : Nat) ≤ 40; decide)
      · unfold psh
        rw [if_pos q, if_neg (by show ¬ (39 : Nat) = 40; decide)]
        simp only [if_true]
        by_cases a1 : k = 153
        · rw [if_pos (by omega), if_pos a1]
        rw [if_neg (by omega), if_neg a1]
        by_cases a2 : k = 152
        · rw [if_pos (by omega), if_pos a2]
        rw [if_neg (by omega), if_neg a2]
        by_cases a3 : k = 151
        · rw [if_pos (by omega), if_pos a3]
        rw [if_neg (by omega), if_neg a3]
        by_cases a4 : k = 33
        · rw [if_pos a4, if_neg (by omega), a4, q]
        · rw [if_neg a4, if_neg a4]
  · rw [if_neg (fun z => q (c40.mp z))]
    exact C_tells66 F hQ B CC G (fun _ _ => rfl) hz (by omega) hb
end CTells
