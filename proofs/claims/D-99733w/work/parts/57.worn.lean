set_option maxRecDepth 100000
/-! ===== worn boards: the answers, and the twin's ===== -/
def chb (s : SH) (f : RW) (b w : Nat) : Bool := (z_wl s w == z_wl s (f (1 + 8 * b))) && (cp s w (f (2 + 8 * b)) && alln (fun k => an (f (3 + 8 * b + k)) (gl s (f (2 + 8 * b)) (z_wc s w k)) == 0) (z_wl s w))
def q_been (s : SH) (f : RW) (x : Int32) : Int32 := if inR x (z_nb s) = true then itr (fun w t => if chb s f (nt x) w = true then t ||| jshl 1 (nI w) else t) (z_nw s) 0 else -1
/-- a board says what is painted on it -/
def asP (s : SH) (f : RW) (b : Nat) : Bool := alln (fun k => sdf s f b k == z_wc s (f (1 + 8 * b)) k) (z_wl s (f (1 + 8 * b)))
/-- how long it lasts, n years being over, q left -/
def lst (s : SH) (f : RW) (b : Nat) : Nat → Nat → Nat
  | 0, n => n
  | q + 1, n => if n < 60 ∧ f 0 + n < 999 then (if asP s (yts s (n + 1) f) b = true then lst s f b q (n + 1) else n) else n
def q_lasts (s : SH) (f : RW) (x : Int32) : Int32 := if inR x (z_nb s) = true then (if asP s f (nt x) = true then nI (lst s f (nt x) 61 0) else -1) else -1
/-- strokes put in, from a bit on, until it reads as c -/
def mnd (s : SH) (hd c L : Nat) : Nat → Nat → Nat → Nat → Int32
  | 0, _, _, _ => -1
  | q + 1, bit, g, n => if bit < 15 then (if bN g bit = 1 then mnd s hd c L q (bit + 1) g n else if bN L bit = 0 then mnd s hd c L q (bit + 1) g n else if rd s hd (g ||| 2 ^ bit) = c then nI (n + 1) else mnd s hd c L q (bit + 1) (g ||| 2 ^ bit) (n + 1)) else -1
def q_mend (s : SH) (f : RW) (x y k : Int32) : Int32 := if isP s f x y = true then (if inR k (z_nl s (f (2 + 8 * nt x))) = true then
    (if rd s (f (2 + 8 * nt x)) (f (3 + 8 * nt x + nt y)) = z_lw s (f (2 + 8 * nt x)) (nt k) then 0 else mnd s (f (2 + 8 * nt x)) (z_lw s (f (2 + 8 * nt x)) (nt k)) (z_lg s (f (2 + 8 * nt x)) (nt k)) 16 0 (f (3 + 8 * nt x + nt y)) 0) else -1) else -1
section Worn
variable {h : AH} {s : SH} {f : RW}
theorem T_canHaveBeen (W : TKK (hK h) (hR h)) (F : WFS s) (S : TSH h s) (N : TNOW h f) (G : WFN s f) {b w : Nat} (h1 : b < z_nb s) (h2 : w < z_nw s) : X7_canHaveBeen 1349 (nI b) (nI w) h = some (bI (chb s f b w), h) := by
  have h4 := F.2.2.2.2.1
  obtain ⟨g1, g2, -, g3⟩ := G.2.1 b h1
  obtain ⟨w1, w2, w3, -⟩ := F.2.2.2.1 w h2
  have q6 := WFN_6 F G b h1
  have qn := F.1 _ g2
  simp (disch := first | assumption | ((repeat (first | with_reducible refine TKI ?_ | with_reducible refine TKL ?_)); assumption) | omega) only [X7_canHaveBeen, ↓btgI, ↓btpI, ↓btgL, ↓btpL, ↓btisO, tgI, tpI, tgL, tpL, tisO, ↓Option.bind_some, ↓b2_some, ↓bX_l, ↓bX_r, Option.bind_some, Option.bind_none, b2_some, bX_l, bX_r, nn_e, if_true, if_false, reduceCtorEq, ↓reduceIte, Nat.reduceEqDiff, Nat.reduceLT, Nat.reduceLeDiff, Nat.reduceSubDiff, Nat.reduceAdd, Nat.reduceMul, nA1, nA2, nM1, nM2, n_add, n_mul, n_sub, nS1, nS2, nL0, nL1, nL2, nE0, nE1, nE2, nE3, bI_0, bI_1, bI_m, rz_b, rz_0, rz_1, ↓b2_of (T_handOf W N (show b < 4 by omega)), ↓b2_of (T_longOf W F S h2), ↓b2_of (T_wordOf W N (show b < 4 by omega)), ↓b2_of (T_longOf W F S g1), ↓b2_of (T_canPaint W F S h2 g2)]
  unfold chb
  by_cases q : z_wl s w = z_wl s (f (1 + 8 * b))
  · rw [if_pos q, show (z_wl s w == z_wl s (f (1 + 8 * b))) = true by simpa using q, Bool.true_and]
    cases e : cp s w (f (2 + 8 * b)) with
    | false => simp [bI]
    | true =>
      rw [if_neg (by decide), Bool.true_and, X7_canHaveBeen_37, ← Ev_is]
      have cpi := (cp_iff qn).mp e
      refine ev_for (z_wl s w) (fun k st => st = (nI k, h) ∧ ∀ j, j < k → (an (f (3 + 8 * b + j)) (gl s (f (2 + 8 * b)) (z_wc s w j)) == 0) = true) ?_ ?_ 0 _ (Nat.zero_le _) ⟨rfl, fun j q => absurd q (Nat.not_lt_zero _)⟩
      · rintro k _ hk ⟨rfl, hj⟩
        have c1 := w3 k hk
        have li := la_in (cpi k hk)
        have t := T_letterAt W F S g2 (show z_wc s w k < 1000 by omega)
        rw [li.2.2] at t
        have ga := g3 k (by omega)
        have al : an (f (3 + 8 * b + k)) (z_lg s (f (2 + 8 * b)) (lp s (f (2 + 8 * b)) (z_wc s w k))) < 32768 := an_lt ga
        simp (disch := first | assumption | ((repeat (first | with_reducible refine TKI ?_ | with_reducible refine TKL ?_)); assumption) | omega) only [X7_canHaveBeen_37b, ↓btgI, ↓btpI, ↓btgL, ↓btpL, ↓btisO, tgI, tpI, tgL, tpL, tisO, ↓Option.bind_some, ↓b2_some, ↓bX_l, ↓bX_r, Option.bind_some, Option.bind_none, b2_some, bX_l, bX_r, nn_e, if_true, if_false, reduceCtorEq, ↓reduceIte, Nat.reduceEqDiff, Nat.reduceLT, Nat.reduceLeDiff, Nat.reduceSubDiff, Nat.reduceAdd, Nat.reduceMul, nA1, nA2, nM1, nM2, n_add, n_mul, n_sub, nS1, nS2, nL0, nL1, nL2, nE0, nE1, nE2, nE3, bI_0, bI_1, bI_m, rz_b, rz_0, rz_1, ↓b2_of (T_longOf W F S h2), hk, ↓b2_of (T_glyphAt W N (show b < 4 by omega) (show k < 6 by omega)), ↓b2_of (T_letterOf W F S h2 hk), ↓b2_of t, ↓b2_of (T_glyphOf W F S g2 li.1), n_an]
        by_cases e5 : an (f (3 + 8 * b + k)) (z_lg s (f (2 + 8 * b)) (lp s (f (2 + 8 * b)) (z_wc s w k))) = 0
        · rw [if_pos e5, Ev_some]
          refine ⟨rfl, fun j h5 => ?_⟩
          by_cases ej : j = k
          · rw [ej]; simpa [gl] using e5
          · exact hj j (by omega)
        · rw [if_neg e5, Ev_some, alln_no hk (by simpa [gl] using e5)]
          rfl
      · rintro _ ⟨rfl, hj⟩
        simp (disch := first | assumption | ((repeat (first | with_reducible refine TKI ?_ | with_reducible refine TKL ?_)); assumption) | omega) only [X7_canHaveBeen_37b, ↓btgI, ↓btpI, ↓btgL, ↓btpL, ↓btisO, tgI, tpI, tgL, tpL, tisO, ↓Option.bind_some, ↓b2_some, ↓bX_l, ↓bX_r, Option.bind_some, Option.bind_none, b2_some, bX_l, bX_r, nn_e, if_true, if_false, reduceCtorEq, ↓reduceIte, Nat.reduceEqDiff, Nat.reduceLT, Nat.reduceLeDiff, Nat.reduceSubDiff, Nat.reduceAdd, Nat.reduceMul, nA1, nA2, nM1, nM2, n_add, n_mul, n_sub, nS1, nS2, nL0, nL1, nL2, nE0, nE1, nE2, nE3, bI_0, bI_1, bI_m, rz_b, rz_0, rz_1, ↓b2_of (T_longOf W F S h2), Nat.lt_irrefl, Ev_some]
        rw [(alln_iff _).mpr hj]
        rfl
  · rw [if_neg q, show (z_wl s w == z_wl s (f (1 + 8 * b))) = false by simpa using q, Bool.false_and]
    rfl
theorem T_been (W : TKK (hK h) (hR h)) (F : WFS s) (S : TSH h s) (N : TNOW h f) (G : WFN s f) (x : Int32) : X7_been 1349 x h = some (q_been s f x, h) := by
  have h4 := F.2.2.2.2.1
  have h8 := F.2.2.1
  rw [X7_been, tisO W, Option.bind_some, b2_of (T_isBoard W F S x), q_been]
  cases e : inR x (z_nb s) with
  | false => simp [bI]
  | true =>
    obtain ⟨b, h1, rfl⟩ := inR_ex (by omega) e
    rw [if_neg (by decide), if_pos rfl, nt_n (by omega), X7_been_14, ← Ev_is]
    refine ev_for (z_nw s) (fun w st => st = (itr (fun w t => if chb s f b w = true then t ||| jshl 1 (nI w) else t) w 0, nI w, h)) ?_ ?_ 0 _ (Nat.zero_le _) rfl
    · rintro w _ hw rfl
      simp (disch := first | assumption | ((repeat (first | with_reducible refine TKI ?_ | with_reducible refine TKL ?_)); assumption) | omega) only [X7_been_14b, ↓btgI, ↓btpI, ↓btgL, ↓btpL, ↓btisO, tgI, tpI, tgL, tpL, tisO, ↓Option.bind_some, ↓b2_some, ↓bX_l, ↓bX_r, Option.bind_some, Option.bind_none, b2_some, bX_l, bX_r, nn_e, if_true, if_false, reduceCtorEq, ↓reduceIte, Nat.reduceEqDiff, Nat.reduceLT, Nat.reduceLeDiff, Nat.reduceSubDiff, Nat.reduceAdd, Nat.reduceMul, nA1, nA2, nM1, nM2, n_add, n_mul, n_sub, nS1, nS2, nL0, nL1, nL2, nE0, nE1, nE2, nE3, bI_0, bI_1, bI_m, rz_b, rz_0, rz_1, ↓b2_of (T_wordMany W S), hw, ↓b2_of (T_canHaveBeen W F S N G h1 hw)]
      cases e5 : chb s f b w with
      | false =>
        rw [if_pos rfl, Ev_some]
        show _ = ((if chb s f b w = true then _ else _), _, _)
        rw [e5, if_neg (by decide)]
      | true =>
        rw [if_neg (by decide), Ev_some]
        show _ = ((if chb s f b w = true then _ else _), _, _)
        rw [e5, if_pos rfl]
    · rintro _ rfl
      simp (disch := first | assumption | ((repeat (first | with_reducible refine TKI ?_ | with_reducible refine TKL ?_)); assumption) | omega) only [X7_been_14b, ↓btgI, ↓btpI, ↓btgL, ↓btpL, ↓btisO, tgI, tpI, tgL, tpL, tisO, ↓Option.bind_some, ↓b2_some, ↓bX_l, ↓bX_r, Option.bind_some, Option.bind_none, b2_some, bX_l, bX_r, nn_e, if_true, if_false, reduceCtorEq, ↓reduceIte, Nat.reduceEqDiff, Nat.reduceLT, Nat.reduceLeDiff, Nat.reduceSubDiff, Nat.reduceAdd, Nat.reduceMul, nA1, nA2, nM1, nM2, n_add, n_mul, n_sub, nS1, nS2, nL0, nL1, nL2, nE0, nE1, nE2, nE3, bI_0, bI_1, bI_m, rz_b, rz_0, rz_1, ↓b2_of (T_wordMany W S), Nat.lt_irrefl, Ev_some]
theorem T_doesSay (W : TKK (hK h) (hR h)) (F : WFS s) (S : TSH h s) (N : TNOW h f) (G : WFN s f) {b : Nat} (h1 : b < z_nb s) : Ev (X7_doesSay 1349 (nI b) h) (fun z => z.1 = bI (asP s f b) ∧ FT PD2 h z.2) := by
  have h4 := F.2.2.2.2.1
  obtain ⟨g1, g2, -, g3⟩ := G.2.1 b h1
  obtain ⟨w1, w2, w3, -⟩ := F.2.2.2.1 _ g1
  rw [X7_doesSay, X7_doesSay_2]
  refine ev_for (z_wl s (f (1 + 8 * b))) (fun k st => st.1 = nI k ∧ FT PD2 h st.2 ∧ ∀ j, j < k → (sdf s f b j == z_wc s (f (1 + 8 * b)) j) = true) ?_ ?_ 0 _ (Nat.zero_le _) ⟨rfl, FT.refl _ _, fun j q => absurd q (Nat.not_lt_zero _)⟩
  · rintro k ⟨x, H⟩ hk ⟨hx, F2, hj⟩
    simp only at hx F2
    subst hx
    have W2 := F2.tk W
    have S2 := F2.tsh PD2_stn S
    have N2 : TNOW H f := F2.now (by unfold PD2; omega) N
    have c1 := w3 k hk
    have c2 : sdf s f b k ≤ 26 := rd_lt F g2 _ _ (Nat.le_refl _)
    simp (disch := first | assumption | ((repeat (first | with_reducible refine TKI ?_ | with_reducible refine TKL ?_)); assumption) | omega) only [X7_doesSay_2b, ↓btgI, ↓btpI, ↓btgL, ↓btpL, ↓btisO, tgI, tpI, tgL, tpL, tisO, ↓Option.bind_some, ↓b2_some, ↓bX_l, ↓bX_r, Option.bind_some, Option.bind_none, b2_some, bX_l, bX_r, nn_e, if_true, if_false, reduceCtorEq, ↓reduceIte, Nat.reduceEqDiff, Nat.reduceLT, Nat.reduceLeDiff, Nat.reduceSubDiff, Nat.reduceAdd, Nat.reduceMul, nA1, nA2, nM1, nM2, n_add, n_mul, n_sub, nS1, nS2, nL0, nL1, nL2, nE0, nE1, nE2, nE3, bI_0, bI_1, bI_m, rz_b, rz_0, rz_1, ↓b2_of (T_wordOf W2 N2 (show b < 4 by omega)), ↓b2_of (T_longOf W2 F S2 g1), hk, ↓b2_of (T_handOf W2 N2 (show b < 4 by omega)), ↓b2_of (T_glyphAt W2 N2 (show b < 4 by omega) (show k < 6 by omega))]
    rw [Ev_b2]
    refine ev_mono (T_readAs W2 F S2 g2 (g3 k (by omega))) ?_
    rintro ⟨v, H3⟩ ⟨hv, F3⟩
    simp only at hv F3
    subst hv
    have W3 := F3.tk W2
    have S3 := F3.tsh PD2_stn S2
    have N3 : TNOW H3 f := F3.now (by unfold PD2; omega) N2
    have er : rd s (f (2 + 8 * b)) (f (3 + 8 * b + k)) = sdf s f b k := rfl
    simp (disch := first | assumption | ((repeat (first | with_reducible refine TKI ?_ | with_reducible refine TKL ?_)); assumption) | omega) only [↓btgI, ↓btpI, ↓btgL, ↓btpL, ↓btisO, tgI, tpI, tgL, tpL, tisO, ↓Option.bind_some, ↓b2_some, ↓bX_l, ↓bX_r, Option.bind_some, Option.bind_none, b2_some, bX_l, bX_r, nn_e, if_true, if_false, reduceCtorEq, ↓reduceIte, Nat.reduceEqDiff, Nat.reduceLT, Nat.reduceLeDiff, Nat.reduceSubDiff, Nat.reduceAdd, Nat.reduceMul, ↓b2_of (T_wordOf W3 N3 (show b < 4 by omega)), ↓b2_of (T_letterOf W3 F S3 g1 hk), er]
    simp (disch := first | assumption | ((repeat (first | with_reducible refine TKI ?_ | with_reducible refine TKL ?_)); assumption) | omega) only [nE0]
    by_cases e5 : sdf s f b k = z_wc s (f (1 + 8 * b)) k
    · rw [if_pos e5, Ev_some]
      refine ⟨rfl, F2.trans F3, fun j h5 => ?_⟩
      by_cases ej : j = k
      · rw [ej]; simpa using e5
      · exact hj j (by omega)
    · rw [if_neg e5, Ev_some]
      refine ⟨?_, F2.trans F3⟩
      rw [asP, alln_no hk (by simpa using e5)]
      rfl
  · rintro ⟨x, H⟩ ⟨hx, F2, hj⟩
    simp only at hx F2
    subst hx
    have W2 := F2.tk W
    have S2 := F2.tsh PD2_stn S
    have N2 : TNOW H f := F2.now (by unfold PD2; omega) N
    simp (disch := first | assumption | ((repeat (first | with_reducible refine TKI ?_ | with_reducible refine TKL ?_)); assumption) | omega) only [X7_doesSay_2b, ↓btgI, ↓btpI, ↓btgL, ↓btpL, ↓btisO, tgI, tpI, tgL, tpL, tisO, ↓Option.bind_some, ↓b2_some, ↓bX_l, ↓bX_r, Option.bind_some, Option.bind_none, b2_some, bX_l, bX_r, nn_e, if_true, if_false, reduceCtorEq, ↓reduceIte, Nat.reduceEqDiff, Nat.reduceLT, Nat.reduceLeDiff, Nat.reduceSubDiff, Nat.reduceAdd, Nat.reduceMul, nA1, nA2, nM1, nM2, n_add, n_mul, n_sub, nS1, nS2, nL0, nL1, nL2, nE0, nE1, nE2, nE3, bI_0, bI_1, bI_m, rz_b, rz_0, rz_1, ↓b2_of (T_wordOf W2 N2 (show b < 4 by omega)), ↓b2_of (T_longOf W2 F S2 g1), Nat.lt_irrefl]
    rw [Ev_some]
    refine ⟨?_, F2⟩
    rw [asP, (alln_iff _).mpr hj]
    rfl
theorem T_lasts (W : TKK (hK h) (hR h)) (F : WFS s) (S : TSH h s) (N : TNOW h f) (G : WFN s f) (h66 : hI h 1349 66 = 0) (x : Int32) : Ev (X7_lasts 1349 x h) (fun z => z.1 = q_lasts s f x ∧ FT PDX h z.2 ∧ TNOW z.2 f ∧ hI z.2 1349 66 = 0) := by
  have h4 := F.2.2.2.2.1
  rw [X7_lasts, tisO W, Option.bind_some, b2_of (T_isBoard W F S x), q_lasts]
  cases e : inR x (z_nb s) with
  | false => rw [if_pos (show bI false = 0 from rfl), Ev_some]; exact ⟨rfl, FT.refl _ _, N, h66⟩
  | true =>
    obtain ⟨b, h1, rfl⟩ := inR_ex (by omega) e
    rw [if_neg (by decide), if_pos rfl, nt_n (by omega), tisO W, Option.bind_some, Ev_b2]
    refine ev_mono (T_doesSay W F S N G h1) ?_
    rintro ⟨v, H1⟩ ⟨hv, F1⟩
    simp only at hv F1
    subst hv
    have W1 := F1.tk W
    have S1 := F1.tsh PD2_stn S
    have N1 : TNOW H1 f := F1.now (by unfold PD2; omega) N
    simp only
    cases e2 : asP s f b with
    | false =>
      rw [if_pos (show bI false = 0 from rfl), Ev_some]
      exact ⟨rfl, F1.mono PD2_X, N1, (F1.i (by unfold PD2; omega)).trans h66⟩
    | true =>
      rw [if_neg (by decide), if_pos rfl, tisO W1, Option.bind_some, Ev_bind]
      refine ev_mono (T_putsAside W1 N1) ?_
      rintro H2 ⟨F2, e66, A2⟩
      have W2 := F2.tk W1
      have S2 : TSH H2 s := F2.tsh (fun a k z => by unfold Stn at z; omega) S1
      have N2 : TNOW H2 f := F2.now (by omega) N1
      have F20 : FT PDX h H2 := (F1.mono PD2_X).trans (F2.mono (fun a k z => by unfold PDX PD9; omega))
      rw [X7_lasts_24]
      refine ev_for 60 (fun n st => st.1 = nI n ∧ FT PDX h st.2 ∧ TNOW st.2 (yts s n f) ∧ hI st.2 1349 66 = 1 ∧ (∀ k, k < 33 → hI st.2 1390 k = nI (f k)) ∧ f 0 + n ≤ 999 ∧ lst s f b 61 0 = lst s f b (61 - n) n) ?_ ?_ 0 _ (by decide) ⟨rfl, F20, N2, e66, A2, G.1, rfl⟩
      · rintro n ⟨y, H3⟩ hn ⟨hy, F3, N3, e3, A3, y3, l3⟩
        simp only at hy F3 N3 e3 A3
        subst hy
        have W3 := F3.tk W
        have S3 := F3.tsh PDX_stn S
        obtain ⟨G3, z3⟩ := yts_ok F G n y3
        have e0 : hI H3 1389 0 = nI (f 0 + n) := by rw [N3 0 (by decide), z3]
        have back : ∀ (H4 : AH) (m : Nat), FT PDX h H4 → TNOW H4 (yts s m f) → f 0 + m ≤ 999 → (∀ k, k < 33 → hI H4 1390 k = nI (f k)) → lst s f b 61 0 = n → Ev (X7_lasts_63 1349 (nI n) H4) (fun z => z.1 = nI (lst s f b 61 0) ∧ FT PDX h z.2 ∧ TNOW z.2 f ∧ hI z.2 1349 66 = 0) := by
          intro H4 m F4 N4 ym A4 el
          have W4 := F4.tk W
          rw [X7_lasts_63, tisO W4, Option.bind_some, Ev_bind]
          refine ev_mono (T_takesBack W4 (g := f) A4 (fun k q1 q2 => by rw [N4 k q2, yts_lo F G (by omega) (by omega) m ym])) ?_
          rintro H5 ⟨F5, e5, N5⟩
          rw [Ev_some, el]
          exact ⟨rfl, F4.trans (F5.mono (fun a k z => by unfold PDX PD9; omega)), N5, e5⟩
        have l4 : lst s f b (61 - n) n = if f 0 + n < 999 then (if asP s (yts s (n + 1) f) b = true then lst s f b (60 - n) (n + 1) else n) else n := by
          rw [show 61 - n = (60 - n) + 1 by omega, lst]
          by_cases q : f 0 + n < 999
          · rw [if_pos ⟨hn, q⟩, if_pos q]
          · rw [if_neg (fun z => q z.2), if_neg q]
        simp (disch := first | assumption | ((repeat (first | with_reducible refine TKI ?_ | with_reducible refine TKL ?_)); assumption) | omega) only [X7_lasts_24b, X7_lasts_54, ↓btgI, ↓btpI, ↓btgL, ↓btpL, ↓btisO, tgI, tpI, tgL, tpL, tisO, ↓btg_57, tg_57, ↓btx_1389, tx_1389, ↓bts_1389, ts_1389, ↓btxl_1389, txl_1389, ↓btsl_1389, tsl_1389, ↓Option.bind_some, ↓b2_some, ↓bX_l, ↓bX_r, Option.bind_some, Option.bind_none, b2_some, bX_l, bX_r, nn_e, if_true, if_false, reduceCtorEq, ↓reduceIte, Nat.reduceEqDiff, Nat.reduceLT, Nat.reduceLeDiff, Nat.reduceSubDiff, Nat.reduceAdd, Nat.reduceMul, nA1, nA2, nM1, nM2, n_add, n_mul, n_sub, nS1, nS2, nL0, nL1, nL2, nE0, nE1, nE2, nE3, bI_0, bI_1, bI_m, rz_b, rz_0, rz_1, hn, e0]
        by_cases q : f 0 + n < 999
        · rw [if_pos q] at l4 ⊢
          rw [Ev_bind]
          refine ev_mono (T_yearGoes1 W3 F S3 N3 G3 e3) ?_
          rintro H4 ⟨F4, N4⟩
          have W4 := F4.tk W3
          have S4 := F4.tsh PD4_stn S3
          have N4' : TNOW H4 (yts s (n + 1) f) := N4
          obtain ⟨G4, z4⟩ := yts_ok F G (n + 1) (by omega)
          rw [btisO W4, Ev_b2]
          refine ev_mono (T_doesSay W4 F S4 N4' G4 h1) ?_
          rintro ⟨v, H5⟩ ⟨hv, F5⟩
          simp only at hv F5
          subst hv
          have F6 : FT PDX h H5 := (F3.trans (F4.mono PD4_X)).trans (F5.mono PD2_X)
          have N6 : TNOW H5 (yts s (n + 1) f) := F5.now (by unfold PD2; omega) N4'
          have A6 : ∀ k, k < 33 → hI H5 1390 k = nI (f k) := fun k q => by rw [F5.i (by unfold PD2; omega), F4.i (by unfold PD4 PD3; omega)]; exact A3 k q
          have e6 : hI H5 1349 66 = 1 := by rw [F5.i (by unfold PD2; omega), F4.i (by unfold PD4 PD3; omega)]; exact e3
          simp only
          cases e7 : asP s (yts s (n + 1) f) b with
          | false =>
            rw [e7, if_neg (by decide)] at l4
            rw [if_pos (show bI false = 0 from rfl)]
            obtain ⟨z, ez, pz⟩ := back H5 (n + 1) F6 N6 (by omega) A6 (l3.trans l4)
            rw [ez, Option.bind_some, Ev_some]
            exact pz
          | true =>
            rw [e7, if_pos rfl] at l4
            rw [if_neg (by decide), Ev_some]
            refine ⟨rfl, F6, N6, e6, A6, by omega, ?_⟩
            rw [l3, l4]
        · rw [if_neg q] at l4 ⊢
          obtain ⟨z, ez, pz⟩ := back H3 n F3 N3 y3 A3 (l3.trans l4)
          rw [ez, Option.bind_some, Ev_some]
          exact pz
      · rintro ⟨y, H3⟩ ⟨hy, F3, N3, e3, A3, y3, l3⟩
        simp only at hy F3 N3 e3 A3
        subst hy
        have W3 := F3.tk W
        have l4 : lst s f b (61 - 60) 60 = 60 := by
          show lst s f b 1 60 = 60
          rw [lst, if_neg (by omega)]
        simp (disch := first | assumption | ((repeat (first | with_reducible refine TKI ?_ | with_reducible refine TKL ?_)); assumption) | omega) only [X7_lasts_24b, X7_lasts_63, ↓btgI, ↓btpI, ↓btgL, ↓btpL, ↓btisO, tgI, tpI, tgL, tpL, tisO, ↓btg_57, tg_57, ↓btx_1389, tx_1389, ↓bts_1389, ts_1389, ↓btxl_1389, txl_1389, ↓btsl_1389, tsl_1389, ↓Option.bind_some, ↓b2_some, ↓bX_l, ↓bX_r, Option.bind_some, Option.bind_none, b2_some, bX_l, bX_r, nn_e, if_true, if_false, reduceCtorEq, ↓reduceIte, Nat.reduceEqDiff, Nat.reduceLT, Nat.reduceLeDiff, Nat.reduceSubDiff, Nat.reduceAdd, Nat.reduceMul, nA1, nA2, nM1, nM2, n_add, n_mul, n_sub, nS1, nS2, nL0, nL1, nL2, nE0, nE1, nE2, nE3, bI_0, bI_1, bI_m, rz_b, rz_0, rz_1, Nat.lt_irrefl]
        simp only [Ev_bind, Ev_some]
        refine ev_mono (T_takesBack W3 (g := f) A3 (fun k q1 q2 => by rw [N3 k q2, yts_lo F G (by omega) (by omega) 60 y3])) ?_
        rintro H5 ⟨F5, e5, N5⟩
        rw [l3, l4]
        exact ⟨rfl, F3.trans (F5.mono (fun a k z => by unfold PDX PD9; omega)), N5, e5⟩
end Worn
