set_option maxRecDepth 100000
/-! ===== lines that are asked for: the answers, and the twin's ===== -/
def cp2 (s : SH) (one oth hd : Nat) : Bool := cp s one hd && cp s oth hd
def isW2 (s : SH) (x y : Int32) : Bool := inR x (z_nw s) && inR y (z_nw s)
def q_line (s : SH) (x y hd w : Int32) : Int32 := if isW2 s x y = true then (if inR hd 2 = true then (if inR w 3 = true then (if cp2 s (nt x) (nt y) (nt hd) = true then
    (if w = 0 then nI (lq s (nt x) (nt y) (nt hd) 0 0).1 else if w = 1 then nI (lq s (nt x) (nt y) (nt hd) 0 0).2 else nI (pcs s (nt x) (nt y) (nt hd) 13 0 0).length) else -1) else -1) else -1) else -1
def q_piece (s : SH) (x y hd k w : Int32) : Int32 := if isW2 s x y = true then (if inR hd 2 = true then (if inR w 2 = true then (if cp2 s (nt x) (nt y) (nt hd) = true then (if inR k (pcs s (nt x) (nt y) (nt hd) 13 0 0).length = true then
    (if w = 0 then nI ((pcs s (nt x) (nt y) (nt hd) 13 0 0).getD (nt k) (0, 0)).1 else nI ((pcs s (nt x) (nt y) (nt hd) 13 0 0).getD (nt k) (0, 0)).2) else -1) else -1) else -1) else -1) else -1
def bs1 (s : SH) (w v : Nat) (p : Nat × Nat) : Nat × Nat := if (lq s w v 0 0 0).1 < p.2 then (v, (lq s w v 0 0 0).1) else p
/-- the word that a line is least in doubt with -/
def q_best (s : SH) (x : Int32) : Int32 := if inR x (z_nw s) = true then nI (itr (bs1 s (nt x)) (z_nw s) (0, 100000000)).1 else -1
def q_hand (s : SH) (x y : Int32) : Int32 := if isW2 s x y = true then bI (cp2 s (nt x) (nt y) 1 && decide ((lq s (nt x) (nt y) 1 0 0).1 < (lq s (nt x) (nt y) 0 0 0).1)) else -1
section Line2
variable {h : AH} {s : SH}
theorem pcs_len {one oth hd : Nat} : ∀ q i j, i ≤ z_wl s one → j ≤ z_wl s oth → (pcs s one oth hd q i j).length ≤ (z_wl s one - i) + (z_wl s oth - j)
  | 0, i, j, _, _ => by simp [pcs]
  | q + 1, i, j, hi, hj => by
    rw [pcs]
    cases e : lb s one oth hd i j with
    | none => simp
    | some p =>
      obtain ⟨k, d, n⟩ := p
      have c := bst_cand 6 _ e
      simp only at c ⊢
      unfold cand at c
      split
      · rename_i q4
        rw [if_pos q4] at c
        split at c
        · have := pcs_len (one := one) (oth := oth) (hd := hd) q (i + 1) (j + 1) (by omega) (by omega)
          rw [List.length_cons]; omega
        · cases c
      · rename_i q4
        rw [if_neg q4] at c
        split
        · rename_i q5
          rw [if_pos q5] at c
          split at c
          · have := pcs_len (one := one) (oth := oth) (hd := hd) q (i + 1) j (by omega) (by omega)
            rw [List.length_cons]; omega
          · cases c
        · rename_i q5
          rw [if_neg q5] at c
          split at c
          · have := pcs_len (one := one) (oth := oth) (hd := hd) q i (j + 1) (by omega) (by omega)
            rw [List.length_cons]; omega
          · cases c
theorem T_laysLine (W : TKK (hK h) (hR h)) (F : WFS s) (S : TSH h s) {one oth hd : Nat} (h1 : one < z_nw s) (h2 : oth < z_nw s) (h3 : hd < 2) :
    Ev (X7_laysLine 1349 (nI one) (nI oth) (nI hd) h) (fun H => FT PDM h H ∧ (cp2 s one oth hd = true → TLN H s one oth hd (fun _ _ => True) ∧ TPC H (pcs s one oth hd 13 0 0)) ∧ (cp2 s one oth hd = false → hI H 1393 0 = -1 ∧ hI H 1349 74 = 0)) := by
  have W1 : TKK (hK (wI 1349 74 0 h)) (hR (wI 1349 74 0 h)) := W
  have S1 : TSH (wI 1349 74 0 h) s := S.wI (by unfold Stn; omega)
  have F1 : FT PDM h (wI 1349 74 0 h) := (FT.refl _ _).wI (by unfold PDM; omega)
  simp (disch := first | assumption | ((repeat (first | with_reducible refine TKI ?_ | with_reducible refine TKL ?_)); assumption) | omega) only [X7_laysLine, X7_laysLine_37, ↓btgI, ↓btpI, ↓btgL, ↓btpL, ↓btisO, tgI, tpI, tgL, tpL, tisO, ↓btg_70, tg_70, ↓btx_1393, tx_1393, ↓bts_1393, ts_1393, ↓btxl_1393, txl_1393, ↓btsl_1393, tsl_1393, ↓Option.bind_some, ↓b2_some, ↓bX_l, ↓bX_r, Option.bind_some, Option.bind_none, b2_some, bX_l, bX_r, nn_e, if_true, if_false, reduceCtorEq, ↓reduceIte, Nat.reduceEqDiff, Nat.reduceLT, Nat.reduceLeDiff, Nat.reduceSubDiff, Nat.reduceAdd, Nat.reduceMul, ↓b2_of (T_longOf W F S h1), ↓b2_of (T_longOf W F S h2), ↓b2_of (T_canPaint W1 F S1 h1 h3), ↓b2_of (T_canPaint W1 F S1 h2 h3)]
  have no : cp2 s one oth hd = false → Ev (some (wI 1393 0 (-1) (wI 1349 74 0 h))) (fun H => FT PDM h H ∧ (cp2 s one oth hd = true → TLN H s one oth hd (fun _ _ => True) ∧ TPC H (pcs s one oth hd 13 0 0)) ∧ (cp2 s one oth hd = false → hI H 1393 0 = -1 ∧ hI H 1349 74 = 0)) := by
    intro q
    rw [Ev_some]
    refine ⟨F1.wI (by unfold PDM; omega), fun z => (by rw [q] at z; cases z), fun _ => ⟨rfl, rfl⟩⟩
  cases e1 : cp s one hd with
  | false =>
    rw [if_pos (show bI false = 0 from rfl)]
    exact no (by rw [cp2, e1]; rfl)
  | true =>
    rw [if_neg (by decide)]
    cases e2 : cp s oth hd with
    | false =>
      rw [if_pos (show bI false = 0 from rfl)]
      exact no (by rw [cp2, e1, e2]; rfl)
    | true =>
      rw [if_neg (by decide)]
      refine T_table W1 F S1 h1 h2 h3 e1 e2 ?_
      intro H F2 e74 L
      have W2 := F2.tk W1
      have S2 := F2.tsh PDM_stn S1
      refine ev_mono (T_pieces W2 F S2 h1 h2 h3 e1 e2 e74 L) ?_
      rintro H3 ⟨F3, P3⟩
      refine ⟨(F1.trans F2).trans (F3.mono (fun a k z => by unfold PDM; omega)), fun _ => ⟨fun i j q a b => ?_, P3⟩, fun z => by rw [cp2, e1, e2] at z; cases z⟩
      rw [F3.i (by omega), F3.i (by omega), F3.i (by omega)]
      exact L i j q a b
theorem T_areWords (W : TKK (hK h) (hR h)) (F : WFS s) (S : TSH h s) (x y : Int32) : X7_areWords 1349 x y h = some (bI (isW2 s x y), h) := by
  rw [X7_areWords, tisO W, Option.bind_some, b2_of (T_isWord W F S x), isW2]
  cases e : inR x (z_nw s) with
  | false => simp [bI]
  | true =>
    rw [if_neg (by decide), tisO W, Option.bind_some, b2_of (T_isWord W F S y)]
    cases e2 : inR y (z_nw s) <;> simp [bI]
theorem isW2_ex (F : WFS s) {x y : Int32} (e : isW2 s x y = true) : ∃ one oth, x = nI one ∧ y = nI oth ∧ one < z_nw s ∧ oth < z_nw s ∧ one < 100 ∧ oth < 100 := by
  have q := F.2.2.1
  rw [isW2, Bool.and_eq_true] at e
  obtain ⟨a, h1, rfl⟩ := inR_ex (by omega) e.1
  obtain ⟨b, h2, rfl⟩ := inR_ex (by omega) e.2
  exact ⟨a, b, rfl, rfl, h1, h2, by omega, by omega⟩
theorem T_line (W : TKK (hK h) (hR h)) (F : WFS s) (S : TSH h s) (x y hd w : Int32) : Ev (X7_line 1349 x y hd w h) (fun z => z.1 = q_line s x y hd w ∧ FT PDM h z.2) := by
  rw [X7_line, tisO W, Option.bind_some, b2_of (T_areWords W F S x y), q_line]
  cases e : isW2 s x y with
  | false => rw [if_pos (show bI false = 0 from rfl), Ev_some]; exact ⟨rfl, FT.refl _ _⟩
  | true =>
    obtain ⟨one, oth, rfl, rfl, h1, h2, b1, b2⟩ := isW2_ex F e
    rw [if_neg (by decide), if_pos rfl, tisO W, Option.bind_some, b2_of (T_isHand hd)]
    cases e2 : inR hd 2 with
    | false => rw [if_pos (show bI false = 0 from rfl), Ev_some]; exact ⟨rfl, FT.refl _ _⟩
    | true =>
      obtain ⟨hd, h3, rfl⟩ := inR_ex (by decide) e2
      rw [if_neg (by decide), if_pos rfl, b2_of (T_isIn _ _ _ h), show ((2 : Int64)) = Int64.ofNat 2 from rfl, b_inL (by decide)]
      cases e3 : inR w 3 with
      | false => rw [if_pos (show bI false = 0 from rfl), Ev_some]; exact ⟨rfl, FT.refl _ _⟩
      | true =>
        rw [if_neg (by decide), if_pos rfl, nt_n (by omega), nt_n (by omega), nt_n (by omega), tisO W, Option.bind_some, Ev_bind]
        refine ev_mono (T_laysLine W F S h1 h2 h3) ?_
        rintro H ⟨F2, A2, B2⟩
        have W2 := F2.tk W
        have lq0 := lq_le F one oth hd 0 0
        simp (disch := first | assumption | ((repeat (first | with_reducible refine TKI ?_ | with_reducible refine TKL ?_)); assumption) | omega) only [↓btgI, ↓btpI, ↓btgL, ↓btpL, ↓btisO, tgI, tpI, tgL, tpL, tisO, ↓btg_70, tg_70, ↓btx_1393, tx_1393, ↓bts_1393, ts_1393, ↓btxl_1393, txl_1393, ↓btsl_1393, tsl_1393, ↓btg_71, tg_71, ↓btx_1394, tx_1394, ↓bts_1394, ts_1394, ↓btxl_1394, txl_1394, ↓btsl_1394, tsl_1394, ↓Option.bind_some, ↓b2_some, ↓bX_l, ↓bX_r, Option.bind_some, Option.bind_none, b2_some, bX_l, bX_r, nn_e, if_true, if_false, reduceCtorEq, ↓reduceIte, Nat.reduceEqDiff, Nat.reduceLT, Nat.reduceLeDiff, Nat.reduceSubDiff, Nat.reduceAdd, Nat.reduceMul]
        cases e4 : cp2 s one oth hd with
        | false =>
          rw [(B2 e4).1, if_pos rfl, Ev_some]; exact ⟨rfl, F2⟩
        | true =>
          obtain ⟨L2, P2⟩ := A2 e4
          obtain ⟨l1, l2, -⟩ := L2 0 0 trivial (Nat.zero_le _) (Nat.zero_le _)
          rw [l1, l2, if_neg (by rw [nE2 (by omega)]; exact fun x => x), P2.1, if_pos rfl]
          by_cases q0 : w = 0
          · rw [if_pos q0, if_pos q0, Ev_some]; exact ⟨rfl, F2⟩
          · rw [if_neg q0, if_neg q0]
            by_cases q1 : w = 1
            · rw [if_pos q1, if_pos q1, Ev_some]; exact ⟨rfl, F2⟩
            · rw [if_neg q1, if_neg q1, Ev_some]; exact ⟨rfl, F2⟩
theorem T_piece (W : TKK (hK h) (hR h)) (F : WFS s) (S : TSH h s) (x y hd k w : Int32) : Ev (X7_piece 1349 x y hd k w h) (fun z => z.1 = q_piece s x y hd k w ∧ FT PDM h z.2) := by
  rw [X7_piece, tisO W, Option.bind_some, b2_of (T_areWords W F S x y), q_piece]
  cases e : isW2 s x y with
  | false => rw [if_pos (show bI false = 0 from rfl), Ev_some]; exact ⟨rfl, FT.refl _ _⟩
  | true =>
    obtain ⟨one, oth, rfl, rfl, h1, h2, b1, b2⟩ := isW2_ex F e
    obtain ⟨w1, w2, w3, -⟩ := F.2.2.2.1 one h1
    obtain ⟨v1, v2, v3, -⟩ := F.2.2.2.1 oth h2
    rw [if_neg (by decide), if_pos rfl, tisO W, Option.bind_some, b2_of (T_isHand hd)]
    cases e2 : inR hd 2 with
    | false => rw [if_pos (show bI false = 0 from rfl), Ev_some]; exact ⟨rfl, FT.refl _ _⟩
    | true =>
      obtain ⟨hd, h3, rfl⟩ := inR_ex (by decide) e2
      rw [if_neg (by decide), if_pos rfl, b2_of (T_isIn _ _ _ h), show ((1 : Int64)) = Int64.ofNat 1 from rfl, b_inL (by decide)]
      cases e3 : inR w 2 with
      | false => rw [if_pos (show bI false = 0 from rfl), Ev_some]; exact ⟨rfl, FT.refl _ _⟩
      | true =>
        rw [if_neg (by decide), if_pos rfl, nt_n (by omega), nt_n (by omega), nt_n (by omega), tisO W, Option.bind_some, Ev_bind]
        refine ev_mono (T_laysLine W F S h1 h2 h3) ?_
        rintro H ⟨F2, A2, B2⟩
        have W2 := F2.tk W
        have pl := pcs_len (s := s) (one := one) (oth := oth) (hd := hd) 13 0 0 (Nat.zero_le _) (Nat.zero_le _)
        rw [tgI W2, Option.bind_some]
        cases e4 : cp2 s one oth hd with
        | false =>
          rw [(B2 e4).2, show (0 : Int32) - 1 = nI 0 - 1 from rfl, b2_of (T_isIn _ _ _ H), b_inR (by decide)]
          have : inR k 0 = false := by simp only [inR, decide_eq_false_iff_not]; omega
          rw [this, if_pos (show bI false = 0 from rfl), Ev_some]; exact ⟨rfl, F2⟩
        | true =>
          obtain ⟨L2, P2⟩ := A2 e4
          rw [P2.1, b2_of (T_isIn _ _ _ H), b_inR (by omega), if_pos rfl]
          cases e5 : inR k (pcs s one oth hd 13 0 0).length with
          | false => rw [if_pos (show bI false = 0 from rfl), Ev_some]; exact ⟨rfl, F2⟩
          | true =>
            obtain ⟨k, hk, rfl⟩ := inR_ex (by omega) e5
            rw [if_neg (by decide), if_pos rfl, nt_n (by omega)]
            obtain ⟨p1, p2⟩ := P2.2 k hk
            simp (disch := first | assumption | ((repeat (first | with_reducible refine TKI ?_ | with_reducible refine TKL ?_)); assumption) | omega) only [↓btgI, ↓btpI, ↓btgL, ↓btpL, ↓btisO, tgI, tpI, tgL, tpL, tisO, ↓btg_75, tg_75, ↓btx_1397, tx_1397, ↓bts_1397, ts_1397, ↓btxl_1397, txl_1397, ↓btsl_1397, tsl_1397, ↓btg_76, tg_76, ↓btx_1398, tx_1398, ↓bts_1398, ts_1398, ↓btxl_1398, txl_1398, ↓btsl_1398, tsl_1398, ↓Option.bind_some, ↓b2_some, ↓bX_l, ↓bX_r, Option.bind_some, Option.bind_none, b2_some, bX_l, bX_r, nn_e, if_true, if_false, reduceCtorEq, ↓reduceIte, Nat.reduceEqDiff, Nat.reduceLT, Nat.reduceLeDiff, Nat.reduceSubDiff, Nat.reduceAdd, Nat.reduceMul, p1, p2]
            by_cases q0 : w = 0
            · rw [if_pos q0, if_pos q0, Ev_some]; exact ⟨rfl, F2⟩
            · rw [if_neg q0, if_neg q0, Ev_some]; exact ⟨rfl, F2⟩
theorem cp2_0 (F : WFS s) {one oth : Nat} (h1 : one < z_nw s) (h2 : oth < z_nw s) : cp2 s one oth 0 = true := by rw [cp2, (F.2.2.2.1 one h1).2.2.2, (F.2.2.2.1 oth h2).2.2.2]; rfl
theorem T_best (W : TKK (hK h) (hR h)) (F : WFS s) (S : TSH h s) (x : Int32) : Ev (X7_best 1349 x h) (fun z => z.1 = q_best s x ∧ FT PDM h z.2) := by
  have q8 := F.2.2.1
  rw [X7_best, tisO W, Option.bind_some, b2_of (T_isWord W F S x), q_best]
  cases e : inR x (z_nw s) with
  | false => rw [if_pos (show bI false = 0 from rfl), Ev_some]; exact ⟨rfl, FT.refl _ _⟩
  | true =>
    obtain ⟨w, h1, rfl⟩ := inR_ex (by omega) e
    rw [if_neg (by decide), if_pos rfl, nt_n (by omega), X7_best_18]
    refine ev_for (z_nw s) (fun v st => st.2.2.1 = nI v ∧ FT PDM h st.2.2.2 ∧ ((v = 0 ∧ st.1 = -1) ∨ ∃ b l, b < 100 ∧ l ≤ 3000 ∧ st.1 = nI b ∧ st.2.1 = nI l ∧ itr (bs1 s w) v (0, 100000000) = (b, l))) ?_ ?_ 0 _ (Nat.zero_le _) ⟨rfl, FT.refl _ _, Or.inl ⟨rfl, rfl⟩⟩
    · rintro v ⟨b, l, y, H⟩ hv ⟨hy, F2, hb⟩
      simp only at hy F2 hb
      subst hy
      have W2 := F2.tk W
      have S2 := F2.tsh PDM_stn S
      have z0 : X7_laysLine 1349 (nI w) (nI v) 0 H = X7_laysLine 1349 (nI w) (nI v) (nI 0) H := rfl
      simp (disch := first | assumption | ((repeat (first | with_reducible refine TKI ?_ | with_reducible refine TKL ?_)); assumption) | omega) only [X7_best_18b, ↓btgI, ↓btpI, ↓btgL, ↓btpL, ↓btisO, tgI, tpI, tgL, tpL, tisO, ↓btg_70, tg_70, ↓btx_1393, tx_1393, ↓bts_1393, ts_1393, ↓btxl_1393, txl_1393, ↓btsl_1393, tsl_1393, ↓Option.bind_some, ↓b2_some, ↓bX_l, ↓bX_r, Option.bind_some, Option.bind_none, b2_some, bX_l, bX_r, nn_e, if_true, if_false, reduceCtorEq, ↓reduceIte, Nat.reduceEqDiff, Nat.reduceLT, Nat.reduceLeDiff, Nat.reduceSubDiff, Nat.reduceAdd, Nat.reduceMul, nA1, nA2, nM1, nM2, n_add, n_mul, n_sub, nS1, nS2, nL0, nL1, nL2, nE0, nE1, nE2, nE3, bI_0, bI_1, bI_m, rz_b, rz_0, rz_1, ↓b2_of (T_wordMany W2 S2), hv, z0, Ev_bind]
      refine ev_mono (T_laysLine W2 F S2 h1 hv (by decide)) ?_
      rintro H3 ⟨F3, A3, -⟩
      obtain ⟨l1, -, -⟩ := (A3 (cp2_0 F h1 hv)).1 0 0 trivial (Nat.zero_le _) (Nat.zero_le _)
      have l1' : hI H3 1393 0 = nI (lq s w v 0 0 0).1 := l1
      have W3 := F3.tk W2
      have lq0 := lq_le F w v 0 0 0
      have tk : (lq s w v 0 0 0).1 < (itr (bs1 s w) v (0, 100000000)).2 → itr (bs1 s w) (v + 1) (0, 100000000) = (v, (lq s w v 0 0 0).1) := fun z => by rw [itr, bs1, if_pos z]
      have kp : ¬ (lq s w v 0 0 0).1 < (itr (bs1 s w) v (0, 100000000)).2 → itr (bs1 s w) (v + 1) (0, 100000000) = itr (bs1 s w) v (0, 100000000) := fun z => by rw [itr, bs1, if_neg z]
      simp (disch := first | assumption | ((repeat (first | with_reducible refine TKI ?_ | with_reducible refine TKL ?_)); assumption) | omega) only [X7_best_53, ↓btgI, ↓btpI, ↓btgL, ↓btpL, ↓btisO, tgI, tpI, tgL, tpL, tisO, ↓btg_70, tg_70, ↓btx_1393, tx_1393, ↓bts_1393, ts_1393, ↓btxl_1393, txl_1393, ↓btsl_1393, tsl_1393, ↓Option.bind_some, ↓b2_some, ↓bX_l, ↓bX_r, Option.bind_some, Option.bind_none, b2_some, bX_l, bX_r, nn_e, if_true, if_false, reduceCtorEq, ↓reduceIte, Nat.reduceEqDiff, Nat.reduceLT, Nat.reduceLeDiff, Nat.reduceSubDiff, Nat.reduceAdd, Nat.reduceMul, nA1, nA2, nM1, nM2, n_add, n_mul, n_sub, nS1, nS2, nL0, nL1, nL2, nE0, nE1, nE2, nE3, bI_0, bI_1, bI_m, rz_b, rz_0, rz_1, l1']
      rcases hb with ⟨hv0, hb⟩ | ⟨b0, l0, hb0, hl0, rfl, rfl, hi⟩
      · subst hb hv0
        rw [if_pos rfl, Ev_some]
        exact ⟨rfl, F2.trans F3, Or.inr ⟨0, _, by omega, by omega, rfl, rfl, tk (by show _ < 100000000; omega)⟩⟩
      · rw [hi] at tk kp
        rw [if_neg (by rw [nE2 (by omega)]; exact fun x => x)]
        simp (disch := first | assumption | ((repeat (first | with_reducible refine TKI ?_ | with_reducible refine TKL ?_)); assumption) | omega) only [nA1, nA2, nM1, nM2, n_add, n_mul, n_sub, nS1, nS2, nL0, nL1, nL2, nE0, nE1, nE2, nE3, bI_0, bI_1, bI_m, rz_b, rz_0, rz_1]
        by_cases q : (lq s w v 0 0 0).1 < l0
        · rw [if_pos q, Ev_some]
          exact ⟨rfl, F2.trans F3, Or.inr ⟨v, _, by omega, by omega, rfl, rfl, tk q⟩⟩
        · rw [if_neg q, Ev_some]
          exact ⟨rfl, F2.trans F3, Or.inr ⟨b0, l0, hb0, hl0, rfl, rfl, kp q⟩⟩
    · rintro ⟨b, l, y, H⟩ ⟨hy, F2, hb⟩
      simp only at hy F2 hb
      subst hy
      have W2 := F2.tk W
      have S2 := F2.tsh PDM_stn S
      simp (disch := first | assumption | ((repeat (first | with_reducible refine TKI ?_ | with_reducible refine TKL ?_)); assumption) | omega) only [X7_best_18b, ↓btgI, ↓btpI, ↓btgL, ↓btpL, ↓btisO, tgI, tpI, tgL, tpL, tisO, ↓btg_70, tg_70, ↓btx_1393, tx_1393, ↓bts_1393, ts_1393, ↓btxl_1393, txl_1393, ↓btsl_1393, tsl_1393, ↓Option.bind_some, ↓b2_some, ↓bX_l, ↓bX_r, Option.bind_some, Option.bind_none, b2_some, bX_l, bX_r, nn_e, if_true, if_false, reduceCtorEq, ↓reduceIte, Nat.reduceEqDiff, Nat.reduceLT, Nat.reduceLeDiff, Nat.reduceSubDiff, Nat.reduceAdd, Nat.reduceMul, nA1, nA2, nM1, nM2, n_add, n_mul, n_sub, nS1, nS2, nL0, nL1, nL2, nE0, nE1, nE2, nE3, bI_0, bI_1, bI_m, rz_b, rz_0, rz_1, ↓b2_of (T_wordMany W2 S2), Nat.lt_irrefl]
      rw [Ev_some]
      rcases hb with ⟨hv0, hb⟩ | ⟨b0, l0, hb0, hl0, rfl, rfl, hi⟩
      · omega
      · rw [hi]; exact ⟨rfl, F2⟩
theorem T_hand (W : TKK (hK h) (hR h)) (F : WFS s) (S : TSH h s) (x y : Int32) : Ev (X7_hand 1349 x y h) (fun z => z.1 = q_hand s x y ∧ FT PDM h z.2) := by
  rw [X7_hand, tisO W, Option.bind_some, b2_of (T_areWords W F S x y), q_hand]
  cases e : isW2 s x y with
  | false => rw [if_pos (show bI false = 0 from rfl), Ev_some]; exact ⟨rfl, FT.refl _ _⟩
  | true =>
    obtain ⟨one, oth, rfl, rfl, h1, h2, b1, b2⟩ := isW2_ex F e
    rw [if_neg (by decide), if_pos rfl, nt_n (by omega), nt_n (by omega), tisO W, Option.bind_some, show X7_laysLine 1349 (nI one) (nI oth) 0 h = X7_laysLine 1349 (nI one) (nI oth) (nI 0) h from rfl, Ev_bind]
    refine ev_mono (T_laysLine W F S h1 h2 (by decide)) ?_
    rintro H ⟨F2, A2, -⟩
    have W2 := F2.tk W
    have S2 := F2.tsh PDM_stn S
    obtain ⟨l1, -, -⟩ := (A2 (cp2_0 F h1 h2)).1 0 0 trivial (Nat.zero_le _) (Nat.zero_le _)
    have l1' : hI H 1393 0 = nI (lq s one oth 0 0 0).1 := l1
    have z1 : X7_laysLine 1349 (nI one) (nI oth) 1 H = X7_laysLine 1349 (nI one) (nI oth) (nI 1) H := rfl
    simp (disch := first | assumption | ((repeat (first | with_reducible refine TKI ?_ | with_reducible refine TKL ?_)); assumption) | omega) only [↓btgI, ↓btpI, ↓btgL, ↓btpL, ↓btisO, tgI, tpI, tgL, tpL, tisO, ↓btg_70, tg_70, ↓btx_1393, tx_1393, ↓bts_1393, ts_1393, ↓btxl_1393, txl_1393, ↓btsl_1393, tsl_1393, ↓Option.bind_some, ↓b2_some, ↓bX_l, ↓bX_r, Option.bind_some, Option.bind_none, b2_some, bX_l, bX_r, nn_e, if_true, if_false, reduceCtorEq, ↓reduceIte, Nat.reduceEqDiff, Nat.reduceLT, Nat.reduceLeDiff, Nat.reduceSubDiff, Nat.reduceAdd, Nat.reduceMul, l1', z1]
    rw [Ev_bind]
    refine ev_mono (T_laysLine W2 F S2 h1 h2 (by decide)) ?_
    rintro H3 ⟨F3, A3, B3⟩
    have W3 := F3.tk W2
    have lq0 := lq_le F one oth 0 0 0
    have lq1 := lq_le F one oth 1 0 0
    cases e4 : cp2 s one oth 1 with
    | false =>
      simp (disch := first | assumption | ((repeat (first | with_reducible refine TKI ?_ | with_reducible refine TKL ?_)); assumption) | omega) only [↓btgI, ↓btpI, ↓btgL, ↓btpL, ↓btisO, tgI, tpI, tgL, tpL, tisO, ↓btg_70, tg_70, ↓btx_1393, tx_1393, ↓bts_1393, ts_1393, ↓btxl_1393, txl_1393, ↓btsl_1393, tsl_1393, ↓Option.bind_some, ↓b2_some, ↓bX_l, ↓bX_r, Option.bind_some, Option.bind_none, b2_some, bX_l, bX_r, nn_e, if_true, if_false, reduceCtorEq, ↓reduceIte, Nat.reduceEqDiff, Nat.reduceLT, Nat.reduceLeDiff, Nat.reduceSubDiff, Nat.reduceAdd, Nat.reduceMul, (B3 e4).1, Bool.false_and]
      rw [Ev_some]
      exact ⟨rfl, F2.trans F3⟩
    | true =>
      obtain ⟨m1, -, -⟩ := (A3 e4).1 0 0 trivial (Nat.zero_le _) (Nat.zero_le _)
      have m1' : hI H3 1393 0 = nI (lq s one oth 1 0 0).1 := m1
      simp (disch := first | assumption | ((repeat (first | with_reducible refine TKI ?_ | with_reducible refine TKL ?_)); assumption) | omega) only [↓btgI, ↓btpI, ↓btgL, ↓btpL, ↓btisO, tgI, tpI, tgL, tpL, tisO, ↓btg_70, tg_70, ↓btx_1393, tx_1393, ↓bts_1393, ts_1393, ↓btxl_1393, txl_1393, ↓btsl_1393, tsl_1393, ↓Option.bind_some, ↓b2_some, ↓bX_l, ↓bX_r, Option.bind_some, Option.bind_none, b2_some, bX_l, bX_r, nn_e, if_true, if_false, reduceCtorEq, ↓reduceIte, Nat.reduceEqDiff, Nat.reduceLT, Nat.reduceLeDiff, Nat.reduceSubDiff, Nat.reduceAdd, Nat.reduceMul, nA1, nA2, nM1, nM2, n_add, n_mul, n_sub, nS1, nS2, nL0, nL1, nL2, nE0, nE1, nE2, nE3, bI_0, bI_1, bI_m, rz_b, rz_0, rz_1, m1', Bool.true_and]
      by_cases q : (lq s one oth 1 0 0).1 < (lq s one oth 0 0 0).1
      · rw [if_pos q, Ev_some, decide_eq_true q]; exact ⟨rfl, F2.trans F3⟩
      · rw [if_neg q, Ev_some, decide_eq_false q]; exact ⟨rfl, F2.trans F3⟩
end Line2
