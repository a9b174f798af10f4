set_option maxRecDepth 100000
/-! ===== the class: what is asked of now ===== -/
theorem rnR_congr {s : SH} (h4 : z_nb s ≤ 4) {g g' : RW} (e : ∀ i, i < 33 → g i = g' i) {i : Nat} (hi : i < 33) : rnR s g i = rnR s g' i := by
  unfold rnR pr
  rw [e (1 + 8 * ((i - 3) / 8)) (by omega), e i hi, e 0 (by decide)]
theorem ygs_lo {s : SH} (h4 : z_nb s ≤ 4) (f : RW) : ∀ n i, i < 33 → ygs s n f i = yts s n f i
  | 0, _, _ => rfl
  | n + 1, i, hi => by
    have ih := ygs_lo h4 f n
    show yr1 (kps s (sdf s (ygs s n f)) (rnR s (ygs s n f)) (z_nb s)) i = yr1 (rnR s (yts s n f)) i
    unfold yr1
    rw [kps_lo hi, kps_lo (by decide), rnR_congr h4 ih hi, rnR_congr h4 ih (by decide)]
/-- now, and what is tried -/
def CNW (s : SH) (h : AH) (f : RW) : Prop := CST s h 148 f ∧ STK h 202 ∧ ∃ q, PRM h 202 q
def PTR (a k : Nat) : Prop := a = 144 ∨ PST 202 a k
theorem McP_PTR : McP PTR := fun a k z => by unfold PTR PST at z; unfold Mc PRT; omega
theorem CNW.fc {P : Nat → Nat → Prop} {h h' : AH} {s : SH} {f : RW} (F : FC P h h') (h4 : z_nb s ≤ 4) (h40 : f 33 ≤ 40) (hP : ∀ a k, (a = 148 ∧ (k ≤ 1 ∨ 4 ≤ k)) ∨ (149 ≤ a ∧ a ≤ 197) ∨ (a = 202 ∧ 4 ≤ k) ∨ a = 205 ∨ a = 210 ∨ a = 251 → ¬ P a k) (C : CNW s h f) : CNW s h' f := by
  obtain ⟨c, T, q, R⟩ := C
  exact ⟨c.fc F h4 h40 (fun a k z => hP a k (by omega)), T.fc F (fun a k z => hP a k (by omega)), q, R.fc F (fun k => hP _ _ (by omega))⟩
theorem CNW.tr {h h' : AH} {s : SH} {f : RW} (F : FC PTR h h') (h4 : z_nb s ≤ 4) (h40 : f 33 ≤ 40) (C : CNW s h f) (R : ∃ q, PRM h' 202 q) : CNW s h' f := by
  obtain ⟨c, T, -⟩ := C
  exact ⟨c.fc F h4 h40 (fun a k z => by unfold PTR PST; omega), T.fc F (fun a k z => by unfold PTR PST; omega), R⟩
section CQuery
variable {va : VaT} {th : ThT} {Q : Nat → Prop} {h : AH} {sp : Nat} {s : SH} {f : RW}
theorem C_isPlace (F : WFS s) (B : CB va th Q h sp s) (C : CNW s h f) (G : WFN s f) (x y : Int32) : X0_isPlace 128 x y h = some (bI (isP s f x y), h) := by
  have q := F.2.2.2.2.1
  have K := B.1
  rw [X0_isPlace, co_128 K, Option.bind_some, b2_of (C_isBoard F B x), isP]
  cases e : inR x (z_nb s) with
  | false => simp [bI]
  | true =>
    obtain ⟨b, h1, rfl⟩ := inR_ex (by omega) e
    obtain ⟨g1, g2, -, g3⟩ := G.2.1 b h1
    obtain ⟨w1, w2, -⟩ := F.2.2.2.1 _ g1
    have c1 := (C.1.b h1).1
    rw [if_neg (by decide), nt_n (by omega), Bool.true_and, cg_128_9 K, Option.bind_some, C.1.1.o, Option.bind_some, b2_of (C_places F B C.1.1 (by omega) g1 c1), nS1 w1, C_is, b2_some]
    have := b_inC (x := y) (m := z_wl s (f (1 + 8 * b)) - 1) (by omega)
    rw [show z_wl s (f (1 + 8 * b)) - 1 + 1 = z_wl s (f (1 + 8 * b)) by omega] at this
    rw [show nI (z_wl s (f (1 + 8 * b)) - 1) = Int32.ofNat (z_wl s (f (1 + 8 * b)) - 1) from rfl, this]
    cases e2 : inR y (z_wl s (f (1 + 8 * b))) <;> simp [bI]
theorem C_isAhead (B : CB va th Q h sp s) (C : CNW s h f) (h0 : f 0 ≤ 999) (x : Int32) {l m : Nat} (hl : l ≤ 1000) (hm : m ≤ 1000) : X0_isAhead 128 x (nI l) (nI m) h = some (bI (isA f x l m), h) := by
  rw [X0_isAhead, C_is, b2_some, n_int (by omega), n_int (by omega), isA]
  by_cases z : (l : Int) ≤ x.toInt ∧ x.toInt ≤ (m : Int)
  · have ex : x = nI x.toInt.toNat := by rw [← Int32.toInt_inj, n_int (by omega)]; omega
    generalize hx : x.toInt.toNat = n at ex
    subst ex
    have hn : n ≤ m := by rw [n_int (by omega)] at z; omega
    rw [n_int (by omega)] at z ⊢
    have lt : (999 < nI (f 0) + nI n) ↔ 999 < f 0 + n := by rw [n_add]; exact nL0 (a := 999) (by decide) (by omega)
    rw [decide_eq_true z, if_neg (by decide), cg_128_9 B.1, Option.bind_some, C.1.1.gi, Option.bind_some, C.1.y.1]
    by_cases y : 999 < f 0 + n
    · rw [if_pos (lt.mpr y), decide_eq_false (by omega)]; rfl
    · rw [if_neg (fun w => y (lt.mp w)), decide_eq_true (by omega)]; rfl
  · rw [decide_eq_false z, if_pos (show bI false = 0 from rfl), decide_eq_false (fun w => z ⟨w.1, w.2.1⟩)]
    rfl
theorem C_board (F : WFS s) (B : CB va th Q h sp s) (C : CNW s h f) (G : WFN s f) (x w : Int32) : X0_board 128 x w h = some (q_board s f x w, h) := by
  have q := F.2.2.2.2.1
  have K := B.1
  rw [X0_board, co_128 K, Option.bind_some, b2_of (C_isBoard F B x), q_board]
  cases e : inR x (z_nb s) with
  | false => simp [bI]
  | true =>
    obtain ⟨b, h1, rfl⟩ := inR_ex (by omega) e
    obtain ⟨g1, g2, -, g3⟩ := G.2.1 b h1
    obtain ⟨c1, c2, -⟩ := C.1.b h1
    have hb : b < 4 := by omega
    have S := C.1.1
    rw [if_neg (by decide), if_pos rfl, nt_n (by omega)]
    simp (disch := first | assumption | ((repeat (first | with_reducible refine TKI ?_ | with_reducible refine TKL ?_ | with_reducible refine CKI ?_ | with_reducible refine CKL ?_)); assumption) | omega) only [↓bci_128, ci_128, ↓bcp_128, cp_128, ↓bco_128, co_128, ↓bcx_140, cx_140, ↓bcs_140, cs_140, ↓bcxl_140, cxl_140, ↓bcsl_140, csl_140, ↓bci_141, ci_141, ↓bcp_141, cp_141, ↓bco_141, co_141, ↓bci_142, ci_142, ↓bcp_142, cp_142, ↓bco_142, co_142, ↓bci_143, ci_143, ↓bcp_143, cp_143, ↓bco_143, co_143, ↓bcx_144, cx_144, ↓bcs_144, cs_144, ↓bcxl_144, cxl_144, ↓bcsl_144, csl_144, ↓bci_145, ci_145, ↓bcp_145, cp_145, ↓bco_145, co_145, ↓bcx_146, cx_146, ↓bcs_146, cs_146, ↓bcxl_146, cxl_146, ↓bcsl_146, csl_146, ↓bcx_147, cx_147, ↓bcs_147, cs_147, ↓bcxl_147, cxl_147, ↓bcsl_147, csl_147, ↓bci_256, ci_256, ↓bcp_256, cp_256, ↓bco_256, co_256, ↓bcx_258, cx_258, ↓bcs_258, cs_258, ↓bcxl_258, cxl_258, ↓bcsl_258, csl_258, ↓bcx_259, cx_259, ↓bcs_259, cs_259, ↓bcxl_259, cxl_259, ↓bcsl_259, csl_259, ↓bcx_260, cx_260, ↓bcs_260, cs_260, ↓bcxl_260, cxl_260, ↓bcsl_260, csl_260, ↓bcx_261, cx_261, ↓bcs_261, cs_261, ↓bcxl_261, cxl_261, ↓bcsl_261, csl_261, ↓bcx_262, cx_262, ↓bcs_262, cs_262, ↓bcxl_262, cxl_262, ↓bcsl_262, csl_262, ↓bcx_263, cx_263, ↓bcs_263, cs_263, ↓bcxl_263, cxl_263, ↓bcsl_263, csl_263, ↓bcx_264, cx_264, ↓bcs_264, cs_264, ↓bcxl_264, cxl_264, ↓bcsl_264, csl_264, ↓bcx_265, cx_265, ↓bcs_265, cs_265, ↓bcxl_265, cxl_265, ↓bcsl_265, csl_265, ↓bcx_266, cx_266, ↓bcs_266, cs_266, ↓bcxl_266, cxl_266, ↓bcsl_266, csl_266, ↓bcx_1348, cx_1348, ↓bcs_1348, cs_1348, ↓bcxl_1348, cxl_1348, ↓bcsl_1348, csl_1348, ↓bcg_128_1, cg_128_1, ↓bcg_128_5, cg_128_5, ↓bcg_128_6, cg_128_6, ↓bcg_128_7, cg_128_7, ↓bcg_128_8, cg_128_8, ↓bcg_128_9, cg_128_9, ↓bcg_128_10, cg_128_10, ↓bcg_128_11, cg_128_11, ↓bcg_128_12, cg_128_12, ↓bcg_128_16, cg_128_16, ↓bcg_141_0, cg_141_0, ↓bcg_141_7, cg_141_7, ↓bcg_143_0, cg_143_0, ↓bcg_145_0, cg_145_0, ↓bcg_256_6, cg_256_6, ↓bcg_256_7, cg_256_7, ↓bcg_256_8, cg_256_8, ↓bcg_256_9, cg_256_9, ↓Option.bind_some, ↓b2_some, ↓bX_l, ↓bX_r, Option.bind_some, Option.bind_none, b2_some, bX_l, bX_r, nn_e, if_true, if_false, reduceCtorEq, ↓reduceIte, Nat.reduceEqDiff, Nat.reduceLT, Nat.reduceLeDiff, Nat.reduceSubDiff, Nat.reduceAdd, Nat.reduceMul, ↓bd_of S.g4, ↓bd_of S.g5, ↓bd_of (S.x1 hb), ↓bd_of (S.x2 hb), ↓bd_of S.o, ↓b2_of (C_places F B S hb g1 c1), c1, c2]
    repeat' split
    all_goals rfl
theorem C_glyph (F : WFS s) (B : CB va th Q h sp s) (C : CNW s h f) (G : WFN s f) (x y : Int32) : X0_glyph 128 x y h = some (q_glyph s f x y, h) := by
  have q := F.2.2.2.2.1
  have K := B.1
  rw [X0_glyph, co_128 K, Option.bind_some, b2_of (C_isPlace F B C G x y), q_glyph]
  cases e : isP s f x y with
  | false => simp [bI]
  | true =>
    obtain ⟨b, k, rfl, rfl, h1, h2, h3, h4⟩ := isP_ex F G e
    have S := C.1.1
    have q6 := WFN_6 F G b h1
    have hb : b < 4 := by omega
    have hk : k < 6 := by omega
    rw [if_neg (by decide), if_pos rfl, nt_n (by omega), nt_n (by omega), cg_128_9 K, Option.bind_some, S.g6, Option.bind_some, S.x3 hb, Option.bind_some, S.x4 hb hk, Option.bind_some, (C.1.b h1).2.2 k hk]
theorem C_kept (B : CB va th Q h sp s) (C : CNW s h f) (h40 : f 33 ≤ 40) (x y : Int32) : X0_kept 128 x y h = some (q_kept f x y, h) := by
  have K := B.1
  have S := C.1.1
  obtain ⟨-, p, P, ⟨v1, v2⟩, v3, v4⟩ := C.1
  have i1 : decide ((0 : Int32).toInt ≤ x.toInt ∧ x.toInt ≤ (nI (f 33) - 1).toInt) = inR x (f 33) := by
    by_cases z : f 33 = 0
    · rw [z, show nI 0 - 1 = -1 by decide]
      unfold inR
      refine decide_eq_decide.mpr ?_
      rw [show (0 : Int32).toInt = 0 by decide, show (-1 : Int32).toInt = -1 by decide]
      omega
    · have := b_inC (x := x) (m := f 33 - 1) (by omega)
      rw [show f 33 - 1 + 1 = f 33 by omega] at this
      rw [nS1 (show 1 ≤ f 33 by omega)]
      exact this
  rw [X0_kept, cg_128_9 K, Option.bind_some, S.gi, Option.bind_some, v2, C_is, b2_some, i1, q_kept]
  cases e : inR x (f 33) with
  | false => simp [bI]
  | true =>
    obtain ⟨i, hi, rfl⟩ := inR_ex (by omega) e
    rw [if_neg (by decide), if_pos rfl, C_is, b2_some, show (2 : Int32) = Int32.ofNat 2 from rfl, b_inC (by decide)]
    cases e2 : inR y (2 + 1) with
    | false => simp [bI]
    | true =>
      obtain ⟨j, hj, rfl⟩ := inR_ex (by decide) e2
      rw [if_neg (by decide), if_pos rfl, nt_n (by omega), nt_n (by omega), cg_128_9 K, Option.bind_some, S.g7, Option.bind_some, S.x8 P (by omega), Option.bind_some, S.x9 (P.1 i (by omega)).1 hj, Option.bind_some, v4 i j hi hj]
/-- years ahead of now, tried -/
theorem C_tried (F : WFS s) (hQ : ∀ a, Q a → Im a) (B : CB va th Q h sp s) (C : CNW s h f) (G : WFN s f) : Ev (X5_copy 202 (some 148) h) (fun z => z.1 = some 202 ∧ FC PTR h z.2 ∧ CST s z.2 202 f ∧ CNW s z.2 f) := by
  have q4 := F.2.2.2.2.1
  obtain ⟨c, T, q, R⟩ := C
  refine ev_mono (C_copy c q4 G.2.2 T R (by omega)) ?_
  rintro ⟨y, H⟩ ⟨rfl, F2, C2⟩
  have F3 : FC PTR h H := F2.mono (fun a k z => by unfold PCP at z; unfold PTR PST; omega)
  refine ⟨rfl, F3, C2, CNW.tr F3 q4 G.2.2 ⟨c, T, q, R⟩ ?_⟩
  obtain ⟨-, p, P, -⟩ := C2
  exact ⟨p, P⟩
theorem PYR_PTR : ∀ a k, PYR 202 a k → PTR a k := by intro a k z; unfold PYR PPS PAH at z; unfold PTR PST; omega
theorem C_says (F : WFS s) (hQ : ∀ a, Q a → Im a) (B : CB va th Q h sp s) (C : CNW s h f) (G : WFN s f) (b w n k : Int32) : Ev (X0_says va th 128 b w n k h) (fun z => z.1 = q_says s f b w n k ∧ FC PTR h z.2 ∧ CNW s z.2 f) := by
  have q4 := F.2.2.2.2.1
  have K := B.1
  rw [X0_says, co_128 K, Option.bind_some, b2_of (C_isPlace F B C G b k), q_says]
  cases e : isP s f b k with
  | false => rw [if_pos (show bI false = 0 from rfl), Ev_some]; exact ⟨rfl, FC.refl _ _, C⟩
  | true =>
    obtain ⟨b, k, rfl, rfl, h1, h2, h3, h4⟩ := isP_ex F G e
    obtain ⟨g1, g2, -, -⟩ := G.2.1 b h1
    have q6 := WFN_6 F G b h1
    rw [if_neg (by decide), if_pos rfl, C_is, b2_some, show (3 : Int32) = Int32.ofNat 3 from rfl, b_inC (by decide)]
    cases e2 : inR w (3 + 1) with
    | false => rw [if_pos (show bI false = 0 from rfl), Ev_some]; exact ⟨rfl, FC.refl _ _, C⟩
    | true =>
      obtain ⟨how, hh, rfl⟩ := inR_ex (by decide) e2
      rw [if_neg (by decide), if_pos rfl, co_128 K, Option.bind_some, show X0_isAhead 128 n 0 60 h = X0_isAhead 128 n (nI 0) (nI 60) h from rfl, b2_of (C_isAhead B C G.1 n (by decide) (by decide))]
      cases e3 : isA f n 0 60 with
      | false => rw [if_pos (show bI false = 0 from rfl), Ev_some]; exact ⟨rfl, FC.refl _ _, C⟩
      | true =>
        obtain ⟨n, rfl, -, n2, n3⟩ := isA_ex (by decide) e3
        rw [if_neg (by decide), if_pos rfl, nt_n (by omega), nt_n (by omega), nt_n (by omega), nt_n (by omega), cg_128_10 K, Option.bind_some, cg_128_9 K, Option.bind_some, C.2.1.o, Option.bind_some, Ev_b2]
        refine ev_mono (C_tried F hQ B C G) ?_
        rintro ⟨y, H⟩ ⟨rfl, F2, C2, N2⟩
        simp only at F2 C2 N2
        have B2 := B.fc hQ F2 McP_PTR
        have zz : SZ 202 := by unfold SZ; omega
        rw [C2.1.o, Option.bind_some, Ev_b2]
        refine ev_mono (C_years F hQ B2 G zz C2 n3) ?_
        rintro ⟨y, H3⟩ ⟨rfl, F3, C3, -⟩
        simp only at F3 C3
        have F3' := F3.mono PYR_PTR
        have B3 := B2.fc hQ F3' McP_PTR
        have N3 : CNW s H3 f := CNW.tr F3' q4 G.2.2 N2 (by obtain ⟨-, p, P, -⟩ := C3; exact ⟨p, P⟩)
        obtain ⟨G3, -⟩ := ygs_ok F G n n3
        obtain ⟨c1, c2, c3⟩ := C3.b h1
        have y1 : ygs s n f (1 + 8 * b) = f (1 + 8 * b) := by rw [ygs_lo q4 f n _ (by omega)]; exact yts_lo F G (by omega) (by omega) n n3
        have y2 : ygs s n f (2 + 8 * b) = f (2 + 8 * b) := by rw [ygs_lo q4 f n _ (by omega)]; exact yts_lo F G (by omega) (by omega) n n3
        rw [y1] at c1
        rw [y2] at c2
        have hp : plH how (z_wl s (f (1 + 8 * b))) k < 6 := by unfold plH; split <;> omega
        have c4 := c3 _ hp
        rw [C3.1.o, Option.bind_some, Ev_b2]
        refine ev_mono (C_ssays F hQ B3 C3.1 (by omega) g1 g2 hh (by omega) c1 c2 c4 ((G3.2.1 b h1).2.2.2 _ hp)) ?_
        rintro ⟨y, H4⟩ ⟨hy, F4⟩
        simp only at hy F4
        subst hy
        have F4' : FC PTR H3 H4 := F4.fc.mono (fun a k z => by unfold PC1 at z; unfold PTR; omega)
        rw [Ev_some]
        refine ⟨?_, (F2.trans F3').trans F4', ?_⟩
        · simp only
          rw [ygs_lo q4 f n _ (by omega)]
        · exact N3.fc F4.fc q4 G.2.2 (fun a k z => by unfold PC1; omega)
end CQuery
