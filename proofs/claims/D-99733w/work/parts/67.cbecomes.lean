set_option maxRecDepth 100000
/-! ===== the class: doubt, reads, becomes ===== -/
section CBecomes
variable {va : VaT} {th : ThT} {Q : Nat → Prop} {h : AH} {sp : Nat} {s : SH}
theorem C_doubt (F : WFS s) (hQ : ∀ a, Q a → Im a) (B : CB va th Q h sp s) (x y g : Int32) : Ev (X0_doubt va 128 x y g h) (fun z => z.1 = q_doubt s x y g ∧ FT PC1 h z.2) := by
  rw [X0_doubt, co_128 B.1, Option.bind_some, b2_of (C_isLetterOf F B x y), q_doubt]
  cases e : (inR x 2 && inR y (z_nl s (nt x))) with
  | false => rw [if_pos (show bI false = 0 from rfl), X0_doubt_34, Ev_some]; exact ⟨rfl, FT.refl _ _⟩
  | true =>
    rw [Bool.and_eq_true] at e
    obtain ⟨hd, h1, rfl⟩ := inR_ex (by decide) e.1
    have q := F.1 hd h1
    have e2 := e.2
    rw [nt_n (by omega)] at e2
    obtain ⟨k, h2, rfl⟩ := inR_ex (by omega) e2
    rw [nt_n (by omega), nt_n (by omega), if_neg (by decide), if_pos rfl, C_is, b2_some, show (32767 : Int32) = Int32.ofNat 32767 from rfl, b_inC (by decide)]
    cases e3 : inR g (32767 + 1) with
    | false => rw [if_pos (show bI false = 0 from rfl), X0_doubt_34, Ev_some]; exact ⟨rfl, FT.refl _ _⟩
    | true =>
      obtain ⟨n, h3, rfl⟩ := inR_ex (by decide) e3
      obtain ⟨o, o1, o2, o3, o4, o5⟩ := C_letterOf B h1 h2
      rw [if_neg (by decide), if_pos rfl, nt_n (by omega), co_128 B.1, Option.bind_some, b2_of o1, co_128 B.1, Option.bind_some, Ev_b2]
      refine ev_mono (C_doubtOf F hQ B h1 h2 h3 o2 o5) ?_
      rintro ⟨v, H⟩ ⟨hv, F2⟩
      simp only at hv F2
      subst hv
      rw [Ev_some]
      exact ⟨rfl, F2⟩
theorem C_reads (F : WFS s) (hQ : ∀ a, Q a → Im a) (B : CB va th Q h sp s) (x g w : Int32) : Ev (X0_reads va 128 x g w h) (fun z => z.1 = q_reads s x g w ∧ FT PC1 h z.2) := by
  rw [X0_reads, b2_of (C_isHand x h), q_reads]
  cases e : inR x 2 with
  | false => rw [if_pos (show bI false = 0 from rfl), Ev_some]; exact ⟨rfl, FT.refl _ _⟩
  | true =>
    obtain ⟨hd, h1, rfl⟩ := inR_ex (by decide) e
    rw [if_neg (by decide), if_pos rfl, b2_of (C_isSeen g w h)]
    cases e2 : inR g 32768 with
    | false => rw [if_pos (show bI (false && inR w 4) = 0 from rfl), Ev_some]; exact ⟨rfl, FT.refl _ _⟩
    | true =>
      obtain ⟨n, h2, rfl⟩ := inR_ex (by decide) e2
      rw [if_pos rfl, Bool.true_and]
      cases e3 : inR w 4 with
      | false => rw [if_pos (show bI false = 0 from rfl), Ev_some]; exact ⟨rfl, FT.refl _ _⟩
      | true =>
        obtain ⟨k, h3, rfl⟩ := inR_ex (by decide) e3
        rw [if_neg (by decide), if_pos rfl, nt_n (by omega), nt_n (by omega), nt_n (by omega), b2_of (C_turnedN h3 n), co_128 B.1, Option.bind_some, Ev_b2]
        refine ev_mono (C_readAs F hQ B h1 (tN_n k n).2) ?_
        rintro ⟨v, H⟩ ⟨hv, F2⟩
        simp only at hv F2
        subst hv
        rw [Ev_some]
        exact ⟨rfl, F2⟩
theorem jrem2 {how : Nat} (hh : how < 4) : (jrem (nI how) 2 = 0) ↔ ¬ (how = 1 ∨ how = 3) := by
  have : ∀ n : Fin 4, (jrem (nI n.val) 2 = 0) ↔ ¬ (n.val = 1 ∨ n.val = 3) := by decide
  exact this ⟨how, hh⟩
theorem C_becomes_88 (F : WFS s) (hQ : ∀ a, Q a → Im a) (B : CB va th Q h sp s) {w hd how v : Nat} (h1 : w < z_nw s) (h2 : hd < 2) (hh : how < 4) (hv : v < z_nw s) (cpi : ∀ k, k < z_wl s w → isn s hd (z_wc s w k)) :
    Ev (X0_becomes_88 va 128 (nI w) (nI hd) (nI how) (nI (z_wl s w)) (nI v) (bI (z_wl s v == z_wl s w)) 0 h) (fun o => ∃ H', FT PC1 h H' ∧ o = if ((z_wl s v == z_wl s w) && alln (fun k => z_wc s v k == bcm s w hd how k) (z_wl s w)) = true then .inr (nI v, H') else .inl (nI (v + 1), H')) := by
  obtain ⟨w1, w2, w3, -⟩ := F.2.2.2.1 w h1
  obtain ⟨v1, v2, v3, -⟩ := F.2.2.2.1 v hv
  have q8 := F.2.2.1
  have fin : ∀ (b : Bool) (H : AH), X0_becomes_174 va 128 (nI w) (nI hd) (nI how) (nI (z_wl s w)) (nI v) (bI b) H = some (if b = true then .inr (nI v, H) else .inl (nI (v + 1), H)) := by
    intro b H
    rw [X0_becomes_174, nA1]
    cases b <;> rfl
  rw [X0_becomes_88]
  refine ev_for (z_wl s w) (fun k st => st.1 = bI ((z_wl s v == z_wl s w) && alln (fun k => z_wc s v k == bcm s w hd how k) k) ∧ st.2.1 = nI k ∧ FT PC1 h st.2.2) ?_ ?_ 0 _ (Nat.zero_le _) ⟨by simp [alln], rfl, FT.refl _ _⟩
  · rintro k ⟨f, x, H⟩ hk ⟨hf, hx, F2⟩
    simp only at hf hx F2
    subst hf hx
    have B2 := B.ft hQ F2 PC1_Mc
    have K2 := B2.1
    simp (disch := first | assumption | ((repeat (first | with_reducible refine TKI ?_ | with_reducible refine TKL ?_ | with_reducible refine CKI ?_ | with_reducible refine CKL ?_)); assumption) | omega) only [X0_becomes_88b, nA1, nA2, nM1, nM2, n_add, n_mul, n_sub, nS1, nS2, nL0, nL1, nL2, nE0, nE1, nE2, nE3, bI_0, bI_1, bI_m, rz_b, rz_0, rz_1, hk, if_true, fin, ↓bd_of (C_g0 B2), ↓bd_of (nz_e (show (2 : Int32) ≠ 0 by decide))]
    cases eb : ((z_wl s v == z_wl s w) && alln (fun k => z_wc s v k == bcm s w hd how k) k) with
    | false =>
      rw [if_pos (show false = false from rfl), Option.bind_some, Ev_some]
      refine ⟨H, F2, ?_⟩
      rw [if_neg (show ¬ (false = true) from fun z => by cases z)]
      have : ((z_wl s v == z_wl s w) && alln (fun k => z_wc s v k == bcm s w hd how k) (z_wl s w)) = false := by
        cases ee : ((z_wl s v == z_wl s w) && alln (fun k => z_wc s v k == bcm s w hd how k) (z_wl s w)) with
        | false => rfl
        | true =>
          rw [Bool.and_eq_true, alln_iff] at ee
          rw [ee.1, Bool.true_and, (alln_iff k).mpr (fun j hj => ee.2 j (by omega))] at eb
          cases eb
      rw [this]
      rfl
    | true =>
      rw [if_neg (show ¬ (true = false) from fun z => by cases z)]
      have eb' := eb
      rw [Bool.and_eq_true] at eb
      have el : z_wl s v = z_wl s w := by simpa using eb.1
      have hp : plH how (z_wl s w) k < z_wl s w := by unfold plH; split <;> omega
      have key : ∀ p, p = plH how (z_wl s w) k → Ev (X0_becomes_126 va 128 (nI w) (nI hd) (nI how) (nI (z_wl s w)) (nI v) (nI k) (some 128) (nI hd) (some sp) (nI hd) (nI w) (nI p) H) (fun o => ∃ H', o = .inl (bI ((z_wl s v == z_wl s w) && alln (fun k => z_wc s v k == bcm s w hd how k) (k + 1)), nI (k + 1), H') ∧ FT PC1 h H') := by
        rintro p rfl
        simp (disch := first | assumption | ((repeat (first | with_reducible refine TKI ?_ | with_reducible refine TKL ?_ | with_reducible refine CKI ?_ | with_reducible refine CKL ?_)); assumption) | omega) only [X0_becomes_126, ↓bci_128, ci_128, ↓bcp_128, cp_128, ↓bco_128, co_128, ↓bcx_140, cx_140, ↓bcs_140, cs_140, ↓bcxl_140, cxl_140, ↓bcsl_140, csl_140, ↓bci_141, ci_141, ↓bcp_141, cp_141, ↓bco_141, co_141, ↓bci_142, ci_142, ↓bcp_142, cp_142, ↓bco_142, co_142, ↓bci_143, ci_143, ↓bcp_143, cp_143, ↓bco_143, co_143, ↓bcx_144, cx_144, ↓bcs_144, cs_144, ↓bcxl_144, cxl_144, ↓bcsl_144, csl_144, ↓bci_145, ci_145, ↓bcp_145, cp_145, ↓bco_145, co_145, ↓bcx_146, cx_146, ↓bcs_146, cs_146, ↓bcxl_146, cxl_146, ↓bcsl_146, csl_146, ↓bcx_147, cx_147, ↓bcs_147, cs_147, ↓bcxl_147, cxl_147, ↓bcsl_147, csl_147, ↓bci_256, ci_256, ↓bcp_256, cp_256, ↓bco_256, co_256, ↓bcx_258, cx_258, ↓bcs_258, cs_258, ↓bcxl_258, cxl_258, ↓bcsl_258, csl_258, ↓bcx_259, cx_259, ↓bcs_259, cs_259, ↓bcxl_259, cxl_259, ↓bcsl_259, csl_259, ↓bcx_260, cx_260, ↓bcs_260, cs_260, ↓bcxl_260, cxl_260, ↓bcsl_260, csl_260, ↓bcx_261, cx_261, ↓bcs_261, cs_261, ↓bcxl_261, cxl_261, ↓bcsl_261, csl_261, ↓bcx_262, cx_262, ↓bcs_262, cs_262, ↓bcxl_262, cxl_262, ↓bcsl_262, csl_262, ↓bcx_263, cx_263, ↓bcs_263, cs_263, ↓bcxl_263, cxl_263, ↓bcsl_263, csl_263, ↓bcx_264, cx_264, ↓bcs_264, cs_264, ↓bcxl_264, cxl_264, ↓bcsl_264, csl_264, ↓bcx_265, cx_265, ↓bcs_265, cs_265, ↓bcxl_265, cxl_265, ↓bcsl_265, csl_265, ↓bcx_266, cx_266, ↓bcs_266, cs_266, ↓bcxl_266, cxl_266, ↓bcsl_266, csl_266, ↓bcx_1348, cx_1348, ↓bcs_1348, cs_1348, ↓bcxl_1348, cxl_1348, ↓bcsl_1348, csl_1348, ↓bcg_128_1, cg_128_1, ↓bcg_128_5, cg_128_5, ↓bcg_128_6, cg_128_6, ↓bcg_128_7, cg_128_7, ↓bcg_128_8, cg_128_8, ↓bcg_128_9, cg_128_9, ↓bcg_128_10, cg_128_10, ↓bcg_128_11, cg_128_11, ↓bcg_128_12, cg_128_12, ↓bcg_128_16, cg_128_16, ↓bcg_141_0, cg_141_0, ↓bcg_141_7, cg_141_7, ↓bcg_143_0, cg_143_0, ↓bcg_145_0, cg_145_0, ↓bcg_256_6, cg_256_6, ↓bcg_256_7, cg_256_7, ↓bcg_256_8, cg_256_8, ↓bcg_256_9, cg_256_9, ↓Option.bind_some, ↓b2_some, ↓bX_l, ↓bX_r, Option.bind_some, Option.bind_none, b2_some, bX_l, bX_r, nn_e, if_true, if_false, reduceCtorEq, ↓reduceIte, Nat.reduceEqDiff, Nat.reduceLT, Nat.reduceLeDiff, Nat.reduceSubDiff, Nat.reduceAdd, Nat.reduceMul, ↓bd_of (C_sp B2), ↓b2_of (C_sglyph F B2.2.2.2 B2.2.1 h2 h1 hp (cpi _ hp)), ↓b2_of (C_turnedN hh _), Ev_b2]
        refine ev_mono (C_readAs F hQ B2 h2 (tN_n how _).2) ?_
        rintro ⟨y, H3⟩ ⟨hy, F3⟩
        simp only at hy F3
        subst hy
        have B3 := B2.ft hQ F3 PC1_Mc
        have K3 := B3.1
        obtain ⟨L, o, l1, l2, l3, l4, l5, l6⟩ := C_wordAt B3 hv
        have ta := l6.at B3.2.1 (k := k) (by omega) (fun j hj => (v3 j hj).1)
        rw [if_pos (show k < z_wl s v by omega)] at ta
        have c1 := v3 k (by omega)
        have hrd : bcm s w hd how k ≤ 26 := rd_lt F h2 _ _ (Nat.le_refl _)
        have hrd' : rd s hd (tN how (gl s hd (z_wc s w (plH how (z_wl s w) k)))) = bcm s w hd how k := rfl
        simp (disch := first | assumption | ((repeat (first | with_reducible refine TKI ?_ | with_reducible refine TKL ?_ | with_reducible refine CKI ?_ | with_reducible refine CKL ?_)); assumption) | omega) only [↓bci_128, ci_128, ↓bcp_128, cp_128, ↓bco_128, co_128, ↓bcx_140, cx_140, ↓bcs_140, cs_140, ↓bcxl_140, cxl_140, ↓bcsl_140, csl_140, ↓bci_141, ci_141, ↓bcp_141, cp_141, ↓bco_141, co_141, ↓bci_142, ci_142, ↓bcp_142, cp_142, ↓bco_142, co_142, ↓bci_143, ci_143, ↓bcp_143, cp_143, ↓bco_143, co_143, ↓bcx_144, cx_144, ↓bcs_144, cs_144, ↓bcxl_144, cxl_144, ↓bcsl_144, csl_144, ↓bci_145, ci_145, ↓bcp_145, cp_145, ↓bco_145, co_145, ↓bcx_146, cx_146, ↓bcs_146, cs_146, ↓bcxl_146, cxl_146, ↓bcsl_146, csl_146, ↓bcx_147, cx_147, ↓bcs_147, cs_147, ↓bcxl_147, cxl_147, ↓bcsl_147, csl_147, ↓bci_256, ci_256, ↓bcp_256, cp_256, ↓bco_256, co_256, ↓bcx_258, cx_258, ↓bcs_258, cs_258, ↓bcxl_258, cxl_258, ↓bcsl_258, csl_258, ↓bcx_259, cx_259, ↓bcs_259, cs_259, ↓bcxl_259, cxl_259, ↓bcsl_259, csl_259, ↓bcx_260, cx_260, ↓bcs_260, cs_260, ↓bcxl_260, cxl_260, ↓bcsl_260, csl_260, ↓bcx_261, cx_261, ↓bcs_261, cs_261, ↓bcxl_261, cxl_261, ↓bcsl_261, csl_261, ↓bcx_262, cx_262, ↓bcs_262, cs_262, ↓bcxl_262, cxl_262, ↓bcsl_262, csl_262, ↓bcx_263, cx_263, ↓bcs_263, cs_263, ↓bcxl_263, cxl_263, ↓bcsl_263, csl_263, ↓bcx_264, cx_264, ↓bcs_264, cs_264, ↓bcxl_264, cxl_264, ↓bcsl_264, csl_264, ↓bcx_265, cx_265, ↓bcs_265, cs_265, ↓bcxl_265, cxl_265, ↓bcsl_265, csl_265, ↓bcx_266, cx_266, ↓bcs_266, cs_266, ↓bcxl_266, cxl_266, ↓bcsl_266, csl_266, ↓bcx_1348, cx_1348, ↓bcs_1348, cs_1348, ↓bcxl_1348, cxl_1348, ↓bcsl_1348, csl_1348, ↓bcg_128_1, cg_128_1, ↓bcg_128_5, cg_128_5, ↓bcg_128_6, cg_128_6, ↓bcg_128_7, cg_128_7, ↓bcg_128_8, cg_128_8, ↓bcg_128_9, cg_128_9, ↓bcg_128_10, cg_128_10, ↓bcg_128_11, cg_128_11, ↓bcg_128_12, cg_128_12, ↓bcg_128_16, cg_128_16, ↓bcg_141_0, cg_141_0, ↓bcg_141_7, cg_141_7, ↓bcg_143_0, cg_143_0, ↓bcg_145_0, cg_145_0, ↓bcg_256_6, cg_256_6, ↓bcg_256_7, cg_256_7, ↓bcg_256_8, cg_256_8, ↓bcg_256_9, cg_256_9, ↓Option.bind_some, ↓b2_some, ↓bX_l, ↓bX_r, Option.bind_some, Option.bind_none, b2_some, bX_l, bX_r, nn_e, if_true, if_false, reduceCtorEq, ↓reduceIte, Nat.reduceEqDiff, Nat.reduceLT, Nat.reduceLeDiff, Nat.reduceSubDiff, Nat.reduceAdd, Nat.reduceMul, nA1, nA2, nM1, nM2, n_add, n_mul, n_sub, nS1, nS2, nL0, nL1, nL2, nE0, nE1, nE2, nE3, bI_0, bI_1, bI_m, rz_b, rz_0, rz_1, ↓bd_of (C_g0 B3), ↓bd_of l1, ↓bd_of l2, ↓b2_of l3, ↓bd_of l4, ↓bd_of (isO_e l5), ↓b2_of ta, hrd']
        rw [alln, ← Bool.and_assoc, eb', Bool.true_and]
        by_cases z : bcm s w hd how k = z_wc s v k
        · rw [if_pos z, Ev_some]
          exact ⟨H3, by rw [show (z_wc s v k == bcm s w hd how k) = true by simp [z]]; rfl, F2.trans F3⟩
        · rw [if_neg z, Ev_some]
          exact ⟨H3, by rw [show (z_wc s v k == bcm s w hd how k) = false by simp; exact fun y => z y.symm]; rfl, F2.trans F3⟩
      have ix : nI (z_wl s w) - 1 - nI k = nI (z_wl s w - 1 - k) := by rw [nS1 (show 1 ≤ z_wl s w by omega), n_sub (show k ≤ z_wl s w - 1 by omega)]
      by_cases qo : how = 1 ∨ how = 3
      · rw [if_neg (fun z => (jrem2 hh).mp z qo)]
        obtain ⟨_, e9, H', rfl, a9⟩ := key (z_wl s w - 1 - k) (by unfold plH; rw [if_pos qo])
        exact ⟨_, e9, rfl, rfl, a9⟩
      · rw [if_pos ((jrem2 hh).mpr qo)]
        obtain ⟨_, e9, H', rfl, a9⟩ := key k (by unfold plH; rw [if_neg qo])
        exact ⟨_, e9, rfl, rfl, a9⟩
  · rintro ⟨f, x, H⟩ ⟨hf, hx, F2⟩
    simp only at hf hx F2
    subst hf hx
    simp (disch := first | assumption | ((repeat (first | with_reducible refine TKI ?_ | with_reducible refine TKL ?_ | with_reducible refine CKI ?_ | with_reducible refine CKL ?_)); assumption) | omega) only [X0_becomes_88b, nA1, nA2, nM1, nM2, n_add, n_mul, n_sub, nS1, nS2, nL0, nL1, nL2, nE0, nE1, nE2, nE3, bI_0, bI_1, bI_m, rz_b, rz_0, rz_1, Nat.lt_irrefl, if_false, fin]
    rw [Option.bind_some, Ev_some]
    exact ⟨H, F2, rfl⟩
theorem C_becomes (F : WFS s) (hQ : ∀ a, Q a → Im a) (B : CB va th Q h sp s) (w hd how : Int32) : Ev (X0_becomes va 128 w hd how h) (fun z => z.1 = q_becomes s w hd how ∧ FT PC1 h z.2) := by
  have q8 := F.2.2.1
  rw [X0_becomes, co_128 B.1, Option.bind_some, b2_of (C_canPaint F B w hd), q_becomes]
  cases e : inR w (z_nw s) with
  | false => rw [if_pos (show bI (false && _) = 0 from rfl), Ev_some]; exact ⟨rfl, FT.refl _ _⟩
  | true =>
    obtain ⟨w, h1, rfl⟩ := inR_ex (by omega) e
    cases e2 : inR hd 2 with
    | false => rw [if_pos (show bI (true && (false && _)) = 0 from rfl), Ev_some]; exact ⟨rfl, FT.refl _ _⟩
    | true =>
      obtain ⟨hd, h2, rfl⟩ := inR_ex (by decide) e2
      have qn := F.1 hd h2
      rw [if_pos (show true = true from rfl), if_pos (show true = true from rfl), Bool.true_and, Bool.true_and, nt_n (by omega), nt_n (by omega)]
      cases e4 : cp s w hd with
      | false =>
        rw [if_pos (show bI false = 0 from rfl), Ev_some]
        refine ⟨?_, FT.refl _ _⟩
        cases inR how 4 <;> rfl
      | true =>
        rw [if_neg (by decide), C_is, b2_some, show (3 : Int32) = Int32.ofNat 3 from rfl, b_inC (by decide)]
        cases e3 : inR how (3 + 1) with
        | false => rw [if_pos (show bI false = 0 from rfl), Ev_some]; exact ⟨rfl, FT.refl _ _⟩
        | true =>
          obtain ⟨how, hh, rfl⟩ := inR_ex (by decide) e3
          obtain ⟨L, o, l1, l2, l3, l4, l5, l6⟩ := C_wordAt B h1
          have cpi := (cp_iff qn).mp e4
          rw [if_neg (by decide), if_pos (show true = true from rfl), if_pos (show true = true from rfl), nt_n (by omega), C_g0 B, Option.bind_some, l1, Option.bind_some, l2, Option.bind_some, b2_of l3, l4, Option.bind_some, isO_e l5, Option.bind_some, b2_of (l6.sz B.2.1), X0_becomes_44]
          refine ev_for (z_nw s) (fun v st => st.1 = nI v ∧ FT PC1 h st.2 ∧ ∀ j, j < v → ((z_wl s j == z_wl s w) && alln (fun k => z_wc s j k == bcm s w hd how k) (z_wl s w)) = false) ?_ ?_ 0 _ (Nat.zero_le _) ⟨rfl, FT.refl _ _, fun j q => absurd q (Nat.not_lt_zero _)⟩
          · rintro v ⟨x, H⟩ hv ⟨hx, F2, hj⟩
            simp only at hx F2 hj
            subst hx
            have B2 := B.ft hQ F2 PC1_Mc
            have K2 := B2.1
            obtain ⟨L, o, l1, l2, l3, l4, l5, l6⟩ := C_wordAt B2 hv
            obtain ⟨v1, v2, v3, -⟩ := F.2.2.2.1 v hv
            obtain ⟨w1, w2, w3, -⟩ := F.2.2.2.1 w h1
            simp (disch := first | assumption | ((repeat (first | with_reducible refine TKI ?_ | with_reducible refine TKL ?_ | with_reducible refine CKI ?_ | with_reducible refine CKL ?_)); assumption) | omega) only [X0_becomes_44b, ↓bci_128, ci_128, ↓bcp_128, cp_128, ↓bco_128, co_128, ↓bcx_140, cx_140, ↓bcs_140, cs_140, ↓bcxl_140, cxl_140, ↓bcsl_140, csl_140, ↓bci_141, ci_141, ↓bcp_141, cp_141, ↓bco_141, co_141, ↓bci_142, ci_142, ↓bcp_142, cp_142, ↓bco_142, co_142, ↓bci_143, ci_143, ↓bcp_143, cp_143, ↓bco_143, co_143, ↓bcx_144, cx_144, ↓bcs_144, cs_144, ↓bcxl_144, cxl_144, ↓bcsl_144, csl_144, ↓bci_145, ci_145, ↓bcp_145, cp_145, ↓bco_145, co_145, ↓bcx_146, cx_146, ↓bcs_146, cs_146, ↓bcxl_146, cxl_146, ↓bcsl_146, csl_146, ↓bcx_147, cx_147, ↓bcs_147, cs_147, ↓bcxl_147, cxl_147, ↓bcsl_147, csl_147, ↓bci_256, ci_256, ↓bcp_256, cp_256, ↓bco_256, co_256, ↓bcx_258, cx_258, ↓bcs_258, cs_258, ↓bcxl_258, cxl_258, ↓bcsl_258, csl_258, ↓bcx_259, cx_259, ↓bcs_259, cs_259, ↓bcxl_259, cxl_259, ↓bcsl_259, csl_259, ↓bcx_260, cx_260, ↓bcs_260, cs_260, ↓bcxl_260, cxl_260, ↓bcsl_260, csl_260, ↓bcx_261, cx_261, ↓bcs_261, cs_261, ↓bcxl_261, cxl_261, ↓bcsl_261, csl_261, ↓bcx_262, cx_262, ↓bcs_262, cs_262, ↓bcxl_262, cxl_262, ↓bcsl_262, csl_262, ↓bcx_263, cx_263, ↓bcs_263, cs_263, ↓bcxl_263, cxl_263, ↓bcsl_263, csl_263, ↓bcx_264, cx_264, ↓bcs_264, cs_264, ↓bcxl_264, cxl_264, ↓bcsl_264, csl_264, ↓bcx_265, cx_265, ↓bcs_265, cs_265, ↓bcxl_265, cxl_265, ↓bcsl_265, csl_265, ↓bcx_266, cx_266, ↓bcs_266, cs_266, ↓bcxl_266, cxl_266, ↓bcsl_266, csl_266, ↓bcx_1348, cx_1348, ↓bcs_1348, cs_1348, ↓bcxl_1348, cxl_1348, ↓bcsl_1348, csl_1348, ↓bcg_128_1, cg_128_1, ↓bcg_128_5, cg_128_5, ↓bcg_128_6, cg_128_6, ↓bcg_128_7, cg_128_7, ↓bcg_128_8, cg_128_8, ↓bcg_128_9, cg_128_9, ↓bcg_128_10, cg_128_10, ↓bcg_128_11, cg_128_11, ↓bcg_128_12, cg_128_12, ↓bcg_128_16, cg_128_16, ↓bcg_141_0, cg_141_0, ↓bcg_141_7, cg_141_7, ↓bcg_143_0, cg_143_0, ↓bcg_145_0, cg_145_0, ↓bcg_256_6, cg_256_6, ↓bcg_256_7, cg_256_7, ↓bcg_256_8, cg_256_8, ↓bcg_256_9, cg_256_9, ↓Option.bind_some, ↓b2_some, ↓bX_l, ↓bX_r, Option.bind_some, Option.bind_none, b2_some, bX_l, bX_r, nn_e, if_true, if_false, reduceCtorEq, ↓reduceIte, Nat.reduceEqDiff, Nat.reduceLT, Nat.reduceLeDiff, Nat.reduceSubDiff, Nat.reduceAdd, Nat.reduceMul, nA1, nA2, nM1, nM2, n_add, n_mul, n_sub, nS1, nS2, nL0, nL1, nL2, nE0, nE1, nE2, nE3, bI_0, bI_1, bI_m, rz_b, rz_0, rz_1, ↓b2_of (C_words B2), hv, ↓bd_of (C_g0 B2), ↓bd_of l1, ↓bd_of l2, ↓b2_of l3, ↓bd_of l4, ↓bd_of (isO_e l5), ↓b2_of (l6.sz B2.2.1)]
            have t := C_becomes_88 F hQ B2 h1 h2 hh hv cpi
            have t2 : Ev (if z_wl s v = z_wl s w then X0_becomes_88 va 128 (nI w) (nI hd) (nI how) (nI (z_wl s w)) (nI v) 1 0 H else X0_becomes_88 va 128 (nI w) (nI hd) (nI how) (nI (z_wl s w)) (nI v) 0 0 H) (fun o => ∃ H', FT PC1 H H' ∧ o = if ((z_wl s v == z_wl s w) && alln (fun k => z_wc s v k == bcm s w hd how k) (z_wl s w)) = true then .inr (nI v, H') else .inl (nI (v + 1), H')) := by
              by_cases z : z_wl s v = z_wl s w
              · rw [show (z_wl s v == z_wl s w) = true by simpa using z] at t ⊢
                rw [if_pos z]; exact t
              · rw [show (z_wl s v == z_wl s w) = false by simpa using z] at t ⊢
                rw [if_neg z]; exact t
            refine ev_mono t2 ?_
            rintro _ ⟨H', F3, rfl⟩
            cases eb : ((z_wl s v == z_wl s w) && alln (fun k => z_wc s v k == bcm s w hd how k) (z_wl s w)) with
            | true => exact ⟨(fndI_hit hv eb hj).symm, F2.trans F3⟩
            | false =>
              refine ⟨rfl, F2.trans F3, fun j h3 => ?_⟩
              rcases Nat.lt_or_ge j v with z | z
              · exact hj j z
              · have : j = v := by omega
                subst this
                exact eb
          · rintro ⟨x, H⟩ ⟨hx, F2, hj⟩
            simp only at hx F2 hj
            subst hx
            have B2 := B.ft hQ F2 PC1_Mc
            have K2 := B2.1
            simp (disch := first | assumption | ((repeat (first | with_reducible refine TKI ?_ | with_reducible refine TKL ?_ | with_reducible refine CKI ?_ | with_reducible refine CKL ?_)); assumption) | omega) only [X0_becomes_44b, ↓bci_128, ci_128, ↓bcp_128, cp_128, ↓bco_128, co_128, ↓bcx_140, cx_140, ↓bcs_140, cs_140, ↓bcxl_140, cxl_140, ↓bcsl_140, csl_140, ↓bci_141, ci_141, ↓bcp_141, cp_141, ↓bco_141, co_141, ↓bci_142, ci_142, ↓bcp_142, cp_142, ↓bco_142, co_142, ↓bci_143, ci_143, ↓bcp_143, cp_143, ↓bco_143, co_143, ↓bcx_144, cx_144, ↓bcs_144, cs_144, ↓bcxl_144, cxl_144, ↓bcsl_144, csl_144, ↓bci_145, ci_145, ↓bcp_145, cp_145, ↓bco_145, co_145, ↓bcx_146, cx_146, ↓bcs_146, cs_146, ↓bcxl_146, cxl_146, ↓bcsl_146, csl_146, ↓bcx_147, cx_147, ↓bcs_147, cs_147, ↓bcxl_147, cxl_147, ↓bcsl_147, csl_147, ↓bci_256, ci_256, ↓bcp_256, cp_256, ↓bco_256, co_256, ↓bcx_258, cx_258, ↓bcs_258, cs_258, ↓bcxl_258, cxl_258, ↓bcsl_258, csl_258, ↓bcx_259, cx_259, ↓bcs_259, cs_259, ↓bcxl_259, cxl_259, ↓bcsl_259, csl_259, ↓bcx_260, cx_260, ↓bcs_260, cs_260, ↓bcxl_260, cxl_260, ↓bcsl_260, csl_260, ↓bcx_261, cx_261, ↓bcs_261, cs_261, ↓bcxl_261, cxl_261, ↓bcsl_261, csl_261, ↓bcx_262, cx_262, ↓bcs_262, cs_262, ↓bcxl_262, cxl_262, ↓bcsl_262, csl_262, ↓bcx_263, cx_263, ↓bcs_263, cs_263, ↓bcxl_263, cxl_263, ↓bcsl_263, csl_263, ↓bcx_264, cx_264, ↓bcs_264, cs_264, ↓bcxl_264, cxl_264, ↓bcsl_264, csl_264, ↓bcx_265, cx_265, ↓bcs_265, cs_265, ↓bcxl_265, cxl_265, ↓bcsl_265, csl_265, ↓bcx_266, cx_266, ↓bcs_266, cs_266, ↓bcxl_266, cxl_266, ↓bcsl_266, csl_266, ↓bcx_1348, cx_1348, ↓bcs_1348, cs_1348, ↓bcxl_1348, cxl_1348, ↓bcsl_1348, csl_1348, ↓bcg_128_1, cg_128_1, ↓bcg_128_5, cg_128_5, ↓bcg_128_6, cg_128_6, ↓bcg_128_7, cg_128_7, ↓bcg_128_8, cg_128_8, ↓bcg_128_9, cg_128_9, ↓bcg_128_10, cg_128_10, ↓bcg_128_11, cg_128_11, ↓bcg_128_12, cg_128_12, ↓bcg_128_16, cg_128_16, ↓bcg_141_0, cg_141_0, ↓bcg_141_7, cg_141_7, ↓bcg_143_0, cg_143_0, ↓bcg_145_0, cg_145_0, ↓bcg_256_6, cg_256_6, ↓bcg_256_7, cg_256_7, ↓bcg_256_8, cg_256_8, ↓bcg_256_9, cg_256_9, ↓Option.bind_some, ↓b2_some, ↓bX_l, ↓bX_r, Option.bind_some, Option.bind_none, b2_some, bX_l, bX_r, nn_e, if_true, if_false, reduceCtorEq, ↓reduceIte, Nat.reduceEqDiff, Nat.reduceLT, Nat.reduceLeDiff, Nat.reduceSubDiff, Nat.reduceAdd, Nat.reduceMul, nA1, nA2, nM1, nM2, n_add, n_mul, n_sub, nS1, nS2, nL0, nL1, nL2, nE0, nE1, nE2, nE3, bI_0, bI_1, bI_m, rz_b, rz_0, rz_1, ↓b2_of (C_words B2), Nat.lt_irrefl]
            rw [Ev_some]
            exact ⟨(fndI_miss hj).symm, F2⟩
end CBecomes
