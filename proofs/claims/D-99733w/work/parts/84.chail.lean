set_option maxRecDepth 100000
/-! ===== the class: hail, chance ===== -/
section CHail
variable {va : VaT} {th : ThT} {Q : Nat → Prop} {h : AH} {sp st : Nat} {s : SH} {f : RW}
theorem C_draw (K : CKK (hK h) (hR h)) {z m : Nat} (hz : z < 2147483648) (e : hL h 128 14 = iL (z : Int)) (hm : 0 < m) (hm2 : m < 1000) : X0_draw 128 (nI m) h = some (nI (drw z m), wL 128 14 (iL ((sdN z : Nat) : Int)) h) := by
  have z1 : nzL 2147483648 = some () := nzL_e (by decide)
  have z2 : nzL 64 = some () := nzL_e (by decide)
  have em : Int32.toInt64 (nI m) = iL (m : Int) := by rw [i2L, n_int (by omega)]
  have z3 : nzL (iL (m : Int)) = some () := nzL_e (by
    rw [show (0 : Int64) = iL 0 by decide]
    intro q
    have := (iL_inj (by unfold wide; omega) (by unfold wide; omega)).mp q
    omega)
  have k2 : hK (wL 128 14 (iL ((sdN z : Nat) : Int)) h) 128 = (0, 0) := ck_128 K
  have e2 : hL (wL 128 14 (iL ((sdN z : Nat) : Int)) h) 128 14 = iL ((sdN z : Nat) : Int) := by rw [p_LL, if_pos ⟨rfl, rfl⟩]
  rw [X0_draw, gL_e (ck_128 K), Option.bind_some, e, z1, Option.bind_some, L_seed hz, pL_e (ck_128 K) (by decide), Option.bind_some, gL_e k2, Option.bind_some, e2, z2, Option.bind_some, em, z3, Option.bind_some, L_draw hm hm2]
def PHL (st a k : Nat) : Prop := (a = 128 ∧ k = 14) ∨ (a = st ∧ k = 3) ∨ (st + 4 ≤ a ∧ a < st + 8)
theorem McP_PHL {st : Nat} (hz : SZ st) : McP (PHL st) := fun a k z => by unfold PHL at z; unfold SZ at hz; unfold Mc PRT; omega
theorem McP_14 : McP (fun a k => a = 128 ∧ k = 14) := fun a k z => by unfold Mc PRT; omega
theorem C_hails63 (C : CST s h st f) (h4 : z_nb s ≤ 4) (h40 : f 33 ≤ 40) {b k bit v : Nat} (hb : b < z_nb s) (hk : k < 6) (hbit : bit < 15) (x : Int32) : ∃ H, X5_hails_63 st (nI b) (nI k) (nI bit) (some st) x (nI v) h = some H ∧ FC (PHL st) h H ∧ CST s H st (fun i => if i = 3 + 8 * b + k then an (f (3 + 8 * b + k)) (2 ^ bit) else f i) ∧ hI H st 3 = x + nI v ∧ ∀ a j, hL H a j = hL h a j := by
  have S := C.1
  have hb4 : b < 4 := by omega
  have F1 : FC (fun a k => a = st ∧ k = 3) h (wI st 3 (x + nI v) h) := (FC.refl _ h).wI ⟨rfl, rfl⟩
  have C1 : CST s (wI st 3 (x + nI v) h) st f := C.fc F1 h4 h40 (fun a k z => by omega)
  have c3 := (C1.b hb).2.2 k hk
  refine ⟨_, ?_, ?_, C1.gly (v := an (f (3 + 8 * b + k)) (2 ^ bit)) h4 h40 hb4 hk, ?_, fun a j => rfl⟩
  · rw [X5_hails_63, S.pi, Option.bind_some, C1.1.g6, Option.bind_some, C1.1.x3 hb4, Option.bind_some, C1.1.x4 hb4 hk, Option.bind_some, c3, n_clr hbit, C1.1.s4 hb4 hk, Option.bind_some]
  · exact ((FC.refl (PHL st) h).wI (by unfold PHL; omega)).wI (by unfold PHL; omega)
  · rw [p_II, if_neg (by omega), p_II, if_pos ⟨rfl, rfl⟩]
theorem C_hails (F : WFS s) (hQ : ∀ a, Q a → Im a) (B : CB va th Q h sp s) (C : CST s h st f) (G : WFN s f) (hz : SZ st) {z : Nat} (hz0 : z < 2147483648) (e : hL h 128 14 = iL (z : Int)) (hn : 0 < z_nb s) :
    Ev (X5_hails st h) (fun H => FC (PHL st) h H ∧ CST s H st (hlR s f z).1 ∧ hI H st 3 = hI h st 3 + nI (hlR s f z).2.1 ∧ hL H 128 14 = iL (((hlR s f z).2.2 : Nat) : Int)) := by
  have h4 := F.2.2.2.2.1
  have zz := hz
  unfold SZ at zz
  have hb : drw z (z_nb s) < z_nb s := Nat.mod_lt _ hn
  obtain ⟨g1, g2, -, g3⟩ := G.2.1 _ hb
  obtain ⟨w1, w2, -, -⟩ := F.2.2.2.1 _ g1
  have hk : drw (sdN z) (z_wl s (f (1 + 8 * drw z (z_nb s)))) < z_wl s (f (1 + 8 * drw z (z_nb s))) := Nat.mod_lt _ (by omega)
  have hbit : drw (sdN (sdN z)) 15 < 15 := Nat.mod_lt _ (by decide)
  have K := B.1
  have t1 := C_draw K hz0 e hn (show z_nb s < 1000 by omega)
  generalize hB : drw z (z_nb s) = b at *
  generalize hKk : drw (sdN z) (z_wl s (f (1 + 8 * b))) = k at *
  generalize hT : drw (sdN (sdN z)) 15 = bit at *
  have hb4 : b < 4 := by omega
  have hk6 : k < 6 := by omega
  obtain ⟨H1, hH1⟩ : ∃ H1, H1 = wL 128 14 (iL ((sdN z : Nat) : Int)) h := ⟨_, rfl⟩
  rw [← hH1] at t1
  have F1 : FC (fun a k => a = 128 ∧ k = 14) h H1 := by rw [hH1]; exact (FC.refl _ h).wL ⟨rfl, rfl⟩
  have B1 := B.fc hQ F1 McP_14
  have K1 := B1.1
  have C1 : CST s H1 st f := C.fc F1 h4 G.2.2 (fun a k z => by omega)
  have l1 : hL H1 128 14 = iL ((sdN z : Nat) : Int) := by rw [hH1, p_LL, if_pos ⟨rfl, rfl⟩]
  have t2 := C_draw K1 (sdN_lt z) l1 (show 0 < z_wl s (f (1 + 8 * b)) by omega) (by omega)
  rw [hKk] at t2
  obtain ⟨H2, hH2⟩ : ∃ H2, H2 = wL 128 14 (iL ((sdN (sdN z) : Nat) : Int)) H1 := ⟨_, rfl⟩
  rw [← hH2] at t2
  have F2 : FC (fun a k => a = 128 ∧ k = 14) h H2 := by rw [hH2]; exact F1.wL ⟨rfl, rfl⟩
  have B2 := B.fc hQ F2 McP_14
  have K2 := B2.1
  have C2 : CST s H2 st f := C.fc F2 h4 G.2.2 (fun a k z => by omega)
  have l2 : hL H2 128 14 = iL ((sdN (sdN z) : Nat) : Int) := by rw [hH2, p_LL, if_pos ⟨rfl, rfl⟩]
  have t3 := C_draw K2 (sdN_lt _) l2 (show 0 < 15 by decide) (by decide)
  rw [hT] at t3
  obtain ⟨H3, hH3⟩ : ∃ H3, H3 = wL 128 14 (iL ((sdN (sdN (sdN z)) : Nat) : Int)) H2 := ⟨_, rfl⟩
  rw [← hH3] at t3
  have t3' : X0_draw 128 15 H2 = some (nI bit, H3) := t3
  have F3 : FC (fun a k => a = 128 ∧ k = 14) h H3 := by rw [hH3]; exact F2.wL ⟨rfl, rfl⟩
  have B3 := B.fc hQ F3 McP_14
  have K3 := B3.1
  have C3 : CST s H3 st f := C.fc F3 h4 G.2.2 (fun a k z => by omega)
  have l3 : hL H3 128 14 = iL ((sdN (sdN (sdN z)) : Nat) : Int) := by rw [hH3, p_LL, if_pos ⟨rfl, rfl⟩]
  have gk := g3 k hk6
  have eR : hlR s f z = ((fun i => if i = 3 + 8 * b + k then an (f (3 + 8 * b + k)) (2 ^ bit) else f i), bN (f (3 + 8 * b + k)) bit, sdN (sdN (sdN z))) := by
    unfold hlR
    rw [hB]
    simp only [hKk, hT]
  have fin : ∀ v : Nat, v = bN (f (3 + 8 * b + k)) bit → Ev (X5_hails_63 st (nI b) (nI k) (nI bit) (some st) (hI H3 st 3) (nI v) H3) (fun H => FC (PHL st) h H ∧ CST s H st (hlR s f z).1 ∧ hI H st 3 = hI h st 3 + nI (hlR s f z).2.1 ∧ hL H 128 14 = iL (((hlR s f z).2.2 : Nat) : Int)) := by
    intro v hv
    obtain ⟨H4, h4', F4, C4, E4, L4⟩ := C_hails63 (v := v) C3 h4 G.2.2 hb hk6 hbit (hI H3 st 3)
    rw [eR]
    refine ⟨H4, h4', (F3.mono (Q := PHL st) (fun a k z => by unfold PHL; omega)).trans F4, C4, ?_, (L4 _ _).trans l3⟩
    rw [E4, F3.i (by omega), hv]
  have S := C.1
  have c3 := (C3.b hb).2.2 k hk6
  simp (disch := first | assumption | ((repeat (first | with_reducible refine TKI ?_ | with_reducible refine TKL ?_ | with_reducible refine CKI ?_ | with_reducible refine CKL ?_)); assumption) | omega) only [X5_hails, ↓bci_128, ci_128, ↓bcp_128, cp_128, ↓bco_128, co_128, ↓bcx_140, cx_140, ↓bcs_140, cs_140, ↓bcxl_140, cxl_140, ↓bcsl_140, csl_140, ↓bci_141, ci_141, ↓bcp_141, cp_141, ↓bco_141, co_141, ↓bci_142, ci_142, ↓bcp_142, cp_142, ↓bco_142, co_142, ↓bci_143, ci_143, ↓bcp_143, cp_143, ↓bco_143, co_143, ↓bcx_144, cx_144, ↓bcs_144, cs_144, ↓bcxl_144, cxl_144, ↓bcsl_144, csl_144, ↓bci_145, ci_145, ↓bcp_145, cp_145, ↓bco_145, co_145, ↓bcx_146, cx_146, ↓bcs_146, cs_146, ↓bcxl_146, cxl_146, ↓bcsl_146, csl_146, ↓bcx_147, cx_147, ↓bcs_147, cs_147, ↓bcxl_147, cxl_147, ↓bcsl_147, csl_147, ↓bci_256, ci_256, ↓bcp_256, cp_256, ↓bco_256, co_256, ↓bcx_258, cx_258, ↓bcs_258, cs_258, ↓bcxl_258, cxl_258, ↓bcsl_258, csl_258, ↓bcx_259, cx_259, ↓bcs_259, cs_259, ↓bcxl_259, cxl_259, ↓bcsl_259, csl_259, ↓bcx_260, cx_260, ↓bcs_260, cs_260, ↓bcxl_260, cxl_260, ↓bcsl_260, csl_260, ↓bcx_261, cx_261, ↓bcs_261, cs_261, ↓bcxl_261, cxl_261, ↓bcsl_261, csl_261, ↓bcx_262, cx_262, ↓bcs_262, cs_262, ↓bcxl_262, cxl_262, ↓bcsl_262, csl_262, ↓bcx_263, cx_263, ↓bcs_263, cs_263, ↓bcxl_263, cxl_263, ↓bcsl_263, csl_263, ↓bcx_264, cx_264, ↓bcs_264, cs_264, ↓bcxl_264, cxl_264, ↓bcsl_264, csl_264, ↓bcx_265, cx_265, ↓bcs_265, cs_265, ↓bcxl_265, cxl_265, ↓bcsl_265, csl_265, ↓bcx_266, cx_266, ↓bcs_266, cs_266, ↓bcxl_266, cxl_266, ↓bcsl_266, csl_266, ↓bcx_1348, cx_1348, ↓bcs_1348, cs_1348, ↓bcxl_1348, cxl_1348, ↓bcsl_1348, csl_1348, ↓bcg_128_1, cg_128_1, ↓bcg_128_5, cg_128_5, ↓bcg_128_6, cg_128_6, ↓bcg_128_7, cg_128_7, ↓bcg_128_8, cg_128_8, ↓bcg_128_9, cg_128_9, ↓bcg_128_10, cg_128_10, ↓bcg_128_11, cg_128_11, ↓bcg_128_12, cg_128_12, ↓bcg_128_16, cg_128_16, ↓bcg_141_0, cg_141_0, ↓bcg_141_7, cg_141_7, ↓bcg_143_0, cg_143_0, ↓bcg_145_0, cg_145_0, ↓bcg_256_6, cg_256_6, ↓bcg_256_7, cg_256_7, ↓bcg_256_8, cg_256_8, ↓bcg_256_9, cg_256_9, ↓Option.bind_some, ↓b2_some, ↓bX_l, ↓bX_r, Option.bind_some, Option.bind_none, b2_some, bX_l, bX_r, nn_e, if_true, if_false, reduceCtorEq, ↓reduceIte, Nat.reduceEqDiff, Nat.reduceLT, Nat.reduceLeDiff, Nat.reduceSubDiff, Nat.reduceAdd, Nat.reduceMul, ↓bd_of S.g9, ↓b2_of (C_boards B), ↓b2_of t1, ↓bd_of C1.1.g9, ↓bd_of C1.1.o, ↓b2_of (C_places F B1 C1.1 hb4 g1 (C1.b hb).1), ↓b2_of t2, ↓bd_of C2.1.g9, ↓b2_of t3', ↓bd_of (C3.1.gi 3), ↓bd_of C3.1.g6, ↓bd_of (C3.1.x3 hb4), ↓bd_of (C3.1.x4 hb4 hk6), c3, ↓b2_of (X0_has_e gk hbit H3)]
  rcases bN_01 (f (3 + 8 * b + k)) bit with eb | eb
  · rw [eb, if_pos (show nI 0 = 0 from rfl)]; exact fin 0 eb.symm
  · rw [eb, if_neg (show ¬ nI 1 = 0 by decide)]; exact fin 1 eb.symm
def PCH (st a k : Nat) : Prop := PYR st a k ∨ PHL st a k
theorem McP_PCH {st : Nat} (hz : SZ st) : McP (PCH st) := fun a k z => z.elim (McP_PYR hz a k) (McP_PHL hz a k)
theorem C_passes1 (F : WFS s) (hQ : ∀ a, Q a → Im a) (B : CB va th Q h sp s) (G : WFN s f) (hz : SZ st) (C : CST s h st f) {z : Nat} (hz0 : z < 2147483648) (e : hL h 128 14 = iL (z : Int)) (hn : 0 < z_nb s) :
    Ev (X5_passes va th st 1 h) (fun H => FC (PCH st) h H ∧ CST s H st (yg s (sdf s f) (hlR s f z).1) ∧ hI H st 3 = hI h st 3 + nI (hlR s f z).2.1 ∧ hL H 128 14 = iL (((hlR s f z).2.2 : Nat) : Int)) := by
  have q4 := F.2.2.2.2.1
  have zz := hz
  unfold SZ at zz
  refine C_ahead F hQ B G hz C (fun H F2 D => ?_)
  have B2 := B.fc hQ F2 (McP_PAH hz)
  have C2 : CST s H st f := C.fc F2 q4 G.2.2 (fun a k z => by unfold PAH; omega)
  have l2 : hL H 128 14 = iL (z : Int) := (F2.l (by unfold PAH; omega)).trans e
  obtain ⟨H3, h3, F3, C3, E3, L3⟩ := C_hails F hQ B2 C2 G hz hz0 l2 hn
  obtain ⟨x1, x2, x3, x4, -⟩ := hl_ok F G z hn
  have B3 := B2.fc hQ F3 (McP_PHL hz)
  have D3 : ASD H3 st s (hlR s f z).1 (sdf s f) := fun b k hb hk => (F3.i (by unfold PHL; omega)).trans (D b k hb (by rw [← x4 b hb]; exact hk))
  rw [X5_passes_51, if_neg (show ¬ (1 : Int32) = 0 by decide), C2.1.o, Option.bind_some, h3, Option.bind_some]
  refine ev_mono (C_passes61 F hQ B3 x1 hz (fun b k hb => sdf_lt F G hb) C3 D3) ?_
  rintro H4 ⟨F4, C4, -⟩
  refine ⟨((F2.mono (Q := PCH st) (fun a k z => Or.inl (Or.inr z))).trans (F3.mono (fun a k z => Or.inr z))).trans (F4.mono (fun a k z => Or.inl (Or.inl z))), C4, ?_, (F4.l (by unfold PPS; omega)).trans L3⟩
  rw [F4.i (by unfold PPS; omega), E3, F2.i (by unfold PAH; omega)]
def PGC (a k : Nat) : Prop := PGO a k ∨ (a = 128 ∧ k = 14)
theorem McP_PGC : McP PGC := fun a k z => z.elim (McP_PGO a k) (McP_14 a k)
theorem C_chance (F : WFS s) (hQ : ∀ a, Q a → Im a) (B : CB va th Q h sp s) (C : CNW s h f) (G : WFN s f) {U : List RW} (T : CUN h s U) {r : Nat → Int32} (R : CRF h r) {z : Nat} (hz : z < 2147483648) (ez : hL h 128 14 = iL (z : Int)) (x : Int32) :
    Ev (X0_chance va th 128 x h) (fun v => (isA f x 1 100 = true → v.1 = nI (chN s (nt x) f z).2.1 ∧ FC PGC h v.2 ∧ CNW s v.2 (chN s (nt x) f z).1 ∧ CUN v.2 s (kpU f U) ∧ hL v.2 128 14 = iL (((chN s (nt x) f z).2.2 : Nat) : Int)) ∧ (isA f x 1 100 = false → v.1 = -1 ∧ v.2 = wI 147 3 (r 3 + 1) h)) := by
  have h4 := F.2.2.2.2.1
  obtain ⟨-, -, hl100⟩ := F.2.2.2.2.2.1
  have K := B.1
  have z148 : SZ 148 := by unfold SZ; omega
  rw [X0_chance, co_128 K, Option.bind_some, show X0_isAhead 128 x 1 100 h = X0_isAhead 128 x (nI 1) (nI 100) h from rfl, b2_of (C_isAhead B C G.1 x (by decide) (by decide))]
  cases e : isA f x 1 100 with
  | false =>
    have rf : X0_refuses 128 3 h = some (-1, wI 147 3 (r 3 + 1) h) := (C_refuses B R (k := 3) (by decide)).1
    rw [if_pos (show bI false = 0 from rfl), co_128 K, Option.bind_some, b2_of rf, Ev_some]
    exact ⟨fun q => (by cases q), fun _ => ⟨rfl, rfl⟩⟩
  | true =>
    obtain ⟨n, rfl, -, n2, n3⟩ := isA_ex (by decide) e
    rw [if_neg (show ¬ bI true = 0 by decide), co_128 K, Option.bind_some, nt_n (by omega)]
    obtain ⟨H1, h1, F1, T1, C1⟩ := C_keeps F hQ B C G T
    have B1 := B.fc hQ F1 McP_PKP
    have K1 := B1.1
    have F2 : FC (fun a k => a = 148 ∧ k = 3) H1 (wI 148 3 0 H1) := (FC.refl _ H1).wI ⟨rfl, rfl⟩
    have C2 := C1.fc F2 h4 G.2.2 (fun a k z => by omega)
    have T2 := T1.fc F2 h4 (fun a k z => by omega)
    have F12 : FC PGC h (wI 148 3 0 H1) := (F1.mono (Q := PGC) (fun a k z => Or.inl (Or.inl z))).trans (F2.mono (Q := PGC) (fun a k z => by unfold PGC PGO PST; omega))
    have l2 : hL (wI 148 3 0 H1) 128 14 = iL (z : Int) := (F1.l (by unfold PKP; omega)).trans ez
    rw [h1, Option.bind_some, cg_128_9 K1, Option.bind_some, C1.1.1.pi, Option.bind_some, X0_chance_31]
    refine ev_for n (fun k st => st.1 = nI k ∧ FC PGC h st.2 ∧ CNW s st.2 (chN s k f z).1 ∧ CUN st.2 s (kpU f U) ∧ hL st.2 128 14 = iL (((chN s k f z).2.2 : Nat) : Int) ∧ hI st.2 148 3 = nI (chN s k f z).2.1) ?_ ?_ 0 _ (Nat.zero_le _) ⟨rfl, F12, C2, T2, l2, by rw [p_II, if_pos ⟨rfl, rfl⟩]; rfl⟩
    · rintro k ⟨c, H⟩ hk ⟨hc, F3, C3, T3, l3, E3⟩
      simp only at hc F3 C3 T3 l3 E3
      subst hc
      obtain ⟨G2, y2, z2⟩ := ch_ok F G hz k (by omega)
      generalize hp : chN s k f z = p at *
      have hnext : chN s (k + 1) f z = ch1 s p := by show ch1 s (chN s k f z) = _; rw [hp]
      rw [hnext]
      have B3 := B.fc hQ F3 McP_PGC
      have K3 := B3.1
      have td : X0_draw 128 100 H = some (nI (drw p.2.2 100), wL 128 14 (iL ((sdN p.2.2 : Nat) : Int)) H) := C_draw K3 z2 l3 (show 0 < 100 by decide) (by decide)
      obtain ⟨H4, hH4⟩ : ∃ H4, H4 = wL 128 14 (iL ((sdN p.2.2 : Nat) : Int)) H := ⟨_, rfl⟩
      rw [← hH4] at td
      have F4 : FC (fun a k => a = 128 ∧ k = 14) H H4 := by rw [hH4]; exact (FC.refl _ H).wL ⟨rfl, rfl⟩
      have B4 := B3.fc hQ F4 McP_14
      have K4 := B4.1
      have C4 := C3.fc F4 h4 G2.2.2 (fun a k z => by omega)
      have T4 := T3.fc F4 h4 (fun a k z => by omega)
      have l4 : hL H4 128 14 = iL ((sdN p.2.2 : Nat) : Int) := by rw [hH4, p_LL, if_pos ⟨rfl, rfl⟩]
      have E4 : hI H4 148 3 = nI p.2.1 := (F4.i (by omega)).trans E3
      have F34 : FC PGC h H4 := F3.trans (F4.mono (Q := PGC) (fun a k z => Or.inr z))
      have og : gI 1 3 (some sp) H4 = some (nI (z_hl s)) := by rw [gI_e B4.2.2.2.1.1, B4.2.2.2.2.1.2.2]
      have d100 : drw p.2.2 100 < 100 := Nat.mod_lt _ (by decide)
      obtain ⟨q2, R2⟩ := C4.2.2
      have no : ch1 s p = (yg s (sdf s p.1) p.1, p.2.1, sdN p.2.2) → Ev (X0_chance_68 va th 128 (nI n) (nI k) (some 148) 0 H4) (fun o => ∃ H', o = .inl (nI (k + 1), H') ∧ FC PGC h H' ∧ CNW s H' (ch1 s p).1 ∧ CUN H' s (kpU f U) ∧ hL H' 128 14 = iL (((ch1 s p).2.2 : Nat) : Int) ∧ hI H' 148 3 = nI (ch1 s p).2.1) := by
        intro ec
        rw [ec]
        obtain ⟨H5, h5, F5, C5, -⟩ := C_passes0 F hQ B4 G2 z148 C4.1
        rw [X0_chance_68, C4.1.1.o, Option.bind_some, h5, Option.bind_some, nA1, Ev_some]
        refine ⟨H5, rfl, F34.trans (F5.mono (Q := PGC) (fun a k z => by unfold PYR PPS PAH at z; unfold PGC PGO PST; omega)), ⟨C5, C4.2.1.fc F5 (fun a k z => by unfold PYR PPS PAH; omega), q2, R2.fc F5 (fun k => by unfold PYR PPS PAH; omega)⟩, T4.fc F5 h4 (fun a k z => by unfold PYR PPS PAH; omega), (F5.l (by unfold PYR PPS PAH; omega)).trans l4, (F5.i (by unfold PYR PPS PAH; omega)).trans E4⟩
      have yes : 0 < z_nb s → ch1 s p = (yg s (sdf s p.1) (hlR s p.1 (sdN p.2.2)).1, p.2.1 + (hlR s p.1 (sdN p.2.2)).2.1, (hlR s p.1 (sdN p.2.2)).2.2) → Ev (X0_chance_68 va th 128 (nI n) (nI k) (some 148) 1 H4) (fun o => ∃ H', o = .inl (nI (k + 1), H') ∧ FC PGC h H' ∧ CNW s H' (ch1 s p).1 ∧ CUN H' s (kpU f U) ∧ hL H' 128 14 = iL (((ch1 s p).2.2 : Nat) : Int) ∧ hI H' 148 3 = nI (ch1 s p).2.1) := by
        intro hn ec
        rw [ec]
        obtain ⟨H5, h5, F5, C5, E5, L5⟩ := C_passes1 F hQ B4 G2 z148 C4.1 (sdN_lt _) l4 hn
        rw [X0_chance_68, C4.1.1.o, Option.bind_some, h5, Option.bind_some, nA1, Ev_some]
        refine ⟨H5, rfl, F34.trans (F5.mono (Q := PGC) (fun a k z => by unfold PCH PYR PPS PAH PHL at z; unfold PGC PGO PST; omega)), ⟨C5, C4.2.1.fc F5 (fun a k z => by unfold PCH PYR PPS PAH PHL; omega), q2, R2.fc F5 (fun k => by unfold PCH PYR PPS PAH PHL; omega)⟩, T4.fc F5 h4 (fun a k z => by unfold PCH PYR PPS PAH PHL; omega), L5, ?_⟩
        rw [E5, E4, n_add]
      simp (disch := first | assumption | ((repeat (first | with_reducible refine TKI ?_ | with_reducible refine TKL ?_ | with_reducible refine CKI ?_ | with_reducible refine CKL ?_)); assumption) | omega) only [X0_chance_31b, X0_chance_67, ↓bci_128, ci_128, ↓bcp_128, cp_128, ↓bco_128, co_128, ↓bcx_140, cx_140, ↓bcs_140, cs_140, ↓bcxl_140, cxl_140, ↓bcsl_140, csl_140, ↓bci_141, ci_141, ↓bcp_141, cp_141, ↓bco_141, co_141, ↓bci_142, ci_142, ↓bcp_142, cp_142, ↓bco_142, co_142, ↓bci_143, ci_143, ↓bcp_143, cp_143, ↓bco_143, co_143, ↓bcx_144, cx_144, ↓bcs_144, cs_144, ↓bcxl_144, cxl_144, ↓bcsl_144, csl_144, ↓bci_145, ci_145, ↓bcp_145, cp_145, ↓bco_145, co_145, ↓bcx_146, cx_146, ↓bcs_146, cs_146, ↓bcxl_146, cxl_146, ↓bcsl_146, csl_146, ↓bcx_147, cx_147, ↓bcs_147, cs_147, ↓bcxl_147, cxl_147, ↓bcsl_147, csl_147, ↓bci_256, ci_256, ↓bcp_256, cp_256, ↓bco_256, co_256, ↓bcx_258, cx_258, ↓bcs_258, cs_258, ↓bcxl_258, cxl_258, ↓bcsl_258, csl_258, ↓bcx_259, cx_259, ↓bcs_259, cs_259, ↓bcxl_259, cxl_259, ↓bcsl_259, csl_259, ↓bcx_260, cx_260, ↓bcs_260, cs_260, ↓bcxl_260, cxl_260, ↓bcsl_260, csl_260, ↓bcx_261, cx_261, ↓bcs_261, cs_261, ↓bcxl_261, cxl_261, ↓bcsl_261, csl_261, ↓bcx_262, cx_262, ↓bcs_262, cs_262, ↓bcxl_262, cxl_262, ↓bcsl_262, csl_262, ↓bcx_263, cx_263, ↓bcs_263, cs_263, ↓bcxl_263, cxl_263, ↓bcsl_263, csl_263, ↓bcx_264, cx_264, ↓bcs_264, cs_264, ↓bcxl_264, cxl_264, ↓bcsl_264, csl_264, ↓bcx_265, cx_265, ↓bcs_265, cs_265, ↓bcxl_265, cxl_265, ↓bcsl_265, csl_265, ↓bcx_266, cx_266, ↓bcs_266, cs_266, ↓bcxl_266, cxl_266, ↓bcsl_266, csl_266, ↓bcx_1348, cx_1348, ↓bcs_1348, cs_1348, ↓bcxl_1348, cxl_1348, ↓bcsl_1348, csl_1348, ↓bcg_128_1, cg_128_1, ↓bcg_128_5, cg_128_5, ↓bcg_128_6, cg_128_6, ↓bcg_128_7, cg_128_7, ↓bcg_128_8, cg_128_8, ↓bcg_128_9, cg_128_9, ↓bcg_128_10, cg_128_10, ↓bcg_128_11, cg_128_11, ↓bcg_128_12, cg_128_12, ↓bcg_128_16, cg_128_16, ↓bcg_141_0, cg_141_0, ↓bcg_141_7, cg_141_7, ↓bcg_143_0, cg_143_0, ↓bcg_145_0, cg_145_0, ↓bcg_256_6, cg_256_6, ↓bcg_256_7, cg_256_7, ↓bcg_256_8, cg_256_8, ↓bcg_256_9, cg_256_9, ↓Option.bind_some, ↓b2_some, ↓bX_l, ↓bX_r, Option.bind_some, Option.bind_none, b2_some, bX_l, bX_r, nn_e, if_true, if_false, reduceCtorEq, ↓reduceIte, Nat.reduceEqDiff, Nat.reduceLT, Nat.reduceLeDiff, Nat.reduceSubDiff, Nat.reduceAdd, Nat.reduceMul, nL0, nL1, nL2, hk, ↓b2_of td, ↓bd_of (C_g0 B4), ↓bd_of og, ↓b2_of (C_boards B4)]
      by_cases q1 : drw p.2.2 100 < z_hl s
      · rw [if_pos q1]
        by_cases q2 : 0 < z_nb s
        · rw [if_pos q2]
          obtain ⟨_, e9, H', rfl, a9⟩ := yes q2 (by unfold ch1; rw [if_pos ⟨q1, q2⟩])
          exact ⟨_, e9, rfl, a9⟩
        · rw [if_neg q2]
          obtain ⟨_, e9, H', rfl, a9⟩ := no (by unfold ch1; rw [if_neg (fun z => q2 z.2)])
          exact ⟨_, e9, rfl, a9⟩
      · rw [if_neg q1]
        obtain ⟨_, e9, H', rfl, a9⟩ := no (by unfold ch1; rw [if_neg (fun z => q1 z.1)])
        exact ⟨_, e9, rfl, a9⟩
    · rintro ⟨c, H⟩ ⟨hc, F3, C3, T3, l3, E3⟩
      simp only at hc F3 C3 T3 l3 E3
      subst hc
      have K3 := (B.fc hQ F3 McP_PGC).1
      simp (disch := first | assumption | ((repeat (first | with_reducible refine TKI ?_ | with_reducible refine TKL ?_ | with_reducible refine CKI ?_ | with_reducible refine CKL ?_)); assumption) | omega) only [X0_chance_31b, X0_chance_77, ↓bci_128, ci_128, ↓bcp_128, cp_128, ↓bco_128, co_128, ↓bcx_140, cx_140, ↓bcs_140, cs_140, ↓bcxl_140, cxl_140, ↓bcsl_140, csl_140, ↓bci_141, ci_141, ↓bcp_141, cp_141, ↓bco_141, co_141, ↓bci_142, ci_142, ↓bcp_142, cp_142, ↓bco_142, co_142, ↓bci_143, ci_143, ↓bcp_143, cp_143, ↓bco_143, co_143, ↓bcx_144, cx_144, ↓bcs_144, cs_144, ↓bcxl_144, cxl_144, ↓bcsl_144, csl_144, ↓bci_145, ci_145, ↓bcp_145, cp_145, ↓bco_145, co_145, ↓bcx_146, cx_146, ↓bcs_146, cs_146, ↓bcxl_146, cxl_146, ↓bcsl_146, csl_146, ↓bcx_147, cx_147, ↓bcs_147, cs_147, ↓bcxl_147, cxl_147, ↓bcsl_147, csl_147, ↓bci_256, ci_256, ↓bcp_256, cp_256, ↓bco_256, co_256, ↓bcx_258, cx_258, ↓bcs_258, cs_258, ↓bcxl_258, cxl_258, ↓bcsl_258, csl_258, ↓bcx_259, cx_259, ↓bcs_259, cs_259, ↓bcxl_259, cxl_259, ↓bcsl_259, csl_259, ↓bcx_260, cx_260, ↓bcs_260, cs_260, ↓bcxl_260, cxl_260, ↓bcsl_260, csl_260, ↓bcx_261, cx_261, ↓bcs_261, cs_261, ↓bcxl_261, cxl_261, ↓bcsl_261, csl_261, ↓bcx_262, cx_262, ↓bcs_262, cs_262, ↓bcxl_262, cxl_262, ↓bcsl_262, csl_262, ↓bcx_263, cx_263, ↓bcs_263, cs_263, ↓bcxl_263, cxl_263, ↓bcsl_263, csl_263, ↓bcx_264, cx_264, ↓bcs_264, cs_264, ↓bcxl_264, cxl_264, ↓bcsl_264, csl_264, ↓bcx_265, cx_265, ↓bcs_265, cs_265, ↓bcxl_265, cxl_265, ↓bcsl_265, csl_265, ↓bcx_266, cx_266, ↓bcs_266, cs_266, ↓bcxl_266, cxl_266, ↓bcsl_266, csl_266, ↓bcx_1348, cx_1348, ↓bcs_1348, cs_1348, ↓bcxl_1348, cxl_1348, ↓bcsl_1348, csl_1348, ↓bcg_128_1, cg_128_1, ↓bcg_128_5, cg_128_5, ↓bcg_128_6, cg_128_6, ↓bcg_128_7, cg_128_7, ↓bcg_128_8, cg_128_8, ↓bcg_128_9, cg_128_9, ↓bcg_128_10, cg_128_10, ↓bcg_128_11, cg_128_11, ↓bcg_128_12, cg_128_12, ↓bcg_128_16, cg_128_16, ↓bcg_141_0, cg_141_0, ↓bcg_141_7, cg_141_7, ↓bcg_143_0, cg_143_0, ↓bcg_145_0, cg_145_0, ↓bcg_256_6, cg_256_6, ↓bcg_256_7, cg_256_7, ↓bcg_256_8, cg_256_8, ↓bcg_256_9, cg_256_9, ↓Option.bind_some, ↓b2_some, ↓bX_l, ↓bX_r, Option.bind_some, Option.bind_none, b2_some, bX_l, bX_r, nn_e, if_true, if_false, reduceCtorEq, ↓reduceIte, Nat.reduceEqDiff, Nat.reduceLT, Nat.reduceLeDiff, Nat.reduceSubDiff, Nat.reduceAdd, Nat.reduceMul, nL0, nL1, nL2, Nat.lt_irrefl, ↓bd_of (C3.1.1.gi 3), E3]
      rw [Ev_some]
      exact ⟨fun _ => ⟨rfl, F3, C3, T3, l3⟩, fun q => (by cases q)⟩
end CHail
