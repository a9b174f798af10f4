set_option maxRecDepth 100000
/-! ===== years, hail, strokes, paint, seeds: the twin's ===== -/
def sdN (z : Nat) : Nat := (1103515245 * z + 12345) % 2147483648
def drw (z m : Nat) : Nat := sdN z / 64 % m
/-- a stroke that hail takes: the row, how many strokes, the seed -/
def hlR (s : SH) (f : RW) (z : Nat) : RW × Nat × Nat :=
  let b := drw z (z_nb s)
  let k := drw (sdN z) (z_wl s (f (1 + 8 * b)))
  let bit := drw (sdN (sdN z)) 15
  ((fun i => if i = 3 + 8 * b + k then an (f (3 + 8 * b + k)) (2 ^ bit) else f i), bN (f (3 + 8 * b + k)) bit, sdN (sdN (sdN z)))
/-- a year by chance: row, strokes, seed -/
def ch1 (s : SH) (p : RW × Nat × Nat) : RW × Nat × Nat :=
  if drw p.2.2 100 < z_hl s ∧ 0 < z_nb s then (yg s (sdf s p.1) (hlR s p.1 (sdN p.2.2)).1, p.2.1 + (hlR s p.1 (sdN p.2.2)).2.1, (hlR s p.1 (sdN p.2.2)).2.2)
  else (yg s (sdf s p.1) p.1, p.2.1, sdN p.2.2)
def chN (s : SH) (n : Nat) (f : RW) (z : Nat) : RW × Nat × Nat := itr (fun _ p => ch1 s p) n (f, 0, z)
theorem sdN_lt (z : Nat) : sdN z < 2147483648 := Nat.mod_lt _ (by decide)
theorem L_rem {a b : Nat} (ha : a < 4611686018427387904) (hb : b < 4611686018427387904) (h0 : 0 < b) : jremL (iL a) (iL b) = iL ((a % b : Nat) : Int) := by
  have wa : wide (a : Int) := by unfold wide; omega
  have wb : wide (b : Int) := by unfold wide; omega
  have hq : a / b ≤ a := Nat.div_le_self a b
  have hw : wide ((a / b : Nat) : Int) := by
    generalize a / b = x at hq
    unfold wide
    omega
  have hd : iL (a : Int) / iL (b : Int) = iL ((a / b : Nat) : Int) := by
    rw [← Int64.toInt_inj, Int64.toInt_div_of_ne_right _ _ (fun e => by have := iL_int wb; rw [e] at this; have e2 : (-1 : Int64).toInt = -1 := by decide
                                                                        omega), iL_int wa, iL_int wb, iL_int hw]
    exact Int.ofNat_tdiv a b
  unfold jremL
  rw [hd, iL_mul, iL_sub]
  congr 1
  have h1 := Nat.div_add_mod a b
  have h2 : ((a / b : Nat) : Int) * (b : Int) = ((b * (a / b) : Nat) : Int) := by rw [Nat.mul_comm, Int.natCast_mul]
  rw [h2]
  omega
theorem L_div64 {a : Nat} (ha : a < 4611686018427387904) : iL (a : Int) / 64 = iL ((a / 64 : Nat) : Int) := by
  have wa : wide (a : Int) := by unfold wide; omega
  have e64 : (64 : Int64) = iL 64 := by decide
  rw [e64, ← Int64.toInt_inj, Int64.toInt_div_of_ne_right _ _ (by decide), iL_int wa, iL_int (by unfold wide; omega), iL_int (by unfold wide; omega)]
  exact Int.ofNat_tdiv a 64
/-- the seed as both draw from it -/
theorem L_seed {z : Nat} (hz : z < 2147483648) : jremL ((1103515245 * iL (z : Int)) + 12345) 2147483648 = iL ((sdN z : Nat) : Int) := by
  have e1 : (1103515245 : Int64) = iL 1103515245 := by decide
  have e2 : (12345 : Int64) = iL 12345 := by decide
  have e3 : (2147483648 : Int64) = iL ((2147483648 : Nat) : Int) := by decide
  rw [e1, e2, e3, iL_mul, iL_add, show (1103515245 : Int) * (z : Int) + 12345 = ((1103515245 * z + 12345 : Nat) : Int) by omega, L_rem (by omega) (by decide) (by decide)]
  rfl
theorem L_draw {z m : Nat} (hm : 0 < m) (hm2 : m < 1000) : Int64.toInt32 (jremL (iL ((sdN z : Nat) : Int) / 64) (iL (m : Int))) = nI (drw z m) := by
  have := sdN_lt z
  have h2 : drw z m < m := Nat.mod_lt _ hm
  rw [L_div64 (by omega), L_rem (by omega) (by omega) hm, L2i (by unfold rng drw at *; omega)]
  rw [← Int32.toInt_inj, n_int (by omega), Int32.toInt_ofInt_of_le (by omega) (by unfold drw at h2; omega)]
  rfl
section Hail
variable {h : AH} {s : SH} {f : RW}
theorem T_drawOf (W : TKK (hK h) (hR h)) {z m : Nat} (hz : z < 2147483648) (e : hL h 1349 80 = iL (z : Int)) (hm : 0 < m) (hm2 : m < 1000) : X7_drawOf 1349 (nI m) h = some (nI (drw z m), wL 1349 80 (iL ((sdN z : Nat) : Int)) h) := by
  have z1 : nzL 2147483648 = some () := nzL_e (by decide)
  have z2 : nzL 64 = some () := nzL_e (by decide)
  have em : Int32.toInt64 (nI m) = iL (m : Int) := by rw [i2L, n_int (by omega)]
  have z3 : nzL (iL (m : Int)) = some () := nzL_e (by
    rw [show (0 : Int64) = iL 0 by decide]
    intro q
    have := (iL_inj (by unfold wide; omega) (by unfold wide; omega)).mp q
    omega)
  have e2 : hL (wL 1349 80 (iL ((sdN z : Nat) : Int)) h) 1349 80 = iL ((sdN z : Nat) : Int) := by rw [p_LL, if_pos ⟨rfl, rfl⟩]
  simp (disch := first | assumption | ((repeat (first | with_reducible refine TKI ?_ | with_reducible refine TKL ?_)); assumption) | omega) only [X7_drawOf, ↓btgI, ↓btpI, ↓btgL, ↓btpL, ↓btisO, tgI, tpI, tgL, tpL, tisO, ↓Option.bind_some, ↓b2_some, ↓bX_l, ↓bX_r, Option.bind_some, Option.bind_none, b2_some, bX_l, bX_r, nn_e, if_true, if_false, reduceCtorEq, ↓reduceIte, Nat.reduceEqDiff, Nat.reduceLT, Nat.reduceLeDiff, Nat.reduceSubDiff, Nat.reduceAdd, Nat.reduceMul, e, z1, z2, z3, em, L_seed hz, e2, L_draw hm hm2]
theorem T_hails (W : TKK (hK h) (hR h)) (F : WFS s) (S : TSH h s) (N : TNOW h f) (G : WFN s f) {z : Nat} (hz : z < 2147483648) (e : hL h 1349 80 = iL (z : Int)) (hn : 0 < z_nb s) :
    Ev (X7_hails 1349 h) (fun v => v.1 = nI (hlR s f z).2.1 ∧ FT (fun a k => a = 1389 ∨ (a = 1349 ∧ k = 80)) h v.2 ∧ TNOW v.2 (hlR s f z).1 ∧ hL v.2 1349 80 = iL (((hlR s f z).2.2 : Nat) : Int)) := by
  have h4 := F.2.2.2.2.1
  have hb : drw z (z_nb s) < z_nb s := Nat.mod_lt _ hn
  obtain ⟨g1, g2, -, g3⟩ := G.2.1 _ hb
  obtain ⟨w1, w2, -, -⟩ := F.2.2.2.1 _ g1
  have hk : drw (sdN z) (z_wl s (f (1 + 8 * drw z (z_nb s)))) < z_wl s (f (1 + 8 * drw z (z_nb s))) := Nat.mod_lt _ (by omega)
  have hbit : drw (sdN (sdN z)) 15 < 15 := Nat.mod_lt _ (by decide)
  have t1 := T_drawOf W hz e hn (show z_nb s < 1000 by omega)
  generalize hB : drw z (z_nb s) = b at *
  generalize hK : drw (sdN z) (z_wl s (f (1 + 8 * b))) = k at *
  generalize hT : drw (sdN (sdN z)) 15 = bit at *
  obtain ⟨H1, hH1⟩ : ∃ H1, H1 = wL 1349 80 (iL ((sdN z : Nat) : Int)) h := ⟨_, rfl⟩
  rw [← hH1] at t1
  have W1 : TKK H1.1 (hR H1) := by rw [hH1]; exact W
  have S1 : TSH H1 s := by rw [hH1]; exact S.fr (fun _ _ _ => rfl)
  have N1 : TNOW H1 f := by rw [hH1]; exact N.fr (fun _ => rfl)
  have l1 : hL H1 1349 80 = iL ((sdN z : Nat) : Int) := by rw [hH1, p_LL, if_pos ⟨rfl, rfl⟩]
  have t2 := T_drawOf W1 (sdN_lt z) l1 (show 0 < z_wl s (f (1 + 8 * b)) by omega) (by omega)
  rw [hK] at t2
  obtain ⟨H2, hH2⟩ : ∃ H2, H2 = wL 1349 80 (iL ((sdN (sdN z) : Nat) : Int)) H1 := ⟨_, rfl⟩
  rw [← hH2] at t2
  have W2 : TKK H2.1 (hR H2) := by rw [hH2]; exact W1
  have N2 : TNOW H2 f := by rw [hH2]; exact N1.fr (fun _ => rfl)
  have l2 : hL H2 1349 80 = iL ((sdN (sdN z) : Nat) : Int) := by rw [hH2, p_LL, if_pos ⟨rfl, rfl⟩]
  have t3 := T_drawOf W2 (sdN_lt _) l2 (show 0 < 15 by decide) (by decide)
  rw [hT] at t3
  obtain ⟨H3, hH3⟩ : ∃ H3, H3 = wL 1349 80 (iL ((sdN (sdN (sdN z)) : Nat) : Int)) H2 := ⟨_, rfl⟩
  rw [← hH3] at t3
  have t3' : X7_drawOf 1349 15 H2 = some (nI bit, H3) := t3
  have W3 : TKK H3.1 (hR H3) := by rw [hH3]; exact W2
  have N3 : TNOW H3 f := by rw [hH3]; exact N2.fr (fun _ => rfl)
  have l3 : hL H3 1349 80 = iL ((sdN (sdN (sdN z)) : Nat) : Int) := by rw [hH3, p_LL, if_pos ⟨rfl, rfl⟩]
  have F3 : FT (fun a k => a = 1389 ∨ (a = 1349 ∧ k = 80)) h H3 := by
    rw [hH3, hH2, hH1]
    exact (((FT.refl _ _).wL (Or.inr ⟨rfl, rfl⟩)).wL (Or.inr ⟨rfl, rfl⟩)).wL (Or.inr ⟨rfl, rfl⟩)
  have gk := g3 k (by omega)
  simp (disch := first | assumption | ((repeat (first | with_reducible refine TKI ?_ | with_reducible refine TKL ?_)); assumption) | omega) only [X7_hails, ↓btgI, ↓btpI, ↓btgL, ↓btpL, ↓btisO, tgI, tpI, tgL, tpL, tisO, ↓btg_57, tg_57, ↓btx_1389, tx_1389, ↓bts_1389, ts_1389, ↓btxl_1389, txl_1389, ↓btsl_1389, tsl_1389, ↓Option.bind_some, ↓b2_some, ↓bX_l, ↓bX_r, Option.bind_some, Option.bind_none, b2_some, bX_l, bX_r, nn_e, if_true, if_false, reduceCtorEq, ↓reduceIte, Nat.reduceEqDiff, Nat.reduceLT, Nat.reduceLeDiff, Nat.reduceSubDiff, Nat.reduceAdd, Nat.reduceMul, ↓b2_of (T_boardMany W S), ↓b2_of t1, ↓b2_of (T_wordOf W1 N1 (show b < 4 by omega)), ↓b2_of (T_longOf W1 F S1 g1), ↓b2_of t2, ↓b2_of t3', ↓b2_of (T_glyphAt W3 N3 (show b < 4 by omega) (show k < 6 by omega)), nA1, nA2, nM2, n_add, n_clr hbit, jbit gk hbit]
  rw [Ev_some]
  have eR : hlR s f z = ((fun i => if i = 3 + 8 * b + k then an (f (3 + 8 * b + k)) (2 ^ bit) else f i), bN (f (3 + 8 * b + k)) bit, sdN (sdN (sdN z))) := by
    unfold hlR
    rw [hB]
    simp only [hK, hT]
  rw [eR]
  refine ⟨rfl, F3.wI (Or.inl rfl), N3.up _ _, l3⟩
theorem hl_ok (F : WFS s) (G : WFN s f) (z : Nat) (hn : 0 < z_nb s) : WFN s (hlR s f z).1 ∧ (hlR s f z).2.2 < 2147483648 ∧ (hlR s f z).1 0 = f 0 ∧ (∀ b, b < z_nb s → (hlR s f z).1 (1 + 8 * b) = f (1 + 8 * b)) ∧ (hlR s f z).2.1 ≤ 1 := by
  have h4 := F.2.2.2.2.1
  have hb : drw z (z_nb s) < z_nb s := Nat.mod_lt _ hn
  obtain ⟨g1, g2, -, g3⟩ := G.2.1 _ hb
  obtain ⟨w1, w2, -, -⟩ := F.2.2.2.1 _ g1
  have hk : drw (sdN z) (z_wl s (f (1 + 8 * drw z (z_nb s)))) < z_wl s (f (1 + 8 * drw z (z_nb s))) := Nat.mod_lt _ (by omega)
  have v0 : (hlR s f z).1 0 = f 0 := by show (if 0 = _ then _ else f 0) = f 0; rw [if_neg (by omega)]
  have v1 : ∀ b, b < z_nb s → (hlR s f z).1 (1 + 8 * b) = f (1 + 8 * b) := fun b hb2 => by show (if 1 + 8 * b = _ then _ else f (1 + 8 * b)) = _; rw [if_neg (by omega)]
  refine ⟨WFN_up G (by rw [v0]; exact G.1) (fun b hb2 => ⟨v1 b hb2, ?_⟩) (fun b k hb2 hk2 => ?_) ?_, sdN_lt _, v0, v1, ?_⟩
  · show (if 2 + 8 * b = _ then _ else f (2 + 8 * b)) = _
    rw [if_neg (by omega)]
  · show (if 3 + 8 * b + k = _ then _ else f (3 + 8 * b + k)) < 32768
    split
    · exact an_lt (g3 _ (by omega))
    · exact (G.2.1 b hb2).2.2.2 k hk2
  · show (if 33 = _ then _ else f 33) ≤ 40
    rw [if_neg (by omega)]; exact G.2.2
  · have := bN_01 (f (3 + 8 * drw z (z_nb s) + drw (sdN z) (z_wl s (f (1 + 8 * drw z (z_nb s)))))) (drw (sdN (sdN z)) 15)
    show bN (f (3 + 8 * drw z (z_nb s) + drw (sdN z) (z_wl s (f (1 + 8 * drw z (z_nb s)))))) (drw (sdN (sdN z)) 15) ≤ 1
    omega
def PDC (a k : Nat) : Prop := PD8 a k ∨ (a = 1349 ∧ k = 80)
theorem PDC_stn : ∀ a k, Stn a k → ¬ PDC a k := by intro a k h; unfold Stn at h; unfold PDC PD8 PD4 PD3; omega
theorem ch_ok (F : WFS s) (G : WFN s f) {z : Nat} (hz : z < 2147483648) : ∀ n, f 0 + n ≤ 999 → WFN s (chN s n f z).1 ∧ (chN s n f z).1 0 = f 0 + n ∧ (chN s n f z).2.2 < 2147483648
  | 0, _ => ⟨G, rfl, hz⟩
  | n + 1, hn => by
    obtain ⟨a, b, c⟩ := ch_ok F G hz n (by omega)
    show WFN s (ch1 s (chN s n f z)).1 ∧ (ch1 s (chN s n f z)).1 0 = _ ∧ (ch1 s (chN s n f z)).2.2 < _
    unfold ch1
    split
    · rename_i q
      obtain ⟨x1, x2, x3, -, -⟩ := hl_ok F a (sdN (chN s n f z).2.2) q.2
      exact ⟨WFN_yg F x1 _ (by omega), (yg_0 F x1 _).trans (by omega), x2⟩
    · exact ⟨WFN_yg F a _ (by omega), (yg_0 F a _).trans (by omega), sdN_lt _⟩
theorem T_years (W : TKK (hK h) (hR h)) (F : WFS s) (S : TSH h s) (N : TNOW h f) (G : WFN s f) (h66 : hI h 1349 66 = 0) {U : List RW} (T : TUN h U) {r : Nat → Int32} (R : TRF h r) (x : Int32) :
    Ev (X7_years 1349 x h) (fun z => (isA f x 1 100 = true → z.1 = nI (ysm s (nt x) f) ∧ FT (fun a k => PD8 a k ∨ PDU a k) h z.2 ∧ TNOW z.2 (ygs s (nt x) f) ∧ TUN z.2 (kpU f U)) ∧ (isA f x 1 100 = false → z.1 = -1 ∧ z.2 = wI 1351 3 (r 3 + 1) h)) := by
  rw [X7_years, tisO W, Option.bind_some, show X7_isAhead 1349 x 1 100 h = X7_isAhead 1349 x (nI 1) (nI 100) h from rfl, b2_of (T_isAhead W N G.1 x (by decide) (by decide))]
  cases e : isA f x 1 100 with
  | false =>
    rw [if_pos (show bI false = 0 from rfl), tisO W, Option.bind_some, show X7_refuses 1349 3 h = X7_refuses 1349 (nI 3) h from rfl, b2_of (T_refuses W R (show 3 < 6 by decide)), Ev_some]
    exact ⟨fun q => (by cases q), fun _ => ⟨rfl, rfl⟩⟩
  | true =>
    obtain ⟨n, rfl, n1, n2, n3⟩ := isA_ex (by decide) e
    rw [if_neg (by decide), tisO W, Option.bind_some, Ev_bind]
    refine ev_mono (T_keeps W N T) ?_
    rintro H1 ⟨F1, T1⟩
    have W1 := F1.tk W
    rw [tpI W1, Option.bind_some]
    generalize hH : wI 1349 67 0 H1 = H2
    have F2 : FT (fun a k => PD8 a k ∨ PDU a k) h H2 := by rw [← hH]; exact (F1.mono (fun a k z => Or.inr z)).wI (by unfold PD8 PD4; omega)
    have W2 := F2.tk W
    have S2 : TSH H2 s := F2.tsh (fun a k z => by have := PD8_stn a k z; have := PDU_stn a k z; simp_all) S
    have N2 : TNOW H2 f := by rw [← hH]; exact (F1.now (by unfold PDU; omega) N).fr (fun _ => rfl)
    have e66 : hI H2 1349 66 = 0 := by rw [← hH, p_II, if_neg (by omega), F1.i (by unfold PDU; omega)]; exact h66
    have e67 : hI H2 1349 67 = 0 := by rw [← hH, p_II, if_pos ⟨rfl, rfl⟩]
    have T2 : TUN H2 (kpU f U) := by rw [← hH]; exact T1.fr (fun _ => rfl) rfl rfl
    rw [tisO W2, Option.bind_some, Ev_bind]
    refine ev_mono (T_yearsGo0 W2 F S2 N2 G e66 n3) ?_
    rintro H3 ⟨F3, N3, e3⟩
    have W3 := F3.tk W2
    rw [tgI W3, Option.bind_some, Ev_some, nt_n (by omega)]
    refine ⟨fun _ => ⟨?_, F2.trans (F3.mono (fun a k z => Or.inl z)), N3, T2.fr (fun _ => F3.i (by unfold PD8 PD4 PD3; omega)) (F3.i (by unfold PD8 PD4 PD3; omega)) (F3.i (by unfold PD8 PD4 PD3; omega))⟩, fun q => (by cases q)⟩
    show hI H3 1349 67 = nI (ysm s n f)
    rw [e3, e67]
    exact Int32.zero_add _
theorem T_chance (W : TKK (hK h) (hR h)) (F : WFS s) (S : TSH h s) (N : TNOW h f) (G : WFN s f) (h66 : hI h 1349 66 = 0) {U : List RW} (T : TUN h U) {r : Nat → Int32} (R : TRF h r) {z : Nat} (hz : z < 2147483648) (ez : hL h 1349 80 = iL (z : Int)) (x : Int32) :
    Ev (X7_chance 1349 x h) (fun v => (isA f x 1 100 = true → v.1 = nI (chN s (nt x) f z).2.1 ∧ FT (fun a k => PDC a k ∨ PDU a k) h v.2 ∧ TNOW v.2 (chN s (nt x) f z).1 ∧ TUN v.2 (kpU f U) ∧ hL v.2 1349 80 = iL (((chN s (nt x) f z).2.2 : Nat) : Int)) ∧ (isA f x 1 100 = false → v.1 = -1 ∧ v.2 = wI 1351 3 (r 3 + 1) h)) := by
  have h4 := F.2.2.2.2.1
  obtain ⟨-, -, hl100⟩ := F.2.2.2.2.2.1
  rw [X7_chance, tisO W, Option.bind_some, show X7_isAhead 1349 x 1 100 h = X7_isAhead 1349 x (nI 1) (nI 100) h from rfl, b2_of (T_isAhead W N G.1 x (by decide) (by decide))]
  cases e : isA f x 1 100 with
  | false =>
    rw [if_pos (show bI false = 0 from rfl), tisO W, Option.bind_some, show X7_refuses 1349 3 h = X7_refuses 1349 (nI 3) h from rfl, b2_of (T_refuses W R (show 3 < 6 by decide)), Ev_some]
    exact ⟨fun q => (by cases q), fun _ => ⟨rfl, rfl⟩⟩
  | true =>
    obtain ⟨n, rfl, n1, n2, n3⟩ := isA_ex (by decide) e
    rw [if_neg (by decide), tisO W, Option.bind_some, Ev_bind]
    refine ev_mono (T_keeps W N T) ?_
    rintro H1 ⟨F1, T1⟩
    have F10 : FT (fun a k => PDC a k ∨ PDU a k) h H1 := F1.mono (fun a k z => Or.inr z)
    have l1 : hL H1 1349 80 = iL (z : Int) := (F1.l (by unfold PDU; omega)).trans ez
    have e660 : hI H1 1349 66 = 0 := (F1.i (by unfold PDU; omega)).trans h66
    rw [X7_chance_25, nt_n (by omega)]
    have stn : ∀ a k, Stn a k → ¬ (PDC a k ∨ PDU a k) := fun a k z q => q.elim (PDC_stn a k z) (PDU_stn a k z)
    refine ev_for n (fun k st => st.1 = nI (chN s k f z).2.1 ∧ st.2.1 = nI k ∧ FT (fun a k => PDC a k ∨ PDU a k) h st.2.2 ∧ TNOW st.2.2 (chN s k f z).1 ∧ TUN st.2.2 (kpU f U) ∧ hL st.2.2 1349 80 = iL (((chN s k f z).2.2 : Nat) : Int) ∧ hI st.2.2 1349 66 = 0) ?_ ?_ 0 _ (Nat.zero_le _) ⟨rfl, rfl, F10, F1.now (by unfold PDU; omega) N, T1, l1, e660⟩
    · rintro k ⟨a, c, H⟩ hk ⟨ha, hc, F2, N2, T2, l2, e2⟩
      simp only at ha hc F2 N2 T2 l2 e2
      subst ha hc
      have W2 := F2.tk W
      have S2 := F2.tsh stn S
      obtain ⟨G2, y2, z2⟩ := ch_ok F G hz k (by omega)
      generalize hp : chN s k f z = p at *
      have hnext : chN s (k + 1) f z = ch1 s p := by show ch1 s (chN s k f z) = _; rw [hp]
      simp (disch := first | assumption | ((repeat (first | with_reducible refine TKI ?_ | with_reducible refine TKL ?_)); assumption) | omega) only [X7_chance_25b, ↓btgI, ↓btpI, ↓btgL, ↓btpL, ↓btisO, tgI, tpI, tgL, tpL, tisO, ↓btg_9, tg_9, ↓btx_1351, tx_1351, ↓bts_1351, ts_1351, ↓btxl_1351, txl_1351, ↓btsl_1351, tsl_1351, ↓btg_50, tg_50, ↓btx_1385, tx_1385, ↓bts_1385, ts_1385, ↓btxl_1385, txl_1385, ↓btsl_1385, tsl_1385, ↓btg_57, tg_57, ↓btx_1389, tx_1389, ↓bts_1389, ts_1389, ↓btxl_1389, txl_1389, ↓btsl_1389, tsl_1389, ↓Option.bind_some, ↓b2_some, ↓bX_l, ↓bX_r, Option.bind_some, Option.bind_none, b2_some, bX_l, bX_r, nn_e, if_true, if_false, reduceCtorEq, ↓reduceIte, Nat.reduceEqDiff, Nat.reduceLT, Nat.reduceLeDiff, Nat.reduceSubDiff, Nat.reduceAdd, Nat.reduceMul, nA1, nA2, nM1, nM2, n_add, n_mul, n_sub, nS1, nS2, nL0, nL1, nL2, nE0, nE1, nE2, nE3, bI_0, bI_1, bI_m, rz_b, rz_0, rz_1, hk]
      rw [Ev_bind]
      refine ev_mono (T_laysSaid W2 F S2 N2 G2) ?_
      rintro H3 ⟨F3, D3⟩
      have W3 := F3.tk W2
      have S3 := F3.tsh PD5_stn S2
      have N3 : TNOW H3 p.1 := F3.now (by unfold PD5 PD2; omega) N2
      have l3 : hL H3 1349 80 = iL ((p.2.2 : Nat) : Int) := (F3.l (by unfold PD5 PD2; omega)).trans l2
      have td : X7_drawOf 1349 100 H3 = some (nI (drw p.2.2 100), wL 1349 80 (iL ((sdN p.2.2 : Nat) : Int)) H3) := T_drawOf W3 z2 l3 (show 0 < 100 by decide) (by decide)
      generalize hH4 : wL 1349 80 (iL ((sdN p.2.2 : Nat) : Int)) H3 = H4 at *
      have W4 : TKK H4.1 (hR H4) := by rw [← hH4]; exact W3
      have S4 : TSH H4 s := by rw [← hH4]; exact S3.fr (fun _ _ _ => rfl)
      have N4 : TNOW H4 p.1 := by rw [← hH4]; exact N3.fr (fun _ => rfl)
      have l4 : hL H4 1349 80 = iL ((sdN p.2.2 : Nat) : Int) := by rw [← hH4, p_LL, if_pos ⟨rfl, rfl⟩]
      have D4 : TSD H4 s p.1 (sdf s p.1) := by rw [← hH4]; exact fun b k q1 q2 => D3 b k q1 q2
      have F4 : FT (fun a k => PDC a k ∨ PDU a k) h H4 := by
        rw [← hH4]
        exact (F2.trans (F3.mono (fun a k z => Or.inl (by unfold PD5 PD2 at z; unfold PDC PD8 PD4 PD3; omega)))).wL (Or.inl (Or.inr ⟨rfl, rfl⟩))
      have e4 : hI H4 1349 66 = 0 := by rw [← hH4]; exact (F3.i (by unfold PD5 PD2; omega)).trans e2
      have T4 : TUN H4 (kpU f U) := by rw [← hH4]; exact T2.fr (fun _ => F3.i (by unfold PD5 PD2; omega)) (F3.i (by unfold PD5 PD2; omega)) (F3.i (by unfold PD5 PD2; omega))
      have e5 : hI H4 1385 5 = nI (z_hl s) := S4.2.2.2.2.2.2.1.2.2
      have d100 : drw p.2.2 100 < 100 := Nat.mod_lt _ (by decide)
      have go : ∀ (g : RW) (l q : Nat) (H5 : AH), FT (fun a k => PDC a k ∨ PDU a k) h H5 → TNOW H5 g → WFN s g → g 0 = p.1 0 → (∀ b, b < z_nb s → g (1 + 8 * b) = p.1 (1 + 8 * b)) → TUN H5 (kpU f U) → hL H5 1349 80 = iL ((q : Nat) : Int) → hI H5 1349 66 = 0 → TSD H5 s p.1 (sdf s p.1) →
          Ev (X7_chance_63 1349 (nI n) (nI l) (nI k) H5) (fun o => ∃ H6, o = .inl (nI l, nI (k + 1), H6) ∧ FT (fun a k => PDC a k ∨ PDU a k) h H6 ∧ TNOW H6 (yg s (sdf s p.1) g) ∧ TUN H6 (kpU f U) ∧ hL H6 1349 80 = iL ((q : Nat) : Int) ∧ hI H6 1349 66 = 0) := by
        intro g l q H5 F5 N5 G5 g0 gw T5 l5 e6 D5
        have W5 := F5.tk W
        have S5 := F5.tsh stn S
        have D5' : TSD H5 s g (sdf s p.1) := fun b k' q1 q2 => D5 b k' q1 (by rw [← gw b q1]; exact q2)
        rw [X7_chance_63, tisO W5, Option.bind_some, Ev_bind]
        refine ev_mono (T_yearGoes0 W5 F S5 N5 G5 D5' (fun b k' hb => sdf_lt F G2 hb) e6) ?_
        rintro H6 ⟨F6, N6, -⟩
        rw [Ev_some, nA1]
        exact ⟨H6, rfl, F5.trans (F6.mono (fun a k z => Or.inl (Or.inl (Or.inl z)))), N6, T5.fr (fun _ => F6.i (by unfold PD4 PD3; omega)) (F6.i (by unfold PD4 PD3; omega)) (F6.i (by unfold PD4 PD3; omega)), (F6.l (by unfold PD4 PD3; omega)).trans l5, (F6.i (by unfold PD4 PD3; omega)).trans e6⟩
      have fin : ∀ (g : RW) (l q : Nat) (H5 : AH), ch1 s p = (yg s (sdf s p.1) g, l, q) → Ev (X7_chance_63 1349 (nI n) (nI l) (nI k) H5) (fun o => ∃ H6, o = .inl (nI l, nI (k + 1), H6) ∧ FT (fun a k => PDC a k ∨ PDU a k) h H6 ∧ TNOW H6 (yg s (sdf s p.1) g) ∧ TUN H6 (kpU f U) ∧ hL H6 1349 80 = iL ((q : Nat) : Int) ∧ hI H6 1349 66 = 0) → ∃ H6, X7_chance_63 1349 (nI n) (nI l) (nI k) H5 = some (.inl (nI l, nI (k + 1), H6)) ∧ nI l = nI (chN s (k + 1) f z).2.1 ∧ nI (k + 1) = nI (k + 1) ∧ FT (fun a k => PDC a k ∨ PDU a k) h H6 ∧ TNOW H6 (chN s (k + 1) f z).1 ∧ TUN H6 (kpU f U) ∧ hL H6 1349 80 = iL (((chN s (k + 1) f z).2.2 : Nat) : Int) ∧ hI H6 1349 66 = 0 := by
        rintro g l q H5 ec ⟨_, z1, H6, rfl, a1, a2, a3, a4, a5⟩
        refine ⟨H6, z1, ?_, rfl, a1, ?_, a3, ?_, a5⟩
        · rw [hnext, ec]
        · rw [hnext, ec]; exact a2
        · rw [hnext, ec]; exact a4
      have D4' := D4
      simp (disch := first | assumption | ((repeat (first | with_reducible refine TKI ?_ | with_reducible refine TKL ?_)); assumption) | omega) only [↓btgI, ↓btpI, ↓btgL, ↓btpL, ↓btisO, tgI, tpI, tgL, tpL, tisO, ↓btg_9, tg_9, ↓btx_1351, tx_1351, ↓bts_1351, ts_1351, ↓btxl_1351, txl_1351, ↓btsl_1351, tsl_1351, ↓btg_50, tg_50, ↓btx_1385, tx_1385, ↓bts_1385, ts_1385, ↓btxl_1385, txl_1385, ↓btsl_1385, tsl_1385, ↓btg_57, tg_57, ↓btx_1389, tx_1389, ↓bts_1389, ts_1389, ↓btxl_1389, txl_1389, ↓btsl_1389, tsl_1389, ↓Option.bind_some, ↓b2_some, ↓bX_l, ↓bX_r, Option.bind_some, Option.bind_none, b2_some, bX_l, bX_r, nn_e, if_true, if_false, reduceCtorEq, ↓reduceIte, Nat.reduceEqDiff, Nat.reduceLT, Nat.reduceLeDiff, Nat.reduceSubDiff, Nat.reduceAdd, Nat.reduceMul, nA1, nA2, nM1, nM2, n_add, n_mul, n_sub, nS1, nS2, nL0, nL1, nL2, nE0, nE1, nE2, nE3, bI_0, bI_1, bI_m, rz_b, rz_0, rz_1, ↓b2_of td, e5, ↓b2_of (T_boardMany W4 S4)]
      by_cases q1 : drw p.2.2 100 < z_hl s
      · rw [if_pos q1]
        by_cases q2 : 0 < z_nb s
        · rw [if_pos q2, Ev_b2]
          refine ev_mono (T_hails W4 F S4 N4 G2 (sdN_lt _) l4 q2) ?_
          rintro ⟨v, H5⟩ ⟨hv, F5, N5, l5⟩
          simp only at hv F5 N5 l5
          subst hv
          obtain ⟨x1, x2, x3, x4, -⟩ := hl_ok F G2 (sdN p.2.2) q2
          have F6 : FT (fun a k => PDC a k ∨ PDU a k) h H5 := F4.trans (F5.mono (fun a k z => Or.inl (by unfold PDC PD8 PD4; omega)))
          obtain ⟨H6, z6, y6⟩ := fin (hlR s p.1 (sdN p.2.2)).1 (p.2.1 + (hlR s p.1 (sdN p.2.2)).2.1) (hlR s p.1 (sdN p.2.2)).2.2 H5 (by unfold ch1; rw [if_pos ⟨q1, q2⟩]) (go _ _ _ H5 F6 N5 x1 x3 x4 (T4.fr (fun _ => F5.i (by omega)) (F5.i (by omega)) (F5.i (by omega))) l5 ((F5.i (by omega)).trans e4) (fun b k' a1 a2 => (F5.i (by omega)).trans (D4 b k' a1 a2)))
          simp only [n_add]
          exact ⟨_, z6, y6⟩
        · rw [if_neg q2]
          obtain ⟨H6, z6, y6⟩ := fin p.1 p.2.1 (sdN p.2.2) H4 (by unfold ch1; rw [if_neg (fun z => q2 z.2)]) (go _ _ _ H4 F4 N4 G2 rfl (fun _ _ => rfl) T4 l4 e4 D4)
          exact ⟨_, z6, y6⟩
      · rw [if_neg q1]
        obtain ⟨H6, z6, y6⟩ := fin p.1 p.2.1 (sdN p.2.2) H4 (by unfold ch1; rw [if_neg (fun z => q1 z.1)]) (go _ _ _ H4 F4 N4 G2 rfl (fun _ _ => rfl) T4 l4 e4 D4)
        exact ⟨_, z6, y6⟩
    · rintro ⟨a, c, H⟩ ⟨ha, hc, F2, N2, T2, l2, e2⟩
      simp only at ha hc F2 N2 T2 l2 e2
      subst ha hc
      simp (disch := first | assumption | ((repeat (first | with_reducible refine TKI ?_ | with_reducible refine TKL ?_)); assumption) | omega) only [X7_chance_25b, ↓Option.bind_some, ↓b2_some, ↓bX_l, ↓bX_r, Option.bind_some, Option.bind_none, b2_some, bX_l, bX_r, nn_e, if_true, if_false, reduceCtorEq, ↓reduceIte, Nat.reduceEqDiff, Nat.reduceLT, Nat.reduceLeDiff, Nat.reduceSubDiff, Nat.reduceAdd, Nat.reduceMul, nA1, nA2, nM1, nM2, n_add, n_mul, n_sub, nS1, nS2, nL0, nL1, nL2, nE0, nE1, nE2, nE3, bI_0, bI_1, bI_m, rz_b, rz_0, rz_1, Nat.lt_irrefl]
      rw [Ev_some]
      exact ⟨fun _ => ⟨rfl, F2, N2, T2, l2⟩, fun q => (by cases q)⟩
end Hail
