set_option maxRecDepth 100000
/-! ===== stroke, paint, seed, images: the twin's ===== -/
def stR (f : RW) (b p bit : Nat) : RW := fun i => if i = 3 + 8 * b + p then f i ^^^ 2 ^ bit else f i
def okS (s : SH) (f : RW) (b p bit on : Int32) : Bool := isP s f b p && (inR bit 15 && (inR on 2 && !(bN (f (3 + 8 * nt b + nt p)) (nt bit) == nt on)))
def okP (s : SH) (b w hd : Int32) : Bool := inR b (z_nb s) && (inR w (z_nw s) && (inR hd 2 && cp s (nt w) (nt hd)))
theorem xor_lt {g bit : Nat} (hg : g < 32768) (hb : bit < 15) : g ^^^ 2 ^ bit < 32768 := Nat.xor_lt_two_pow (n := 15) hg (Nat.pow_lt_pow_right (by decide) hb)
/-- octets that are written -/
def TOC (h : AH) (L : List Nat) : Prop := hI h 1349 116 = nI L.length ∧ L.length ≤ 59 ∧ ∀ k, k < L.length → hI h 1427 k = nI (L.getD k 0)
def gls (f : RW) (b : Nat) : Nat → List Nat
  | 0 => []
  | k + 1 => gls f b k ++ [f (3 + 8 * b + k) / 256, f (3 + 8 * b + k) % 256]
def imB (f : RW) : Nat → List Nat
  | 0 => [f 0 / 256, f 0 % 256]
  | b + 1 => imB f b ++ ([f (1 + 8 * b), f (2 + 8 * b)] ++ gls f b 6)
def ckN (g : Nat → Nat) (n : Nat) : Nat := itr (fun k c => (3 * c + g k) % 251) n 223
/-- an image -/
def img (s : SH) (f : RW) : List Nat := imB f (z_nb s) ++ [ckN (fun k => (imB f (z_nb s)).getD k 0) (imB f (z_nb s)).length]
theorem gls_len (f : RW) (b : Nat) : ∀ k, (gls f b k).length = 2 * k
  | 0 => rfl
  | k + 1 => by rw [gls, List.length_append, gls_len f b k]; simp only [List.length_cons, List.length_nil]; omega
theorem imB_len (f : RW) : ∀ b, (imB f b).length = 2 + 14 * b
  | 0 => rfl
  | b + 1 => by rw [imB, List.length_append, List.length_append, imB_len f b, gls_len]; simp only [List.length_cons, List.length_nil]; omega
theorem ck_lt (g : Nat → Nat) : ∀ n, ckN g n < 251
  | 0 => by show 223 < 251; decide
  | n + 1 => by show (3 * ckN g n + g n) % 251 < 251; exact Nat.mod_lt _ (by decide)
def PDO (a k : Nat) : Prop := a = 1427 ∨ (a = 1349 ∧ k = 116)
theorem PDO_stn : ∀ a k, Stn a k → ¬ PDO a k := by intro a k h; unfold Stn at h; unfold PDO; omega
/-- two bytes of a tape -/
def two (t : Nat → Nat) (k : Nat) : Nat := 256 * t k + t (k + 1)
def brdT (s : SH) (t : Nat → Nat) (b : Nat) : Bool := decide (t (2 + 14 * b) < z_nw s) && (decide (t (3 + 14 * b) < 2) && (cp s (t (2 + 14 * b)) (t (3 + 14 * b)) && alln (fun k => decide (two t (4 + 14 * b + 2 * k) ≤ if k < z_wl s (t (2 + 14 * b)) then 32767 else 0)) 6))
/-- a tape of n bytes is an image of these boards -/
def isIm (s : SH) (t : Nat → Nat) (n : Nat) : Bool := decide (n = 3 + 14 * z_nb s) && (decide (t (n - 1) = ckN t (n - 1)) && (decide (two t 0 ≤ 999) && alln (brdT s t) (z_nb s)))
/-- the row that an image tells -/
def onR (s : SH) (f : RW) (t : Nat → Nat) : RW := fun i => if i = 0 then two t 0 else if i = 33 then 0 else if 1 ≤ i ∧ i < 1 + 8 * z_nb s then (if (i - 1) % 8 = 0 then t (2 + 14 * ((i - 1) / 8)) else if (i - 1) % 8 = 1 then t (3 + 14 * ((i - 1) / 8)) else two t (4 + 14 * ((i - 1) / 8) + 2 * ((i - 1) % 8 - 2))) else f i
section Image
variable {h : AH} {s : SH} {f : RW}
theorem WFN_st (F : WFS s) (G : WFN s f) {b p bit : Nat} (hb : b < z_nb s) (hp : p < 6) (hbit : bit < 15) : WFN s (stR f b p bit) := by
  have h4 := F.2.2.2.2.1
  refine WFN_up G ?_ (fun b' hb' => ⟨?_, ?_⟩) (fun b' k hb' hk => ?_) ?_
  · unfold stR; rw [if_neg (by omega)]; exact G.1
  · unfold stR; rw [if_neg (by omega)]
  · unfold stR; rw [if_neg (by omega)]
  · unfold stR
    split
    · exact xor_lt ((G.2.1 b' hb').2.2.2 k hk) hbit
    · exact (G.2.1 b' hb').2.2.2 k hk
  · unfold stR; rw [if_neg (by omega)]; exact G.2.2
theorem T_isRefused (W : TKK (hK h) (hR h)) {r : Nat → Int32} (R : TRF h r) : X7_isRefused 1349 h = some (0, wI 1351 2 (r 2 + 1) h) := by
  have r2 := R 2 (by decide)
  simp (disch := first | assumption | ((repeat (first | with_reducible refine TKI ?_ | with_reducible refine TKL ?_)); assumption) | omega) only [X7_isRefused, ↓btgI, ↓btpI, ↓btgL, ↓btpL, ↓btisO, tgI, tpI, tgL, tpL, tisO, ↓btg_9, tg_9, ↓btx_1351, tx_1351, ↓bts_1351, ts_1351, ↓btxl_1351, txl_1351, ↓btsl_1351, tsl_1351, ↓Option.bind_some, ↓b2_some, ↓bX_l, ↓bX_r, Option.bind_some, Option.bind_none, b2_some, bX_l, bX_r, nn_e, if_true, if_false, reduceCtorEq, ↓reduceIte, Nat.reduceEqDiff, Nat.reduceLT, Nat.reduceLeDiff, Nat.reduceSubDiff, Nat.reduceAdd, Nat.reduceMul, r2]
theorem T_stroke (W : TKK (hK h) (hR h)) (F : WFS s) (S : TSH h s) (N : TNOW h f) (G : WFN s f) {U : List RW} (T : TUN h U) {r : Nat → Int32} (R : TRF h r) (b p bit on : Int32) :
    Ev (X7_stroke 1349 b p bit on h) (fun z => (okS s f b p bit on = true → z.1 = 1 ∧ FT (fun a k => PDU a k ∨ a = 1389) h z.2 ∧ TNOW z.2 (stR f (nt b) (nt p) (nt bit)) ∧ TUN z.2 (kpU f U)) ∧ (okS s f b p bit on = false → z.1 = 0 ∧ z.2 = wI 1351 2 (r 2 + 1) h)) := by
  have h4 := F.2.2.2.2.1
  have no : okS s f b p bit on = false → Ev (X7_stroke_47 1349 h) (fun z => (okS s f b p bit on = true → z.1 = 1 ∧ FT (fun a k => PDU a k ∨ a = 1389) h z.2 ∧ TNOW z.2 (stR f (nt b) (nt p) (nt bit)) ∧ TUN z.2 (kpU f U)) ∧ (okS s f b p bit on = false → z.1 = 0 ∧ z.2 = wI 1351 2 (r 2 + 1) h)) := by
    intro e
    rw [X7_stroke_47, tisO W, Option.bind_some, b2_of (T_isRefused W R), rz_0, b2_some, Ev_some]
    exact ⟨fun q => (by rw [e] at q; cases q), fun _ => ⟨rfl, rfl⟩⟩
  rw [X7_stroke, tisO W, Option.bind_some, b2_of (T_isPlace W F S N G b p)]
  cases e : isP s f b p with
  | false => rw [if_pos (show bI false = 0 from rfl)]; exact no (by rw [okS, e]; rfl)
  | true =>
    obtain ⟨b, p, rfl, rfl, h1, h2, h3, h5⟩ := isP_ex F G e
    rw [if_neg (by decide), b2_of (T_isIn _ _ _ h), show ((14 : Int64)) = Int64.ofNat 14 from rfl, b_inL (by decide)]
    cases e2 : inR bit 15 with
    | false => rw [if_pos (show bI false = 0 from rfl)]; exact no (by rw [okS, e, e2]; rfl)
    | true =>
      obtain ⟨bit, hbit, rfl⟩ := inR_ex (by decide) e2
      rw [if_neg (by decide), b2_of (T_isIn _ _ _ h), show ((1 : Int64)) = Int64.ofNat 1 from rfl, b_inL (by decide)]
      cases e3 : inR on 2 with
      | false => rw [if_pos (show bI false = 0 from rfl)]; exact no (by rw [okS, e, e2, e3]; rfl)
      | true =>
        obtain ⟨on, hon, rfl⟩ := inR_ex (by decide) e3
        have gk := (G.2.1 b h1).2.2.2 p h3
        have b01 := bN_01 (f (3 + 8 * b + p)) bit
        have eo : okS s f (nI b) (nI p) (nI bit) (nI on) = !(bN (f (3 + 8 * b + p)) bit == on) := by rw [okS, e, e2, e3, nt_n (by omega), nt_n (by omega), nt_n (by omega), nt_n (by omega)]; rfl
        rw [if_neg (by decide), tisO W, Option.bind_some, b2_of (T_glyphAt W N h5 h3), jbit gk hbit]
        by_cases q : bN (f (3 + 8 * b + p)) bit = on
        · rw [if_pos (by rw [q])]
          exact no (by rw [eo, q]; simp)
        · rw [if_neg (by rw [nE0 (by omega) (by omega)]; exact q), tisO W, Option.bind_some, Ev_bind]
          refine ev_mono (T_keeps W N T) ?_
          rintro H1 ⟨F1, T1⟩
          have W1 := F1.tk W
          have N1 : TNOW H1 f := F1.now (by unfold PDU; omega) N
          have en : hI H1 1389 (3 + 8 * b + p) = nI (f (3 + 8 * b + p)) := N1 _ (by omega)
          simp (disch := first | assumption | ((repeat (first | with_reducible refine TKI ?_ | with_reducible refine TKL ?_)); assumption) | omega) only [↓btgI, ↓btpI, ↓btgL, ↓btpL, ↓btisO, tgI, tpI, tgL, tpL, tisO, ↓btg_57, tg_57, ↓btx_1389, tx_1389, ↓bts_1389, ts_1389, ↓btxl_1389, txl_1389, ↓btsl_1389, tsl_1389, ↓Option.bind_some, ↓b2_some, ↓bX_l, ↓bX_r, Option.bind_some, Option.bind_none, b2_some, bX_l, bX_r, nn_e, if_true, if_false, reduceCtorEq, ↓reduceIte, Nat.reduceEqDiff, Nat.reduceLT, Nat.reduceLeDiff, Nat.reduceSubDiff, Nat.reduceAdd, Nat.reduceMul, nA1, nA2, nM1, nM2, n_add, n_mul, n_sub, nS1, nS2, nL0, nL1, nL2, nE0, nE1, nE2, nE3, bI_0, bI_1, bI_m, rz_b, rz_0, rz_1, en, jbit1 hbit, n_xor]
          rw [Ev_some]
          refine ⟨fun _ => ⟨rfl, (F1.mono (fun a k z => Or.inl z)).wI (Or.inr rfl), ?_, T1.fr (fun _ => by rw [p_II, if_neg (by omega)]) (by rw [p_II, if_neg (by omega)]) (by rw [p_II, if_neg (by omega)])⟩, fun z => (by rw [eo] at z; simp [q] at z)⟩
          rw [nt_n (by omega), nt_n (by omega), nt_n (by omega)]
          refine (N1.up _ _).congr (fun k _ => ?_)
          unfold stR
          by_cases ek : k = 3 + 8 * b + p
          · rw [if_pos ek, if_pos ek, ek]
          · rw [if_neg ek, if_neg ek]
theorem T_paint (W : TKK (hK h) (hR h)) (F : WFS s) (S : TSH h s) (N : TNOW h f) (G : WFN s f) {U : List RW} (T : TUN h U) {r : Nat → Int32} (R : TRF h r) (b w hd : Int32) :
    Ev (X7_paint 1349 b w hd h) (fun z => (okP s b w hd = true → z.1 = 1 ∧ FT (fun a k => PDU a k ∨ a = 1389) h z.2 ∧ TNOW z.2 (ptR s f (nt b) (nt w) (nt hd)) ∧ TUN z.2 (kpU f U)) ∧ (okP s b w hd = false → z.1 = 0 ∧ z.2 = wI 1351 2 (r 2 + 1) h)) := by
  have h4 := F.2.2.2.2.1
  have h8 := F.2.2.1
  have no : okP s b w hd = false → Ev (X7_paint_34 1349 h) (fun z => (okP s b w hd = true → z.1 = 1 ∧ FT (fun a k => PDU a k ∨ a = 1389) h z.2 ∧ TNOW z.2 (ptR s f (nt b) (nt w) (nt hd)) ∧ TUN z.2 (kpU f U)) ∧ (okP s b w hd = false → z.1 = 0 ∧ z.2 = wI 1351 2 (r 2 + 1) h)) := by
    intro e
    rw [X7_paint_34, tisO W, Option.bind_some, b2_of (T_isRefused W R), rz_0, b2_some, Ev_some]
    exact ⟨fun q => (by rw [e] at q; cases q), fun _ => ⟨rfl, rfl⟩⟩
  rw [X7_paint, tisO W, Option.bind_some, b2_of (T_isBoard W F S b)]
  cases e : inR b (z_nb s) with
  | false => rw [if_pos (show bI false = 0 from rfl)]; exact no (by rw [okP, e]; rfl)
  | true =>
    obtain ⟨b, h1, rfl⟩ := inR_ex (by omega) e
    rw [if_neg (by decide), tisO W, Option.bind_some, b2_of (T_isWord W F S w)]
    cases e2 : inR w (z_nw s) with
    | false => rw [if_pos (show bI false = 0 from rfl)]; exact no (by rw [okP, e, e2]; rfl)
    | true =>
      obtain ⟨w, h2, rfl⟩ := inR_ex (by omega) e2
      rw [if_neg (by decide), tisO W, Option.bind_some, b2_of (T_isHand hd)]
      cases e3 : inR hd 2 with
      | false => rw [if_pos (show bI false = 0 from rfl)]; exact no (by rw [okP, e, e2, e3]; rfl)
      | true =>
        obtain ⟨hd, h3, rfl⟩ := inR_ex (by decide) e3
        have eo : okP s (nI b) (nI w) (nI hd) = cp s w hd := by rw [okP, e, e2, e3, nt_n (by omega), nt_n (by omega)]; rfl
        rw [if_neg (by decide), tisO W, Option.bind_some, b2_of (T_canPaint W F S h2 h3)]
        cases e4 : cp s w hd with
        | false => rw [if_pos (show bI false = 0 from rfl)]; exact no (by rw [eo, e4])
        | true =>
          rw [if_neg (by decide), tisO W, Option.bind_some, Ev_bind]
          refine ev_mono (T_keeps W N T) ?_
          rintro H1 ⟨F1, T1⟩
          have W1 := F1.tk W
          have S1 := F1.tsh PDU_stn S
          have N1 : TNOW H1 f := F1.now (by unfold PDU; omega) N
          rw [tisO W1, Option.bind_some, Ev_bind]
          refine ev_mono (T_paints W1 F S1 N1 (show b < 4 by omega) h2 h3 e4) ?_
          rintro H2 ⟨F2, N2⟩
          rw [Ev_some]
          refine ⟨fun _ => ⟨rfl, (F1.mono (fun a k z => Or.inl z)).trans (F2.mono (fun a k z => Or.inr z)), ?_, T1.fr (fun _ => F2.i (by omega)) (F2.i (by omega)) (F2.i (by omega))⟩, fun z => (by rw [eo, e4] at z; cases z)⟩
          rw [nt_n (by omega), nt_n (by omega), nt_n (by omega)]
          exact N2
theorem T_seed (W : TKK (hK h) (hR h)) {r : Nat → Int32} (R : TRF h r) (x : Int32) : X7_seed 1349 x h = some (if x < 0 then (0, wI 1351 5 (r 5 + 1) h) else (1, wL 1349 80 (iL x.toInt) h)) := by
  have r5 := R 5 (by decide)
  simp (disch := first | assumption | ((repeat (first | with_reducible refine TKI ?_ | with_reducible refine TKL ?_)); assumption) | omega) only [X7_seed, ↓btgI, ↓btpI, ↓btgL, ↓btpL, ↓btisO, tgI, tpI, tgL, tpL, tisO, ↓btg_9, tg_9, ↓btx_1351, tx_1351, ↓bts_1351, ts_1351, ↓btxl_1351, txl_1351, ↓btsl_1351, tsl_1351, ↓Option.bind_some, ↓b2_some, ↓bX_l, ↓bX_r, Option.bind_some, Option.bind_none, b2_some, bX_l, bX_r, nn_e, if_true, if_false, reduceCtorEq, ↓reduceIte, Nat.reduceEqDiff, Nat.reduceLT, Nat.reduceLeDiff, Nat.reduceSubDiff, Nat.reduceAdd, Nat.reduceMul, r5, i2L]
  split <;> rfl
theorem T_writes (W : TKK (hK h) (hR h)) {L : List Nat} (T : TOC h L) (hl : L.length < 59) (v : Nat) : ∃ H, X7_writes 1349 (nI v) h = some H ∧ FT PDO h H ∧ TOC H (L ++ [v]) := by
  obtain ⟨t1, t2, t3⟩ := T
  refine ⟨wI 1349 116 (nI (L.length + 1)) (wI 1427 L.length (nI v) h), ?_, ((FT.refl _ _).wI (Or.inl rfl)).wI (Or.inr ⟨rfl, rfl⟩), ?_, ?_, fun k hk => ?_⟩
  · have e2 : hI (wI 1427 L.length (nI v) h) 1349 116 = nI L.length := by rw [p_II, if_neg (by omega)]; exact t1
    simp (disch := first | assumption | ((repeat (first | with_reducible refine TKI ?_ | with_reducible refine TKL ?_)); assumption) | omega) only [X7_writes, ↓btgI, ↓btpI, ↓btgL, ↓btpL, ↓btisO, tgI, tpI, tgL, tpL, tisO, ↓btg_115, tg_115, ↓btx_1427, tx_1427, ↓bts_1427, ts_1427, ↓btxl_1427, txl_1427, ↓btsl_1427, tsl_1427, ↓Option.bind_some, ↓b2_some, ↓bX_l, ↓bX_r, Option.bind_some, Option.bind_none, b2_some, bX_l, bX_r, nn_e, if_true, if_false, reduceCtorEq, ↓reduceIte, Nat.reduceEqDiff, Nat.reduceLT, Nat.reduceLeDiff, Nat.reduceSubDiff, Nat.reduceAdd, Nat.reduceMul, nA1, nA2, nM1, nM2, n_add, n_mul, n_sub, nS1, nS2, nL0, nL1, nL2, nE0, nE1, nE2, nE3, bI_0, bI_1, bI_m, rz_b, rz_0, rz_1, t1, e2]
  · rw [p_II, if_pos ⟨rfl, rfl⟩, List.length_append]; rfl
  · rw [List.length_append]; simp only [List.length_cons, List.length_nil]; omega
  · rw [List.length_append] at hk
    simp only [List.length_cons, List.length_nil] at hk
    rw [p_II, if_neg (by omega), p_II, getD_app]
    by_cases e : k = L.length
    · rw [if_pos ⟨rfl, e⟩, if_neg (by omega), if_pos e]
    · rw [if_neg (fun z => e z.2), if_pos (by omega)]; exact t3 k (by omega)
theorem T_writesTwo (W : TKK (hK h) (hR h)) {L : List Nat} (T : TOC h L) (hl : L.length < 58) {v : Nat} (hv : v < 65536) : ∃ H, X7_writesTwo 1349 (nI v) h = some H ∧ FT PDO h H ∧ TOC H (L ++ [v / 256, v % 256]) := by
  have nz6 : nz 256 = some () := nz_e (by decide)
  have d1 : nI v / 256 = nI (v / 256) := n_div (b := 256) (by omega) (by decide) (by decide)
  have d2 : jrem (nI v) 256 = nI (v % 256) := n_rem (b := 256) (by omega) (by decide) (by decide)
  obtain ⟨H1, e1, F1, T1⟩ := T_writes W T (by omega) (v / 256)
  have W1 := F1.tk W
  obtain ⟨H2, e2, F2, T2⟩ := T_writes W1 T1 (by rw [List.length_append]; simp only [List.length_cons, List.length_nil]; omega) (v % 256)
  refine ⟨H2, ?_, F1.trans F2, by rw [List.append_assoc] at T2; exact T2⟩
  simp (disch := first | assumption | ((repeat (first | with_reducible refine TKI ?_ | with_reducible refine TKL ?_)); assumption) | omega) only [X7_writesTwo, ↓btgI, ↓btpI, ↓btgL, ↓btpL, ↓btisO, tgI, tpI, tgL, tpL, tisO, ↓Option.bind_some, ↓b2_some, ↓bX_l, ↓bX_r, Option.bind_some, Option.bind_none, b2_some, bX_l, bX_r, nn_e, if_true, if_false, reduceCtorEq, ↓reduceIte, Nat.reduceEqDiff, Nat.reduceLT, Nat.reduceLeDiff, Nat.reduceSubDiff, Nat.reduceAdd, Nat.reduceMul, nz6, d1, d2, ↓bd_of e1, ↓bd_of e2]
theorem T_checked {a n : Nat} {L : Nat} (hk : hK h a = (100, L)) (hL : L ≤ 2147483647) (hn : n ≤ L) (hn2 : n < 100000) {g : Nat → Nat} (hg : ∀ k, k < n → hI h a k = nI (g k) ∧ g k < 256) : X7_checked (some a) (nI n) h = some (nI (ckN g n), h) := by
  rw [X7_checked, X7_checked_6, ← Ev_is]
  refine ev_for n (fun k st => st = (nI (ckN g k), nI k, h)) ?_ ?_ 0 _ (Nat.zero_le _) rfl
  · rintro k _ hkn rfl
    obtain ⟨g1, g2⟩ := hg k hkn
    have c := ck_lt g k
    have nz1 : nz 251 = some () := nz_e (by decide)
    have x1 := xI_e (h := h) hk (show k < L by omega) hL
    have jr : jrem (nI (3 * ckN g k + g k)) 251 = nI ((3 * ckN g k + g k) % 251) := n_rem (b := 251) (by omega) (by decide) (by decide)
    simp (disch := first | assumption | ((repeat (first | with_reducible refine TKI ?_ | with_reducible refine TKL ?_)); assumption) | omega) only [X7_checked_6b, ↓Option.bind_some, ↓b2_some, ↓bX_l, ↓bX_r, Option.bind_some, Option.bind_none, b2_some, bX_l, bX_r, nn_e, if_true, if_false, reduceCtorEq, ↓reduceIte, Nat.reduceEqDiff, Nat.reduceLT, Nat.reduceLeDiff, Nat.reduceSubDiff, Nat.reduceAdd, Nat.reduceMul, nA1, nA2, nM1, nM2, n_add, n_mul, n_sub, nS1, nS2, nL0, nL1, nL2, nE0, nE1, nE2, nE3, bI_0, bI_1, bI_m, rz_b, rz_0, rz_1, hkn, x1, g1, nz1, jr]
    rw [Ev_some]
    rfl
  · rintro _ rfl
    simp (disch := first | assumption | ((repeat (first | with_reducible refine TKI ?_ | with_reducible refine TKL ?_)); assumption) | omega) only [X7_checked_6b, ↓Option.bind_some, ↓b2_some, ↓bX_l, ↓bX_r, Option.bind_some, Option.bind_none, b2_some, bX_l, bX_r, nn_e, if_true, if_false, reduceCtorEq, ↓reduceIte, Nat.reduceEqDiff, Nat.reduceLT, Nat.reduceLeDiff, Nat.reduceSubDiff, Nat.reduceAdd, Nat.reduceMul, nA1, nA2, nM1, nM2, n_add, n_mul, n_sub, nS1, nS2, nL0, nL1, nL2, nE0, nE1, nE2, nE3, bI_0, bI_1, bI_m, rz_b, rz_0, rz_1, Nat.lt_irrefl]
    rw [Ev_some]
theorem imB_byte (F : WFS s) (G : WFN s f) : ∀ b, b ≤ z_nb s → ∀ x ∈ imB f b, x < 256
  | 0, _, x, hx => by
    have := G.1
    simp only [imB, List.mem_cons, List.not_mem_nil, or_false] at hx
    omega
  | b + 1, hb, x, hx => by
    have h8 := F.2.2.1
    obtain ⟨g1, g2, -, g3⟩ := G.2.1 b (by omega)
    rw [imB, List.mem_append, List.mem_append] at hx
    rcases hx with q | q | q
    · exact imB_byte F G b (by omega) x q
    · simp only [List.mem_cons, List.not_mem_nil, or_false] at q; omega
    · have : ∀ k, k ≤ 6 → ∀ x ∈ gls f b k, x < 256 := by
        intro k
        induction k with
        | zero => intro _ x hx; simp [gls] at hx
        | succ k ih =>
          intro hk x hx
          rw [gls, List.mem_append] at hx
          have := g3 k (by omega)
          rcases hx with z | z
          · exact ih (by omega) x z
          · simp only [List.mem_cons, List.not_mem_nil, or_false] at z; omega
      exact this 6 (Nat.le_refl _) x q
theorem getD_mem {L : List Nat} {k : Nat} (hk : k < L.length) : L.getD k 0 ∈ L := by
  rw [List.getD_eq_getElem?_getD, List.getElem?_eq_getElem hk]
  exact List.getElem_mem hk
theorem T_image (W : TKK (hK h) (hR h)) (F : WFS s) (S : TSH h s) (N : TNOW h f) (G : WFN s f) : Ev (X7_image 1349 h) (fun z => z.1 = nI (img s f).length ∧ FT PDO h z.2 ∧ TOC z.2 (img s f)) := by
  have h4 := F.2.2.2.2.1
  have y := G.1
  have e0 : hI (wI 1349 116 0 h) 1389 0 = nI (f 0) := N 0 (by decide)
  have W0 : TKK (hK (wI 1349 116 0 h)) (hR (wI 1349 116 0 h)) := W
  have T0 : TOC (wI 1349 116 0 h) [] := ⟨rfl, by simp, fun k q => absurd q (Nat.not_lt_zero _)⟩
  obtain ⟨H1, w1, F1, T1⟩ := T_writesTwo W0 T0 (by simp) (show f 0 < 65536 by omega)
  have F10 : FT PDO h H1 := ((FT.refl _ _).wI (Or.inr ⟨rfl, rfl⟩)).trans F1
  simp (disch := first | assumption | ((repeat (first | with_reducible refine TKI ?_ | with_reducible refine TKL ?_)); assumption) | omega) only [X7_image, ↓btgI, ↓btpI, ↓btgL, ↓btpL, ↓btisO, tgI, tpI, tgL, tpL, tisO, ↓btg_57, tg_57, ↓btx_1389, tx_1389, ↓bts_1389, ts_1389, ↓btxl_1389, txl_1389, ↓btsl_1389, tsl_1389, ↓btg_115, tg_115, ↓btx_1427, tx_1427, ↓bts_1427, ts_1427, ↓btxl_1427, txl_1427, ↓btsl_1427, tsl_1427, ↓Option.bind_some, ↓b2_some, ↓bX_l, ↓bX_r, Option.bind_some, Option.bind_none, b2_some, bX_l, bX_r, nn_e, if_true, if_false, reduceCtorEq, ↓reduceIte, Nat.reduceEqDiff, Nat.reduceLT, Nat.reduceLeDiff, Nat.reduceSubDiff, Nat.reduceAdd, Nat.reduceMul, e0, ↓bd_of w1]
  rw [X7_image_17]
  refine ev_for (z_nb s) (fun b st => st.1 = nI b ∧ FT PDO h st.2 ∧ TOC st.2 (imB f b)) ?_ ?_ 0 _ (Nat.zero_le _) ⟨rfl, F10, T1⟩
  · rintro b ⟨x, H⟩ hb ⟨hx, F2, T2⟩
    simp only at hx F2 T2
    subst hx
    have W2 := F2.tk W
    have S2 := F2.tsh PDO_stn S
    have N2 : TNOW H f := F2.now (by unfold PDO; omega) N
    have il := imB_len f b
    obtain ⟨H3, w3, F3, T3⟩ := T_writes W2 T2 (by omega) (f (1 + 8 * b))
    have W3 := F3.tk W2
    have N3 : TNOW H3 f := F3.now (by unfold PDO; omega) N2
    obtain ⟨H4, w4, F4, T4⟩ := T_writes W3 T3 (by rw [List.length_append]; simp only [List.length_cons, List.length_nil]; omega) (f (2 + 8 * b))
    simp (disch := first | assumption | ((repeat (first | with_reducible refine TKI ?_ | with_reducible refine TKL ?_)); assumption) | omega) only [X7_image_17b, ↓btgI, ↓btpI, ↓btgL, ↓btpL, ↓btisO, tgI, tpI, tgL, tpL, tisO, ↓btg_57, tg_57, ↓btx_1389, tx_1389, ↓bts_1389, ts_1389, ↓btxl_1389, txl_1389, ↓btsl_1389, tsl_1389, ↓btg_115, tg_115, ↓btx_1427, tx_1427, ↓bts_1427, ts_1427, ↓btxl_1427, txl_1427, ↓btsl_1427, tsl_1427, ↓Option.bind_some, ↓b2_some, ↓bX_l, ↓bX_r, Option.bind_some, Option.bind_none, b2_some, bX_l, bX_r, nn_e, if_true, if_false, reduceCtorEq, ↓reduceIte, Nat.reduceEqDiff, Nat.reduceLT, Nat.reduceLeDiff, Nat.reduceSubDiff, Nat.reduceAdd, Nat.reduceMul, nA1, nA2, nM1, nM2, n_add, n_mul, n_sub, nS1, nS2, nL0, nL1, nL2, nE0, nE1, nE2, nE3, bI_0, bI_1, bI_m, rz_b, rz_0, rz_1, ↓b2_of (T_boardMany W2 S2), hb, ↓b2_of (T_wordOf W2 N2 (show b < 4 by omega)), ↓bd_of w3, ↓b2_of (T_handOf W3 N3 (show b < 4 by omega)), ↓bd_of w4]
    have F5 := (F2.trans F3).trans F4
    rw [X7_image_45]
    refine ev_for 6 (fun k st => st.1 = nI k ∧ FT PDO h st.2 ∧ TOC st.2 (imB f b ++ ([f (1 + 8 * b), f (2 + 8 * b)] ++ gls f b k))) ?_ ?_ 0 _ (by decide) ⟨rfl, F5, by rw [List.append_assoc] at T4; exact T4⟩
    · rintro k ⟨x, H5⟩ hk ⟨hx, F6, T6⟩
      simp only at hx F6 T6
      subst hx
      have W6 := F6.tk W
      have N6 : TNOW H5 f := F6.now (by unfold PDO; omega) N
      have gk := (G.2.1 b hb).2.2.2 k hk
      have gl := gls_len f b k
      obtain ⟨H7, w7, F7, T7⟩ := T_writesTwo W6 T6 (by rw [List.length_append, List.length_append]; simp only [List.length_cons, List.length_nil]; omega) (show f (3 + 8 * b + k) < 65536 by omega)
      simp (disch := first | assumption | ((repeat (first | with_reducible refine TKI ?_ | with_reducible refine TKL ?_)); assumption) | omega) only [X7_image_45b, ↓btgI, ↓btpI, ↓btgL, ↓btpL, ↓btisO, tgI, tpI, tgL, tpL, tisO, ↓btg_57, tg_57, ↓btx_1389, tx_1389, ↓bts_1389, ts_1389, ↓btxl_1389, txl_1389, ↓btsl_1389, tsl_1389, ↓btg_115, tg_115, ↓btx_1427, tx_1427, ↓bts_1427, ts_1427, ↓btxl_1427, txl_1427, ↓btsl_1427, tsl_1427, ↓Option.bind_some, ↓b2_some, ↓bX_l, ↓bX_r, Option.bind_some, Option.bind_none, b2_some, bX_l, bX_r, nn_e, if_true, if_false, reduceCtorEq, ↓reduceIte, Nat.reduceEqDiff, Nat.reduceLT, Nat.reduceLeDiff, Nat.reduceSubDiff, Nat.reduceAdd, Nat.reduceMul, nA1, nA2, nM1, nM2, n_add, n_mul, n_sub, nS1, nS2, nL0, nL1, nL2, nE0, nE1, nE2, nE3, bI_0, bI_1, bI_m, rz_b, rz_0, rz_1, hk, ↓b2_of (T_glyphAt W6 N6 (show b < 4 by omega) hk), ↓bd_of w7]
      rw [Ev_some]
      refine ⟨rfl, F6.trans F7, ?_⟩
      rw [List.append_assoc, List.append_assoc] at T7
      exact T7
    · rintro ⟨x, H5⟩ ⟨hx, F6, T6⟩
      simp only at hx F6 T6
      subst hx
      simp (disch := first | assumption | ((repeat (first | with_reducible refine TKI ?_ | with_reducible refine TKL ?_)); assumption) | omega) only [X7_image_45b, ↓Option.bind_some, ↓b2_some, ↓bX_l, ↓bX_r, Option.bind_some, Option.bind_none, b2_some, bX_l, bX_r, nn_e, if_true, if_false, reduceCtorEq, ↓reduceIte, Nat.reduceEqDiff, Nat.reduceLT, Nat.reduceLeDiff, Nat.reduceSubDiff, Nat.reduceAdd, Nat.reduceMul, nA1, nA2, nM1, nM2, n_add, n_mul, n_sub, nS1, nS2, nL0, nL1, nL2, nE0, nE1, nE2, nE3, bI_0, bI_1, bI_m, rz_b, rz_0, rz_1, Nat.lt_irrefl]
      rw [Ev_some]
      exact ⟨rfl, F6, T6⟩
  · rintro ⟨x, H⟩ ⟨hx, F2, T2⟩
    simp only at hx F2 T2
    subst hx
    have W2 := F2.tk W
    have S2 := F2.tsh PDO_stn S
    have il := imB_len f (z_nb s)
    have ck := T_checked (h := H) (tk_1427 W2) (by decide) (n := (imB f (z_nb s)).length) (by omega) (by omega) (g := fun k => (imB f (z_nb s)).getD k 0) (fun k hk => ⟨T2.2.2 k hk, imB_byte F G _ (Nat.le_refl _) _ (getD_mem hk)⟩)
    obtain ⟨H3, w3, F3, T3⟩ := T_writes W2 T2 (by omega) (ckN (fun k => (imB f (z_nb s)).getD k 0) (imB f (z_nb s)).length)
    have W3 := F3.tk W2
    have e3 := T3.1
    simp (disch := first | assumption | ((repeat (first | with_reducible refine TKI ?_ | with_reducible refine TKL ?_)); assumption) | omega) only [X7_image_17b, X7_image_73, ↓btgI, ↓btpI, ↓btgL, ↓btpL, ↓btisO, tgI, tpI, tgL, tpL, tisO, ↓btg_57, tg_57, ↓btx_1389, tx_1389, ↓bts_1389, ts_1389, ↓btxl_1389, txl_1389, ↓btsl_1389, tsl_1389, ↓btg_115, tg_115, ↓btx_1427, tx_1427, ↓bts_1427, ts_1427, ↓btxl_1427, txl_1427, ↓btsl_1427, tsl_1427, ↓Option.bind_some, ↓b2_some, ↓bX_l, ↓bX_r, Option.bind_some, Option.bind_none, b2_some, bX_l, bX_r, nn_e, if_true, if_false, reduceCtorEq, ↓reduceIte, Nat.reduceEqDiff, Nat.reduceLT, Nat.reduceLeDiff, Nat.reduceSubDiff, Nat.reduceAdd, Nat.reduceMul, nA1, nA2, nM1, nM2, n_add, n_mul, n_sub, nS1, nS2, nL0, nL1, nL2, nE0, nE1, nE2, nE3, bI_0, bI_1, bI_m, rz_b, rz_0, rz_1, ↓b2_of (T_boardMany W2 S2), Nat.lt_irrefl, T2.1, ↓b2_of ck, ↓bd_of w3, e3]
    rw [Ev_some]
    exact ⟨rfl, F2.trans F3, T3⟩
theorem T_octet (W : TKK (hK h) (hR h)) {L : List Nat} (T : TOC h L) (x : Int32) : X7_octet 1349 x h = some (if inR x L.length = true then nI (L.getD (nt x) 0) else -1, h) := by
  obtain ⟨t1, t2, t3⟩ := T
  simp (disch := first | assumption | ((repeat (first | with_reducible refine TKI ?_ | with_reducible refine TKL ?_)); assumption) | omega) only [X7_octet, ↓btgI, ↓btpI, ↓btgL, ↓btpL, ↓btisO, tgI, tpI, tgL, tpL, tisO, ↓btg_115, tg_115, ↓btx_1427, tx_1427, ↓bts_1427, ts_1427, ↓btxl_1427, txl_1427, ↓btsl_1427, tsl_1427, ↓Option.bind_some, ↓b2_some, ↓bX_l, ↓bX_r, Option.bind_some, Option.bind_none, b2_some, bX_l, bX_r, nn_e, if_true, if_false, reduceCtorEq, ↓reduceIte, Nat.reduceEqDiff, Nat.reduceLT, Nat.reduceLeDiff, Nat.reduceSubDiff, Nat.reduceAdd, Nat.reduceMul, t1]
  cases e : inR x L.length with
  | true =>
    obtain ⟨k, hk, rfl⟩ := inR_ex (by omega) e
    have tk := t3 k hk
    rw [if_neg (n_neg (by omega)), if_pos ((nL0 (by omega) (by omega)).mpr hk), nt_n (by omega), if_pos rfl]
    simp (disch := first | assumption | ((repeat (first | with_reducible refine TKI ?_ | with_reducible refine TKL ?_)); assumption) | omega) only [↓btgI, ↓btpI, ↓btgL, ↓btpL, ↓btisO, tgI, tpI, tgL, tpL, tisO, ↓btg_115, tg_115, ↓btx_1427, tx_1427, ↓bts_1427, ts_1427, ↓btxl_1427, txl_1427, ↓btsl_1427, tsl_1427, ↓Option.bind_some, ↓b2_some, ↓bX_l, ↓bX_r, Option.bind_some, Option.bind_none, b2_some, bX_l, bX_r, nn_e, if_true, if_false, reduceCtorEq, ↓reduceIte, Nat.reduceEqDiff, Nat.reduceLT, Nat.reduceLeDiff, Nat.reduceSubDiff, Nat.reduceAdd, Nat.reduceMul, tk]
  | false =>
    simp only [inR, decide_eq_false_iff_not] at e
    rw [show (if false = true then nI (L.getD (nt x) 0) else -1) = (-1 : Int32) from rfl]
    by_cases q : x < 0
    · rw [if_pos q]
    · rw [if_neg q, if_neg]
      rw [Int32.lt_iff_toInt_lt] at q ⊢
      rw [n_int (by omega)]
      have : (0 : Int32).toInt = 0 := rfl
      omega
theorem T_twoAt (W : TKK (hK h) (hR h)) {t : Nat → Nat} {n k : Nat} (ht : ∀ q, q < n → hI h 1350 q = nI (t q) ∧ t q < 256) (hn : n ≤ 1600) (hk : k + 1 < n) : X7_twoAt 1349 (nI k) h = some (nI (two t k), h) := by
  have a := (ht k (by omega)).1
  have b := (ht (k + 1) hk).1
  simp (disch := first | assumption | ((repeat (first | with_reducible refine TKI ?_ | with_reducible refine TKL ?_)); assumption) | omega) only [X7_twoAt, ↓btgI, ↓btpI, ↓btgL, ↓btpL, ↓btisO, tgI, tpI, tgL, tpL, tisO, ↓btg_0, tg_0, ↓btx_1350, tx_1350, ↓bts_1350, ts_1350, ↓btxl_1350, txl_1350, ↓btsl_1350, tsl_1350, ↓Option.bind_some, ↓b2_some, ↓bX_l, ↓bX_r, Option.bind_some, Option.bind_none, b2_some, bX_l, bX_r, nn_e, if_true, if_false, reduceCtorEq, ↓reduceIte, Nat.reduceEqDiff, Nat.reduceLT, Nat.reduceLeDiff, Nat.reduceSubDiff, Nat.reduceAdd, Nat.reduceMul, nA1, nA2, nM1, nM2, n_add, n_mul, n_sub, nS1, nS2, nL0, nL1, nL2, nE0, nE1, nE2, nE3, bI_0, bI_1, bI_m, rz_b, rz_0, rz_1, a, b]
  rfl
theorem T_boardTold (W : TKK (hK h) (hR h)) (F : WFS s) (S : TSH h s) {t : Nat → Nat} {n b : Nat} (ht : ∀ q, q < n → hI h 1350 q = nI (t q) ∧ t q < 256) (hn : n ≤ 1600) (hb : 16 + 14 * b < n) : X7_isBoardTold 1349 (nI (2 + 14 * b)) h = some (bI (brdT s t b), h) := by
  have h8 := F.2.2.1
  obtain ⟨a1, a2⟩ := ht (2 + 14 * b) (by omega)
  obtain ⟨b1, b2⟩ := ht (2 + 14 * b + 1) (by omega)
  have b1' : hI h 1350 (2 + 14 * b + 1) = nI (t (3 + 14 * b)) := by rw [b1, show 2 + 14 * b + 1 = 3 + 14 * b by omega]
  rw [show 2 + 14 * b + 1 = 3 + 14 * b by omega] at b2
  simp (disch := first | assumption | ((repeat (first | with_reducible refine TKI ?_ | with_reducible refine TKL ?_)); assumption) | omega) only [X7_isBoardTold, ↓btgI, ↓btpI, ↓btgL, ↓btpL, ↓btisO, tgI, tpI, tgL, tpL, tisO, ↓btg_0, tg_0, ↓btx_1350, tx_1350, ↓bts_1350, ts_1350, ↓btxl_1350, txl_1350, ↓btsl_1350, tsl_1350, ↓Option.bind_some, ↓b2_some, ↓bX_l, ↓bX_r, Option.bind_some, Option.bind_none, b2_some, bX_l, bX_r, nn_e, if_true, if_false, reduceCtorEq, ↓reduceIte, Nat.reduceEqDiff, Nat.reduceLT, Nat.reduceLeDiff, Nat.reduceSubDiff, Nat.reduceAdd, Nat.reduceMul, nA1, nA2, nM1, nM2, n_add, n_mul, n_sub, nS1, nS2, nL0, nL1, nL2, nE0, nE1, nE2, nE3, bI_0, bI_1, bI_m, rz_b, rz_0, rz_1, a1, ↓b2_of (T_isWord W F S (nI (t (2 + 14 * b))))]
  unfold brdT
  by_cases q : t (2 + 14 * b) < z_nw s
  · rw [inR_n q (by omega), if_neg (by decide), decide_eq_true q, Bool.true_and]
    simp (disch := first | assumption | ((repeat (first | with_reducible refine TKI ?_ | with_reducible refine TKL ?_)); assumption) | omega) only [↓btgI, ↓btpI, ↓btgL, ↓btpL, ↓btisO, tgI, tpI, tgL, tpL, tisO, ↓btg_0, tg_0, ↓btx_1350, tx_1350, ↓bts_1350, ts_1350, ↓btxl_1350, txl_1350, ↓btsl_1350, tsl_1350, ↓Option.bind_some, ↓b2_some, ↓bX_l, ↓bX_r, Option.bind_some, Option.bind_none, b2_some, bX_l, bX_r, nn_e, if_true, if_false, reduceCtorEq, ↓reduceIte, Nat.reduceEqDiff, Nat.reduceLT, Nat.reduceLeDiff, Nat.reduceSubDiff, Nat.reduceAdd, Nat.reduceMul, nA1, nA2, nM1, nM2, n_add, n_mul, n_sub, nS1, nS2, nL0, nL1, nL2, nE0, nE1, nE2, nE3, bI_0, bI_1, bI_m, rz_b, rz_0, rz_1, b1', ↓b2_of (T_isHand (h := h) (nI (t (3 + 14 * b))))]
    by_cases q2 : t (3 + 14 * b) < 2
    · rw [inR_n q2 (by decide), if_neg (by decide), decide_eq_true q2, Bool.true_and, b2_of (T_canPaint W F S q q2)]
      cases e : cp s (t (2 + 14 * b)) (t (3 + 14 * b)) with
      | false => rw [if_pos (show bI false = 0 from rfl)]; rfl
      | true =>
        rw [if_neg (by decide), Bool.true_and, X7_isBoardTold_51, ← Ev_is]
        refine ev_for 6 (fun k st => st = (nI k, h) ∧ ∀ j, j < k → decide (two t (4 + 14 * b + 2 * j) ≤ if j < z_wl s (t (2 + 14 * b)) then 32767 else 0) = true) ?_ ?_ 0 _ (by decide) ⟨rfl, fun j q => absurd q (Nat.not_lt_zero _)⟩
        · rintro k _ hk ⟨rfl, hj⟩
          have c1 := (ht (4 + 14 * b + 2 * k) (by omega)).2
          have c2 := (ht (4 + 14 * b + 2 * k + 1) (by omega)).2
          have tl : two t (4 + 14 * b + 2 * k) < 65536 := by unfold two; omega
          have t2 := T_twoAt W ht hn (k := 4 + 14 * b + 2 * k) (by omega)
          have t2' : X7_twoAt 1349 (nI (2 + 14 * b + 2 + 2 * k)) h = some (nI (two t (4 + 14 * b + 2 * k)), h) := by rw [show 2 + 14 * b + 2 + 2 * k = 4 + 14 * b + 2 * k by omega]; exact t2
          have w6 := (F.2.2.2.1 _ q).2.1
          have step : ∀ m : Nat, m < 100000 → (if m < two t (4 + 14 * b + 2 * k) then (some (Sum.inr (0, h)) : Option ((Int32 × AH) ⊕ (Int32 × AH))) else some (Sum.inl (nI (k + 1), h))) = if decide (two t (4 + 14 * b + 2 * k) ≤ m) = true then some (Sum.inl (nI (k + 1), h)) else some (Sum.inr (0, h)) := by
            intro m _
            by_cases z : m < two t (4 + 14 * b + 2 * k)
            · rw [if_pos z, if_neg (by simp; omega)]
            · rw [if_neg z, if_pos (by simp; omega)]
          have fin : Ev (if decide (two t (4 + 14 * b + 2 * k) ≤ if k < z_wl s (t (2 + 14 * b)) then 32767 else 0) = true then (some (Sum.inl (nI (k + 1), h)) : Option ((Int32 × AH) ⊕ (Int32 × AH))) else some (Sum.inr (0, h))) (fun o => (∃ x, o = .inl x ∧ x = (nI (k + 1), h) ∧ ∀ j, j < k + 1 → decide (two t (4 + 14 * b + 2 * j) ≤ if j < z_wl s (t (2 + 14 * b)) then 32767 else 0) = true) ∨ (o = .inr (0, h) ∧ alln (fun k => decide (two t (4 + 14 * b + 2 * k) ≤ if k < z_wl s (t (2 + 14 * b)) then 32767 else 0)) 6 = false)) := by
            cases z : decide (two t (4 + 14 * b + 2 * k) ≤ if k < z_wl s (t (2 + 14 * b)) then 32767 else 0) with
            | true =>
              rw [if_pos rfl, Ev_some]
              refine Or.inl ⟨_, rfl, rfl, fun j h5 => ?_⟩
              by_cases ej : j = k
              · rw [ej]; exact z
              · exact hj j (by omega)
            | false =>
              rw [if_neg (by decide), Ev_some]
              exact Or.inr ⟨rfl, alln_no hk z⟩
          simp (disch := first | assumption | ((repeat (first | with_reducible refine TKI ?_ | with_reducible refine TKL ?_)); assumption) | omega) only [X7_isBoardTold_51b, X7_isBoardTold_84, ↓Option.bind_some, ↓b2_some, ↓bX_l, ↓bX_r, Option.bind_some, Option.bind_none, b2_some, bX_l, bX_r, nn_e, if_true, if_false, reduceCtorEq, ↓reduceIte, Nat.reduceEqDiff, Nat.reduceLT, Nat.reduceLeDiff, Nat.reduceSubDiff, Nat.reduceAdd, Nat.reduceMul, btisO, nL0, nL1, nL2, nA1, nM2, n_add, hk, ↓b2_of t2', b2_of t2', ↓b2_of (T_longOf W F S q)]
          by_cases z : k < z_wl s (t (2 + 14 * b))
          · rw [if_pos z] at fin ⊢
            obtain ⟨o, e1, e2⟩ := fin
            rcases e2 with ⟨y, rfl, y1, y2⟩ | ⟨rfl, y⟩
            · exact ⟨_, (step 32767 (by decide)).trans e1, y1, y2⟩
            · refine ⟨_, (step 32767 (by decide)).trans e1, ?_⟩
              show _ = (bI (alln _ 6), h)
              rw [y]; rfl
          · rw [if_neg z] at fin ⊢
            obtain ⟨o, e1, e2⟩ := fin
            rcases e2 with ⟨y, rfl, y1, y2⟩ | ⟨rfl, y⟩
            · exact ⟨_, (step 0 (by decide)).trans e1, y1, y2⟩
            · refine ⟨_, (step 0 (by decide)).trans e1, ?_⟩
              show _ = (bI (alln _ 6), h)
              rw [y]; rfl
        · rintro _ ⟨rfl, hj⟩
          simp (disch := first | assumption | ((repeat (first | with_reducible refine TKI ?_ | with_reducible refine TKL ?_)); assumption) | omega) only [X7_isBoardTold_51b, ↓Option.bind_some, ↓b2_some, ↓bX_l, ↓bX_r, Option.bind_some, Option.bind_none, b2_some, bX_l, bX_r, nn_e, if_true, if_false, reduceCtorEq, ↓reduceIte, Nat.reduceEqDiff, Nat.reduceLT, Nat.reduceLeDiff, Nat.reduceSubDiff, Nat.reduceAdd, Nat.reduceMul, nA1, nA2, nM1, nM2, n_add, n_mul, n_sub, nS1, nS2, nL0, nL1, nL2, nE0, nE1, nE2, nE3, bI_0, bI_1, bI_m, rz_b, rz_0, rz_1, Nat.lt_irrefl]
          rw [Ev_some, (alln_iff _).mpr hj]
          rfl
    · rw [inR_no (by omega) (by omega), if_pos rfl, decide_eq_false q2]; rfl
  · rw [inR_no (by omega) (by omega), if_pos rfl, decide_eq_false q]; rfl
/-- what an image tells, board by board -/
def onP (f : RW) (t : Nat → Nat) (b k : Nat) : RW := fun i => if i = 0 then two t 0 else if 1 ≤ i ∧ ((i - 1) / 8 < b ∨ ((i - 1) / 8 = b ∧ (i - 1) % 8 < k)) then (if (i - 1) % 8 = 0 then t (2 + 14 * ((i - 1) / 8)) else if (i - 1) % 8 = 1 then t (3 + 14 * ((i - 1) / 8)) else two t (4 + 14 * ((i - 1) / 8) + 2 * ((i - 1) % 8 - 2))) else f i
theorem onP_k {t : Nat → Nat} {b k : Nat} (hk : k < 8) (v : Nat) (hv : v = if k = 0 then t (2 + 14 * b) else if k = 1 then t (3 + 14 * b) else two t (4 + 14 * b + 2 * (k - 2))) : onP f t b (k + 1) = fun i => if i = 1 + 8 * b + k then v else onP f t b k i := by
  funext i
  by_cases e : i = 1 + 8 * b + k
  · subst e
    have e1 : (1 + 8 * b + k - 1) / 8 = b := by omega
    have e2 : (1 + 8 * b + k - 1) % 8 = k := by omega
    unfold onP
    rw [if_neg (by omega), e1, e2, if_pos ⟨by omega, by omega⟩, if_pos rfl, hv]
  · rw [if_neg e]
    unfold onP
    by_cases z : i = 0
    · rw [if_pos z, if_pos z]
    · rw [if_neg z, if_neg z]
      by_cases c : 1 ≤ i ∧ ((i - 1) / 8 < b ∨ ((i - 1) / 8 = b ∧ (i - 1) % 8 < k))
      · rw [if_pos c, if_pos ⟨c.1, by omega⟩]
      · rw [if_neg c, if_neg (fun q => c ⟨q.1, by omega⟩)]
theorem onP_b {t : Nat → Nat} {b : Nat} : onP f t b 8 = onP f t (b + 1) 0 := by
  funext i
  unfold onP
  by_cases z : i = 0
  · rw [if_pos z, if_pos z]
  · rw [if_neg z, if_neg z]
    by_cases c : 1 ≤ i ∧ (i - 1) / 8 < b + 1
    · rw [if_pos (show 1 ≤ i ∧ ((i - 1) / 8 < b ∨ ((i - 1) / 8 = b ∧ (i - 1) % 8 < 8)) by omega), if_pos (show 1 ≤ i ∧ ((i - 1) / 8 < b + 1 ∨ ((i - 1) / 8 = b + 1 ∧ (i - 1) % 8 < 0)) by omega)]
    · rw [if_neg (fun q => c ⟨q.1, by omega⟩), if_neg (fun q => c ⟨q.1, by omega⟩)]
theorem T_on (W : TKK (hK h) (hR h)) (F : WFS s) (S : TSH h s) (N : TNOW h f) {t : Nat → Nat} {n : Nat} (P : TTP h t n) {r : Nat → Int32} (R : TRF h r) :
    Ev (X7_on 1349 h) (fun z => (isIm s t n = true → z.1 = 1 ∧ FT (fun a k => a = 1389 ∨ (a = 1349 ∧ (k = 1 ∨ k = 78))) h z.2 ∧ TNOW z.2 (onR s f t) ∧ hI z.2 1349 1 = 0 ∧ hI z.2 1349 78 = 0) ∧ (isIm s t n = false → z.1 = 0 ∧ z.2 = wI 1351 5 (r 5 + 1) (wI 1349 1 0 h))) := by
  have h4 := F.2.2.2.2.1
  obtain ⟨p1, p2, p3⟩ := P
  have r5 := R 5 (by decide)
  generalize hH : wI 1349 1 0 h = H
  have W1 : TKK H.1 (hR H) := by rw [← hH]; exact W
  have S1 : TSH H s := by rw [← hH]; exact S.wI (by unfold Stn; omega)
  have N1 : TNOW H f := by rw [← hH]; exact N.fr (fun _ => rfl)
  have t1 : ∀ q, q < n → hI H 1350 q = nI (t q) ∧ t q < 256 := by rw [← hH]; exact p3
  have r5' : hI H 1351 5 = r 5 := by rw [← hH]; exact r5
  have F1 : FT (fun a k => a = 1389 ∨ (a = 1349 ∧ (k = 1 ∨ k = 78))) h H := by rw [← hH]; exact (FT.refl _ _).wI (by omega)
  have e11 : hI H 1349 1 = 0 := by rw [← hH]; rfl
  have im : X7_isImage 1349 (nI n) H = some (bI (isIm s t n), H) := by
    simp (disch := first | assumption | ((repeat (first | with_reducible refine TKI ?_ | with_reducible refine TKL ?_)); assumption) | omega) only [X7_isImage, ↓btgI, ↓btpI, ↓btgL, ↓btpL, ↓btisO, tgI, tpI, tgL, tpL, tisO, ↓btg_0, tg_0, ↓btx_1350, tx_1350, ↓bts_1350, ts_1350, ↓btxl_1350, txl_1350, ↓btsl_1350, tsl_1350, ↓btg_9, tg_9, ↓btx_1351, tx_1351, ↓bts_1351, ts_1351, ↓btxl_1351, txl_1351, ↓btsl_1351, tsl_1351, ↓btg_57, tg_57, ↓btx_1389, tx_1389, ↓bts_1389, ts_1389, ↓btxl_1389, txl_1389, ↓btsl_1389, tsl_1389, ↓Option.bind_some, ↓b2_some, ↓bX_l, ↓bX_r, Option.bind_some, Option.bind_none, b2_some, bX_l, bX_r, nn_e, if_true, if_false, reduceCtorEq, ↓reduceIte, Nat.reduceEqDiff, Nat.reduceLT, Nat.reduceLeDiff, Nat.reduceSubDiff, Nat.reduceAdd, Nat.reduceMul, nA1, nA2, nM1, nM2, n_add, n_mul, n_sub, nS1, nS2, nL0, nL1, nL2, nE0, nE1, nE2, nE3, bI_0, bI_1, bI_m, rz_b, rz_0, rz_1, ↓b2_of (T_boardMany W1 S1)]
    unfold isIm
    by_cases q : n = 3 + 14 * z_nb s
    · rw [if_pos q, decide_eq_true q, Bool.true_and]
      have a1 := t1 (n - 1) (by omega)
      have ck := T_checked (h := H) (tk_1350 W1) (by decide) (n := n - 1) (by omega) (by omega) (g := t) (fun k hk => t1 k (by omega))
      have cl := ck_lt t (n - 1)
      have t0 : X7_twoAt 1349 0 H = some (nI (two t 0), H) := T_twoAt W1 t1 p2 (k := 0) (by omega)
      simp (disch := first | assumption | ((repeat (first | with_reducible refine TKI ?_ | with_reducible refine TKL ?_)); assumption) | omega) only [↓btgI, ↓btpI, ↓btgL, ↓btpL, ↓btisO, tgI, tpI, tgL, tpL, tisO, ↓btg_0, tg_0, ↓btx_1350, tx_1350, ↓bts_1350, ts_1350, ↓btxl_1350, txl_1350, ↓btsl_1350, tsl_1350, ↓btg_9, tg_9, ↓btx_1351, tx_1351, ↓bts_1351, ts_1351, ↓btxl_1351, txl_1351, ↓btsl_1351, tsl_1351, ↓btg_57, tg_57, ↓btx_1389, tx_1389, ↓bts_1389, ts_1389, ↓btxl_1389, txl_1389, ↓btsl_1389, tsl_1389, ↓Option.bind_some, ↓b2_some, ↓bX_l, ↓bX_r, Option.bind_some, Option.bind_none, b2_some, bX_l, bX_r, nn_e, if_true, if_false, reduceCtorEq, ↓reduceIte, Nat.reduceEqDiff, Nat.reduceLT, Nat.reduceLeDiff, Nat.reduceSubDiff, Nat.reduceAdd, Nat.reduceMul, nA1, nA2, nM1, nM2, n_add, n_mul, n_sub, nS1, nS2, nL0, nL1, nL2, nE0, nE1, nE2, nE3, bI_0, bI_1, bI_m, rz_b, rz_0, rz_1, a1.1, ↓b2_of ck]
      by_cases q2 : t (n - 1) = ckN t (n - 1)
      · have b0 := (t1 0 (by omega)).2
        have b1 := (t1 1 (by omega)).2
        have tl : two t 0 < 65536 := by show 256 * t 0 + t 1 < 65536; omega
        rw [if_pos q2, decide_eq_true q2, Bool.true_and, b2_of t0]
        simp (disch := first | assumption | ((repeat (first | with_reducible refine TKI ?_ | with_reducible refine TKL ?_)); assumption) | omega) only [nA1, nA2, nM1, nM2, n_add, n_mul, n_sub, nS1, nS2, nL0, nL1, nL2, nE0, nE1, nE2, nE3, bI_0, bI_1, bI_m, rz_b, rz_0, rz_1]
        by_cases q3 : two t 0 ≤ 999
        · rw [if_neg (by omega), decide_eq_true q3, Bool.true_and, X7_isImage_49, ← Ev_is]
          refine ev_for (z_nb s) (fun b st => st = (nI b, H) ∧ ∀ j, j < b → brdT s t j = true) ?_ ?_ 0 _ (Nat.zero_le _) ⟨rfl, fun j q => absurd q (Nat.not_lt_zero _)⟩
          · rintro b _ hb ⟨rfl, hj⟩
            have bt := T_boardTold W1 F S1 (b := b) t1 p2 (by omega)
            simp (disch := first | assumption | ((repeat (first | with_reducible refine TKI ?_ | with_reducible refine TKL ?_)); assumption) | omega) only [X7_isImage_49b, ↓btgI, ↓btpI, ↓btgL, ↓btpL, ↓btisO, tgI, tpI, tgL, tpL, tisO, ↓btg_0, tg_0, ↓btx_1350, tx_1350, ↓bts_1350, ts_1350, ↓btxl_1350, txl_1350, ↓btsl_1350, tsl_1350, ↓btg_9, tg_9, ↓btx_1351, tx_1351, ↓bts_1351, ts_1351, ↓btxl_1351, txl_1351, ↓btsl_1351, tsl_1351, ↓btg_57, tg_57, ↓btx_1389, tx_1389, ↓bts_1389, ts_1389, ↓btxl_1389, txl_1389, ↓btsl_1389, tsl_1389, ↓Option.bind_some, ↓b2_some, ↓bX_l, ↓bX_r, Option.bind_some, Option.bind_none, b2_some, bX_l, bX_r, nn_e, if_true, if_false, reduceCtorEq, ↓reduceIte, Nat.reduceEqDiff, Nat.reduceLT, Nat.reduceLeDiff, Nat.reduceSubDiff, Nat.reduceAdd, Nat.reduceMul, nA1, nA2, nM1, nM2, n_add, n_mul, n_sub, nS1, nS2, nL0, nL1, nL2, nE0, nE1, nE2, nE3, bI_0, bI_1, bI_m, rz_b, rz_0, rz_1, ↓b2_of (T_boardMany W1 S1), hb, ↓b2_of bt, b2_of bt]
            cases e : brdT s t b with
            | false =>
              rw [if_pos rfl, Ev_some]
              show _ = (bI (alln (brdT s t) (z_nb s)), H)
              rw [alln_no hb e]; rfl
            | true =>
              rw [if_neg (by decide), Ev_some]
              refine ⟨rfl, fun j h5 => ?_⟩
              by_cases ej : j = b
              · rw [ej]; exact e
              · exact hj j (by omega)
          · rintro _ ⟨rfl, hj⟩
            simp (disch := first | assumption | ((repeat (first | with_reducible refine TKI ?_ | with_reducible refine TKL ?_)); assumption) | omega) only [X7_isImage_49b, ↓btgI, ↓btpI, ↓btgL, ↓btpL, ↓btisO, tgI, tpI, tgL, tpL, tisO, ↓btg_0, tg_0, ↓btx_1350, tx_1350, ↓bts_1350, ts_1350, ↓btxl_1350, txl_1350, ↓btsl_1350, tsl_1350, ↓btg_9, tg_9, ↓btx_1351, tx_1351, ↓bts_1351, ts_1351, ↓btxl_1351, txl_1351, ↓btsl_1351, tsl_1351, ↓btg_57, tg_57, ↓btx_1389, tx_1389, ↓bts_1389, ts_1389, ↓btxl_1389, txl_1389, ↓btsl_1389, tsl_1389, ↓Option.bind_some, ↓b2_some, ↓bX_l, ↓bX_r, Option.bind_some, Option.bind_none, b2_some, bX_l, bX_r, nn_e, if_true, if_false, reduceCtorEq, ↓reduceIte, Nat.reduceEqDiff, Nat.reduceLT, Nat.reduceLeDiff, Nat.reduceSubDiff, Nat.reduceAdd, Nat.reduceMul, nA1, nA2, nM1, nM2, n_add, n_mul, n_sub, nS1, nS2, nL0, nL1, nL2, nE0, nE1, nE2, nE3, bI_0, bI_1, bI_m, rz_b, rz_0, rz_1, ↓b2_of (T_boardMany W1 S1), Nat.lt_irrefl]
            rw [Ev_some, (alln_iff _).mpr hj]; rfl
        · rw [if_pos (by omega), decide_eq_false q3]; rfl
      · rw [if_neg q2, decide_eq_false q2]; rfl
    · rw [if_neg q, decide_eq_false q]; rfl
  simp (disch := first | assumption | ((repeat (first | with_reducible refine TKI ?_ | with_reducible refine TKL ?_)); assumption) | omega) only [X7_on, ↓btgI, ↓btpI, ↓btgL, ↓btpL, ↓btisO, tgI, tpI, tgL, tpL, tisO, ↓btg_0, tg_0, ↓btx_1350, tx_1350, ↓bts_1350, ts_1350, ↓btxl_1350, txl_1350, ↓btsl_1350, tsl_1350, ↓btg_9, tg_9, ↓btx_1351, tx_1351, ↓bts_1351, ts_1351, ↓btxl_1351, txl_1351, ↓btsl_1351, tsl_1351, ↓btg_57, tg_57, ↓btx_1389, tx_1389, ↓bts_1389, ts_1389, ↓btxl_1389, txl_1389, ↓btsl_1389, tsl_1389, ↓Option.bind_some, ↓b2_some, ↓bX_l, ↓bX_r, Option.bind_some, Option.bind_none, b2_some, bX_l, bX_r, nn_e, if_true, if_false, reduceCtorEq, ↓reduceIte, Nat.reduceEqDiff, Nat.reduceLT, Nat.reduceLeDiff, Nat.reduceSubDiff, Nat.reduceAdd, Nat.reduceMul, p1, hH, ↓b2_of im, r5']
  cases e : isIm s t n with
  | false =>
    rw [if_pos (show bI false = 0 from rfl), Ev_some]
    exact ⟨fun q => (by cases q), fun _ => ⟨rfl, rfl⟩⟩
  | true =>
    have en : n = 3 + 14 * z_nb s := by
      unfold isIm at e
      rw [Bool.and_eq_true] at e
      exact of_decide_eq_true e.1
    have t0 : X7_twoAt 1349 0 H = some (nI (two t 0), H) := T_twoAt W1 t1 p2 (k := 0) (by omega)
    rw [if_neg (by decide)]
    simp (disch := first | assumption | ((repeat (first | with_reducible refine TKI ?_ | with_reducible refine TKL ?_)); assumption) | omega) only [↓btgI, ↓btpI, ↓btgL, ↓btpL, ↓btisO, tgI, tpI, tgL, tpL, tisO, ↓btg_0, tg_0, ↓btx_1350, tx_1350, ↓bts_1350, ts_1350, ↓btxl_1350, txl_1350, ↓btsl_1350, tsl_1350, ↓btg_9, tg_9, ↓btx_1351, tx_1351, ↓bts_1351, ts_1351, ↓btxl_1351, txl_1351, ↓btsl_1351, tsl_1351, ↓btg_57, tg_57, ↓btx_1389, tx_1389, ↓bts_1389, ts_1389, ↓btxl_1389, txl_1389, ↓btsl_1389, tsl_1389, ↓Option.bind_some, ↓b2_some, ↓bX_l, ↓bX_r, Option.bind_some, Option.bind_none, b2_some, bX_l, bX_r, nn_e, if_true, if_false, reduceCtorEq, ↓reduceIte, Nat.reduceEqDiff, Nat.reduceLT, Nat.reduceLeDiff, Nat.reduceSubDiff, Nat.reduceAdd, Nat.reduceMul, ↓b2_of t0]
    have N2 : TNOW (wI 1389 0 (nI (two t 0)) H) (onP f t 0 0) := (N1.up 0 (two t 0)).congr (fun k _ => by
      unfold onP
      by_cases z : k = 0
      · rw [if_pos z, if_pos z]
      · rw [if_neg z, if_neg z, if_neg (by omega)])
    rw [X7_on_43]
    refine ev_for (z_nb s) (fun b st => st.1 = nI b ∧ FT (fun a _ => a = 1389) H st.2 ∧ TNOW st.2 (onP f t b 0)) ?_ ?_ 0 _ (Nat.zero_le _) ⟨rfl, (FT.refl (fun a _ => a = 1389) H).wI rfl, N2⟩
    · rintro b ⟨x, H3⟩ hb ⟨hx, F3, N3⟩
      simp only at hx F3 N3
      subst hx
      have W3 := F3.tk W1
      have S3 : TSH H3 s := F3.tsh (fun a k z => by unfold Stn at z; omega) S1
      have t3 : ∀ q, q < n → hI H3 1350 q = nI (t q) ∧ t q < 256 := fun q hq => ⟨(F3.i (by omega)).trans (t1 q hq).1, (t1 q hq).2⟩
      have a1 := (t3 (2 + 14 * b) (by omega)).1
      have a2 := (t3 (3 + 14 * b) (by omega)).1
      have N4 : TNOW (wI 1389 (1 + 8 * b) (nI (t (2 + 14 * b))) H3) (onP f t b 1) := (N3.up (1 + 8 * b) (t (2 + 14 * b))).congr (fun k _ => by rw [onP_k (k := 0) (by decide) (t (2 + 14 * b)) rfl]; rfl)
      have a2' : hI (wI 1389 (1 + 8 * b) (nI (t (2 + 14 * b))) H3) 1350 (3 + 14 * b) = nI (t (3 + 14 * b)) := by rw [p_II, if_neg (by omega)]; exact a2
      have N5 := (N4.up (2 + 8 * b) (t (3 + 14 * b))).congr (g := onP f t b 2) (fun k _ => by rw [onP_k (k := 1) (by decide) (t (3 + 14 * b)) rfl, show 1 + 8 * b + 1 = 2 + 8 * b by omega])
      simp (disch := first | assumption | ((repeat (first | with_reducible refine TKI ?_ | with_reducible refine TKL ?_)); assumption) | omega) only [X7_on_43b, ↓btgI, ↓btpI, ↓btgL, ↓btpL, ↓btisO, tgI, tpI, tgL, tpL, tisO, ↓btg_0, tg_0, ↓btx_1350, tx_1350, ↓bts_1350, ts_1350, ↓btxl_1350, txl_1350, ↓btsl_1350, tsl_1350, ↓btg_9, tg_9, ↓btx_1351, tx_1351, ↓bts_1351, ts_1351, ↓btxl_1351, txl_1351, ↓btsl_1351, tsl_1351, ↓btg_57, tg_57, ↓btx_1389, tx_1389, ↓bts_1389, ts_1389, ↓btxl_1389, txl_1389, ↓btsl_1389, tsl_1389, ↓Option.bind_some, ↓b2_some, ↓bX_l, ↓bX_r, Option.bind_some, Option.bind_none, b2_some, bX_l, bX_r, nn_e, if_true, if_false, reduceCtorEq, ↓reduceIte, Nat.reduceEqDiff, Nat.reduceLT, Nat.reduceLeDiff, Nat.reduceSubDiff, Nat.reduceAdd, Nat.reduceMul, nA1, nA2, nM1, nM2, n_add, n_mul, n_sub, nS1, nS2, nL0, nL1, nL2, nE0, nE1, nE2, nE3, bI_0, bI_1, bI_m, rz_b, rz_0, rz_1, ↓b2_of (T_boardMany W3 S3), hb, a1, a2']
      rw [X7_on_97]
      refine ev_for 6 (fun k st => st.1 = nI k ∧ FT (fun a _ => a = 1389) H st.2 ∧ TNOW st.2 (onP f t b (k + 2))) ?_ ?_ 0 _ (by decide) ⟨rfl, (F3.wI rfl).wI rfl, N5⟩
      · rintro k ⟨x, H5⟩ hk ⟨hx, F5, N6⟩
        simp only at hx F5 N6
        subst hx
        have W5 := F5.tk W1
        have t5 : ∀ q, q < n → hI H5 1350 q = nI (t q) ∧ t q < 256 := fun q hq => ⟨(F5.i (by omega)).trans (t1 q hq).1, (t1 q hq).2⟩
        have tw := T_twoAt W5 t5 p2 (k := 4 + 14 * b + 2 * k) (by omega)
        simp (disch := first | assumption | ((repeat (first | with_reducible refine TKI ?_ | with_reducible refine TKL ?_)); assumption) | omega) only [X7_on_97b, ↓btgI, ↓btpI, ↓btgL, ↓btpL, ↓btisO, tgI, tpI, tgL, tpL, tisO, ↓btg_0, tg_0, ↓btx_1350, tx_1350, ↓bts_1350, ts_1350, ↓btxl_1350, txl_1350, ↓btsl_1350, tsl_1350, ↓btg_9, tg_9, ↓btx_1351, tx_1351, ↓bts_1351, ts_1351, ↓btxl_1351, txl_1351, ↓btsl_1351, tsl_1351, ↓btg_57, tg_57, ↓btx_1389, tx_1389, ↓bts_1389, ts_1389, ↓btxl_1389, txl_1389, ↓btsl_1389, tsl_1389, ↓Option.bind_some, ↓b2_some, ↓bX_l, ↓bX_r, Option.bind_some, Option.bind_none, b2_some, bX_l, bX_r, nn_e, if_true, if_false, reduceCtorEq, ↓reduceIte, Nat.reduceEqDiff, Nat.reduceLT, Nat.reduceLeDiff, Nat.reduceSubDiff, Nat.reduceAdd, Nat.reduceMul, nA1, nA2, nM1, nM2, n_add, n_mul, n_sub, nS1, nS2, nL0, nL1, nL2, nE0, nE1, nE2, nE3, bI_0, bI_1, bI_m, rz_b, rz_0, rz_1, hk, ↓b2_of tw, b2_of tw]
        rw [Ev_some]
        refine ⟨rfl, F5.wI rfl, (N6.up (3 + 8 * b + k) (two t (4 + 14 * b + 2 * k))).congr (fun i _ => ?_)⟩
        rw [show k + 1 + 2 = (k + 2) + 1 by omega, onP_k (k := k + 2) (by omega) (two t (4 + 14 * b + 2 * k)) (by rw [if_neg (by omega), if_neg (by omega), Nat.add_sub_cancel]), show 1 + 8 * b + (k + 2) = 3 + 8 * b + k by omega]
      · rintro ⟨x, H5⟩ ⟨hx, F5, N6⟩
        simp only at hx F5 N6
        subst hx
        simp (disch := first | assumption | ((repeat (first | with_reducible refine TKI ?_ | with_reducible refine TKL ?_)); assumption) | omega) only [X7_on_97b, ↓Option.bind_some, ↓b2_some, ↓bX_l, ↓bX_r, Option.bind_some, Option.bind_none, b2_some, bX_l, bX_r, nn_e, if_true, if_false, reduceCtorEq, ↓reduceIte, Nat.reduceEqDiff, Nat.reduceLT, Nat.reduceLeDiff, Nat.reduceSubDiff, Nat.reduceAdd, Nat.reduceMul, nA1, nA2, nM1, nM2, n_add, n_mul, n_sub, nS1, nS2, nL0, nL1, nL2, nE0, nE1, nE2, nE3, bI_0, bI_1, bI_m, rz_b, rz_0, rz_1, Nat.lt_irrefl]
        rw [Ev_some]
        exact ⟨rfl, F5, by rw [← onP_b]; exact N6⟩
    · rintro ⟨x, H3⟩ ⟨hx, F3, N3⟩
      simp only at hx F3 N3
      subst hx
      have W3 := F3.tk W1
      have S3 : TSH H3 s := F3.tsh (fun a k z => by unfold Stn at z; omega) S1
      simp (disch := first | assumption | ((repeat (first | with_reducible refine TKI ?_ | with_reducible refine TKL ?_)); assumption) | omega) only [X7_on_43b, X7_on_142, ↓btgI, ↓btpI, ↓btgL, ↓btpL, ↓btisO, tgI, tpI, tgL, tpL, tisO, ↓btg_0, tg_0, ↓btx_1350, tx_1350, ↓bts_1350, ts_1350, ↓btxl_1350, txl_1350, ↓btsl_1350, tsl_1350, ↓btg_9, tg_9, ↓btx_1351, tx_1351, ↓bts_1351, ts_1351, ↓btxl_1351, txl_1351, ↓btsl_1351, tsl_1351, ↓btg_57, tg_57, ↓btx_1389, tx_1389, ↓bts_1389, ts_1389, ↓btxl_1389, txl_1389, ↓btsl_1389, tsl_1389, ↓Option.bind_some, ↓b2_some, ↓bX_l, ↓bX_r, Option.bind_some, Option.bind_none, b2_some, bX_l, bX_r, nn_e, if_true, if_false, reduceCtorEq, ↓reduceIte, Nat.reduceEqDiff, Nat.reduceLT, Nat.reduceLeDiff, Nat.reduceSubDiff, Nat.reduceAdd, Nat.reduceMul, nA1, nA2, nM1, nM2, n_add, n_mul, n_sub, nS1, nS2, nL0, nL1, nL2, nE0, nE1, nE2, nE3, bI_0, bI_1, bI_m, rz_b, rz_0, rz_1, ↓b2_of (T_boardMany W3 S3), Nat.lt_irrefl]
      rw [Ev_some]
      refine ⟨fun _ => ⟨rfl, ((F1.trans (F3.mono (fun a k z => Or.inl z))).wI (Or.inl rfl)).wI (by omega), ?_, ?_, rfl⟩, fun q => (by cases q)⟩
      · refine TNOW.fr (h := wI 1389 33 (nI 0) H3) (fun _ => rfl) ((N3.up 33 0).congr (fun k _ => ?_))
        unfold onP onR
        by_cases z : k = 33
        · rw [if_pos z, if_neg (by omega), if_pos z]
        · rw [if_neg z]
          by_cases z0 : k = 0
          · rw [if_pos z0, if_pos z0]
          · rw [if_neg z0, if_neg z0, if_neg z]
            by_cases c : 1 ≤ k ∧ k < 1 + 8 * z_nb s
            · rw [if_pos (show 1 ≤ k ∧ ((k - 1) / 8 < z_nb s ∨ ((k - 1) / 8 = z_nb s ∧ (k - 1) % 8 < 0)) by omega), if_pos c]
            · rw [if_neg (show ¬ (1 ≤ k ∧ ((k - 1) / 8 < z_nb s ∨ ((k - 1) / 8 = z_nb s ∧ (k - 1) % 8 < 0))) by omega), if_neg c]
      · show hI (wI 1349 78 0 (wI 1389 33 0 H3)) 1349 1 = 0
        rw [p_II, if_neg (by omega), p_II, if_neg (by omega), F3.i (by omega)]
        exact e11
end Image
