set_option maxRecDepth 100000
/-! ===== the class: a state of the boards ===== -/
/-- what may change between two heaps, references too -/
def FC (P : Nat → Nat → Prop) (h h' : AH) : Prop := hK h' = hK h ∧ (hn h' = hn h ∧ hs h' = hs h) ∧ ∀ a k, ¬ P a k → hI h' a k = hI h a k ∧ hL h' a k = hL h a k ∧ hR h' a k = hR h a k
theorem FC.refl (P : Nat → Nat → Prop) (h : AH) : FC P h h := ⟨rfl, ⟨rfl, rfl⟩, fun _ _ _ => ⟨rfl, rfl, rfl⟩⟩
theorem FC.trans {P : Nat → Nat → Prop} {h h' h'' : AH} (a : FC P h h') (b : FC P h' h'') : FC P h h'' :=
  ⟨b.1.trans a.1, ⟨b.2.1.1.trans a.2.1.1, b.2.1.2.trans a.2.1.2⟩, fun x k q => ⟨(b.2.2 x k q).1.trans (a.2.2 x k q).1, (b.2.2 x k q).2.1.trans (a.2.2 x k q).2.1, (b.2.2 x k q).2.2.trans (a.2.2 x k q).2.2⟩⟩
theorem FC.mono {P Q : Nat → Nat → Prop} {h h' : AH} (a : FC P h h') (hq : ∀ x k, P x k → Q x k) : FC Q h h' := ⟨a.1, a.2.1, fun x k q => a.2.2 x k (fun z => q (hq x k z))⟩
theorem FC.i {P : Nat → Nat → Prop} {h h' : AH} (a : FC P h h') {x k : Nat} (q : ¬ P x k) : hI h' x k = hI h x k := (a.2.2 x k q).1
theorem FC.l {P : Nat → Nat → Prop} {h h' : AH} (a : FC P h h') {x k : Nat} (q : ¬ P x k) : hL h' x k = hL h x k := (a.2.2 x k q).2.1
theorem FC.r {P : Nat → Nat → Prop} {h h' : AH} (a : FC P h h') {x k : Nat} (q : ¬ P x k) : hR h' x k = hR h x k := (a.2.2 x k q).2.2
theorem FT.fc {P : Nat → Nat → Prop} {h h' : AH} (a : FT P h h') : FC P h h' := ⟨a.1, a.2.2.1, fun x k q => ⟨a.i q, a.l q, by rw [a.2.1]⟩⟩
theorem FC.wI {P : Nat → Nat → Prop} {h h' : AH} (a : FC P h h') {x k : Nat} {v : Int32} (q : P x k) : FC P h (wI x k v h') := a.trans ((FT.refl P h').wI q).fc
theorem FC.wL {P : Nat → Nat → Prop} {h h' : AH} (a : FC P h h') {x k : Nat} {v : Int64} (q : P x k) : FC P h (wL x k v h') := a.trans ((FT.refl P h').wL q).fc
theorem FC.wR {P : Nat → Nat → Prop} {h h' : AH} (a : FC P h h') {x k : Nat} {v : Option Nat} (q : P x k) : FC P h (wR x k v h') := by
  refine ⟨a.1, a.2.1, fun y j z => ⟨(a.2.2 y j z).1, (a.2.2 y j z).2.1, ?_⟩⟩
  rw [p_RR, if_neg (fun e => z (by rw [e.1, e.2]; exact q))]
  exact (a.2.2 y j z).2.2
theorem FC.ag {P : Nat → Nat → Prop} {h h' : AH} (F : FC P h h') {Q : Nat → Prop} (q : ∀ a k, Q a → ¬ P a k) : AgS Q h h' := fun a z => ⟨by rw [F.1], fun k => F.i (q a k z), fun k => F.l (q a k z), fun k => F.r (q a k z)⟩
/-- references that stay -/
def PRT (a k : Nat) : Prop := (a = 128 ∧ k ≠ 2 ∧ k ≠ 3 ∧ k ≠ 4 ∧ k ≠ 13 ∧ k ≠ 14 ∧ k ≠ 15) ∨ a = 141 ∨ a = 143 ∨ a = 145 ∨ (a = 256 ∧ 6 ≤ k) ∨ a = 257
/-- where the class may write -/
def McP (P : Nat → Nat → Prop) : Prop := ∀ a k, P a k → Mc a ∧ ¬ PRT a k
theorem ckR_prt : ∀ e ∈ ckR, PRT e.1 e.2.1 := by
  have : ∀ e ∈ ckR, ((e.1 = 128 ∧ e.2.1 ≠ 2 ∧ e.2.1 ≠ 3 ∧ e.2.1 ≠ 4 ∧ e.2.1 ≠ 13 ∧ e.2.1 ≠ 14 ∧ e.2.1 ≠ 15) ∨ e.1 = 141 ∨ e.1 = 143 ∨ e.1 = 145 ∨ (e.1 = 256 ∧ 6 ≤ e.2.1) ∨ e.1 = 257) := by decide
  exact this
theorem CB.fc {va : VaT} {th : ThT} {Q : Nat → Prop} {h h' : AH} {sp : Nat} {s : SH} {P : Nat → Nat → Prop} (hQ : ∀ a, Q a → Im a) (F : FC P h h') (hP : McP P) (B : CB va th Q h sp s) : CB va th Q h' sp s := by
  obtain ⟨K, h0, e, C⟩ := B
  refine ⟨⟨fun x q => by rw [F.1]; exact K.1 x q, fun x q => (F.r (fun z => (hP _ _ z).2 (ckR_prt x q))).trans (K.2 x q)⟩, (F.i (fun z => absurd (hP _ _ z).1 (by unfold Mc; omega))).trans h0, (F.r (fun z => (hP _ _ z).2 (by unfold PRT; omega))).trans e, C.ag (F.ag fun a k q z => Mc_Im (hP a k z).1 (hQ a q))⟩
/-- kinds and references of a state -/
def STK (h : AH) (st : Nat) : Prop := (NC ≤ st ∧ hK h st = (5, 0)) ∧ (hK h (st + 1) = (100, 4) ∧ hK h (st + 2) = (100, 4) ∧ hK h (st + 3) = (106, 4) ∧ hK h (st + 8) = (106, 40) ∧ hK h (st + 49) = (106, 4)) ∧
  (∀ i, i < 4 → hK h (st + 4 + i) = (100, 6) ∧ hK h (st + 50 + i) = (100, 6) ∧ hR h (st + 3) i = some (st + 4 + i) ∧ hR h (st + 49) i = some (st + 50 + i)) ∧ (∀ i, i < 40 → hK h (st + 9 + i) = (100, 3)) ∧
  (hR h st 4 = some (st + 1) ∧ hR h st 5 = some (st + 2) ∧ hR h st 6 = some (st + 3) ∧ hR h st 7 = some (st + 8) ∧ hR h st 8 = some (st + 49) ∧ hR h st 9 = some 128)
/-- its rows, in their order -/
def PRM (h : AH) (st : Nat) (p : Nat → Nat) : Prop := (∀ i, i < 40 → p i < 40 ∧ hR h (st + 8) i = some (st + 9 + p i)) ∧ ∀ i j, i < 40 → j < 40 → p i = p j → i = j
def CVL (s : SH) (h : AH) (st : Nat) (p : Nat → Nat) (f : RW) : Prop := (hI h st 0 = nI (f 0) ∧ hI h st 1 = nI (f 33)) ∧ (∀ b, b < z_nb s → hI h (st + 1) b = nI (f (1 + 8 * b)) ∧ hI h (st + 2) b = nI (f (2 + 8 * b)) ∧ ∀ k, k < 6 → hI h (st + 4 + b) k = nI (f (3 + 8 * b + k))) ∧
  ∀ i j, i < f 33 → j < 3 → hI h (st + 9 + p i) j = nI (f (34 + 3 * i + j))
def CST (s : SH) (h : AH) (st : Nat) (f : RW) : Prop := STK h st ∧ ∃ p, PRM h st p ∧ CVL s h st p f
/-- where a state is written -/
def PST (st a k : Nat) : Prop := (a = st ∧ k < 4) ∨ a = st + 1 ∨ a = st + 2 ∨ (st + 4 ≤ a ∧ a < st + 49) ∨ (st + 50 ≤ a ∧ a < st + 54)
theorem STK.fc {P : Nat → Nat → Prop} {h h' : AH} {st : Nat} (F : FC P h h') (hP : ∀ a k, (a = st ∧ 4 ≤ k) ∨ a = st + 3 ∨ a = st + 49 → ¬ P a k) (S : STK h st) : STK h' st := by
  obtain ⟨⟨a0, a1⟩, b1, b2, b3, c1, c2, c3, c4, c5, c6⟩ := S
  refine ⟨⟨a0, by rw [F.1]; exact a1⟩, by rw [F.1]; exact b1, fun i hi => ?_, by rw [F.1]; exact b3, ?_⟩
  · rw [F.1, F.r (hP _ _ (by omega)), F.r (hP _ _ (by omega))]
    exact b2 i hi
  · rw [F.r (hP _ _ (by omega)), F.r (hP _ _ (by omega)), F.r (hP _ _ (by omega)), F.r (hP _ _ (by omega)), F.r (hP _ _ (by omega)), F.r (hP _ _ (by omega))]
    exact ⟨c1, c2, c3, c4, c5, c6⟩
theorem CST.fc {P : Nat → Nat → Prop} {h h' : AH} {st : Nat} {s : SH} {f : RW} (F : FC P h h') (h4 : z_nb s ≤ 4) (h40 : f 33 ≤ 40) (hP : ∀ a k, (a = st ∧ (k ≤ 1 ∨ 4 ≤ k)) ∨ (st + 1 ≤ a ∧ a ≤ st + 49) → ¬ P a k) (S : CST s h st f) : CST s h' st f := by
  obtain ⟨K, p, ⟨p1, p2⟩, ⟨v1, v2⟩, v3, v4⟩ := S
  refine ⟨K.fc F (fun a k q => hP a k (by omega)), p, ⟨fun i hi => ⟨(p1 i hi).1, (F.r (hP _ _ (by omega))).trans (p1 i hi).2⟩, p2⟩, ⟨(F.i (hP _ _ (by omega))).trans v1, (F.i (hP _ _ (by omega))).trans v2⟩, fun b hb => ?_, fun i j hi hj => ?_⟩
  · obtain ⟨w1, w2, w3⟩ := v3 b hb
    exact ⟨(F.i (hP _ _ (by omega))).trans w1, (F.i (hP _ _ (by omega))).trans w2, fun k hk => (F.i (hP _ _ (by omega))).trans (w3 k hk)⟩
  · have := (p1 i (by omega)).1
    exact (F.i (hP _ _ (by omega))).trans (v4 i j hi hj)
section CState
variable {va : VaT} {th : ThT} {Q : Nat → Prop} {h : AH} {sp st : Nat} {s : SH} {f : RW}
theorem STK.o (S : STK h st) : isO 5 (some st) h = some st := isO_e S.1.2
theorem STK.gi (S : STK h st) (k : Nat) : gI 5 k (some st) h = some (hI h st k) := gI_e S.1.2
theorem STK.pi (S : STK h st) (k : Nat) (v : Int32) : pI 5 k (some st) v h = some (wI st k v h) := pI_e S.1.2 S.1.1
theorem STK.g4 (S : STK h st) : gR 5 4 (some st) h = some (some (st + 1)) := by rw [gR_e S.1.2, S.2.2.2.2.1]
theorem STK.g5 (S : STK h st) : gR 5 5 (some st) h = some (some (st + 2)) := by rw [gR_e S.1.2, S.2.2.2.2.2.1]
theorem STK.g6 (S : STK h st) : gR 5 6 (some st) h = some (some (st + 3)) := by rw [gR_e S.1.2, S.2.2.2.2.2.2.1]
theorem STK.g7 (S : STK h st) : gR 5 7 (some st) h = some (some (st + 8)) := by rw [gR_e S.1.2, S.2.2.2.2.2.2.2.1]
theorem STK.g8 (S : STK h st) : gR 5 8 (some st) h = some (some (st + 49)) := by rw [gR_e S.1.2, S.2.2.2.2.2.2.2.2.1]
theorem STK.g9 (S : STK h st) : gR 5 9 (some st) h = some (some 128) := by rw [gR_e S.1.2, S.2.2.2.2.2.2.2.2.2]
theorem STK.x1 (S : STK h st) {b : Nat} (hb : b < 4) : xI 100 (some (st + 1)) (nI b) h = some (hI h (st + 1) b) := xI_e S.2.1.1 hb (by decide)
theorem STK.x2 (S : STK h st) {b : Nat} (hb : b < 4) : xI 100 (some (st + 2)) (nI b) h = some (hI h (st + 2) b) := xI_e S.2.1.2.1 hb (by decide)
theorem STK.x3 (S : STK h st) {b : Nat} (hb : b < 4) : xR 106 (some (st + 3)) (nI b) h = some (some (st + 4 + b)) := by rw [xR_e S.2.1.2.2.1 hb (by decide), (S.2.2.1 b hb).2.2.1]
theorem STK.x49 (S : STK h st) {b : Nat} (hb : b < 4) : xR 106 (some (st + 49)) (nI b) h = some (some (st + 50 + b)) := by rw [xR_e S.2.1.2.2.2.2 hb (by decide), (S.2.2.1 b hb).2.2.2]
theorem STK.x4 (S : STK h st) {b k : Nat} (hb : b < 4) (hk : k < 6) : xI 100 (some (st + 4 + b)) (nI k) h = some (hI h (st + 4 + b) k) := xI_e (S.2.2.1 b hb).1 hk (by decide)
theorem STK.x50 (S : STK h st) {b k : Nat} (hb : b < 4) (hk : k < 6) : xI 100 (some (st + 50 + b)) (nI k) h = some (hI h (st + 50 + b) k) := xI_e (S.2.2.1 b hb).2.1 hk (by decide)
theorem STK.s1 (S : STK h st) {b : Nat} {v : Int32} (hb : b < 4) : sI 100 (some (st + 1)) (nI b) v h = some (wI (st + 1) b v h) := sI_e S.2.1.1 (by have := S.1.1; omega) hb (by decide)
theorem STK.s2 (S : STK h st) {b : Nat} {v : Int32} (hb : b < 4) : sI 100 (some (st + 2)) (nI b) v h = some (wI (st + 2) b v h) := sI_e S.2.1.2.1 (by have := S.1.1; omega) hb (by decide)
theorem STK.s4 (S : STK h st) {b k : Nat} {v : Int32} (hb : b < 4) (hk : k < 6) : sI 100 (some (st + 4 + b)) (nI k) v h = some (wI (st + 4 + b) k v h) := sI_e (S.2.2.1 b hb).1 (by have := S.1.1; omega) hk (by decide)
theorem STK.s50 (S : STK h st) {b k : Nat} {v : Int32} (hb : b < 4) (hk : k < 6) : sI 100 (some (st + 50 + b)) (nI k) v h = some (wI (st + 50 + b) k v h) := sI_e (S.2.2.1 b hb).2.1 (by have := S.1.1; omega) hk (by decide)
theorem STK.x9 (S : STK h st) {i j : Nat} (hi : i < 40) (hj : j < 3) : xI 100 (some (st + 9 + i)) (nI j) h = some (hI h (st + 9 + i) j) := xI_e (S.2.2.2.1 i hi) hj (by decide)
theorem STK.s9 (S : STK h st) {i j : Nat} {v : Int32} (hi : i < 40) (hj : j < 3) : sI 100 (some (st + 9 + i)) (nI j) v h = some (wI (st + 9 + i) j v h) := sI_e (S.2.2.2.1 i hi) (by have := S.1.1; omega) hj (by decide)
theorem STK.x8 (S : STK h st) {p : Nat → Nat} (P : PRM h st p) {i : Nat} (hi : i < 40) : xR 106 (some (st + 8)) (nI i) h = some (some (st + 9 + p i)) := by rw [xR_e S.2.1.2.2.2.1 hi (by decide), (P.1 i hi).2]
theorem STK.w (S : STK h st) {a k : Nat} {v : Int32} : STK (wI a k v h) st := S
theorem C_places (F : WFS s) (B : CB va th Q h sp s) (S : STK h st) {b w : Nat} (hb : b < 4) (hw : w < z_nw s) (e : hI h (st + 1) b = nI w) : X5_places st (nI b) h = some (nI (z_wl s w), h) := by
  obtain ⟨L, o, l1, l2, l3, l4, l5, l6⟩ := C_wordAt B hw
  rw [X5_places, S.g9, Option.bind_some, C_g0 B, Option.bind_some, l1, Option.bind_some, S.g4, Option.bind_some, S.x1 hb, Option.bind_some, e, l2, Option.bind_some, b2_of l3, l4, Option.bind_some, isO_e l5, Option.bind_some, b2_of (l6.sz B.2.1)]
theorem C_ssays (F : WFS s) (hQ : ∀ a, Q a → Im a) (B : CB va th Q h sp s) (S : STK h st) {b w hd how k g : Nat} (hb : b < 4) (hw : w < z_nw s) (hh : hd < 2) (ho : how < 4) (hk : k < z_wl s w) (e1 : hI h (st + 1) b = nI w) (e2 : hI h (st + 2) b = nI hd) (e3 : hI h (st + 4 + b) (plH how (z_wl s w) k) = nI g) (hg : g < 32768) : Ev (X5_says va st (nI b) (nI how) (nI k) h) (fun z => z.1 = nI (rd s hd (tN how g)) ∧ FT PC1 h z.2) := by
  obtain ⟨w1, w2, w3, -⟩ := F.2.2.2.1 w hw
  have key : ∀ p, p = plH how (z_wl s w) k → Ev (X5_says_35 va (nI how) (some 128) (nI hd) (some (st + 4 + b)) (nI p) h) (fun z => z.1 = nI (rd s hd (tN how g)) ∧ FT PC1 h z.2) := by
    rintro p rfl
    have hp : plH how (z_wl s w) k < 6 := by unfold plH; split <;> omega
    rw [X5_says_35, S.x4 hb hp, Option.bind_some, e3, b2_of (C_turnedN ho g), co_128 B.1, Option.bind_some, Ev_b2]
    refine ev_mono (C_readAs F hQ B hh (tN_n how g).2) ?_
    rintro ⟨y, H⟩ ⟨hy, F2⟩
    simp only at hy F2
    subst hy
    rw [Ev_some]
    exact ⟨rfl, F2⟩
  rw [X5_says, S.g9, Option.bind_some, S.g5, Option.bind_some, S.x2 hb, Option.bind_some, S.g6, Option.bind_some, S.x3 hb, Option.bind_some, e2, nz_e (by decide), Option.bind_some]
  by_cases qo : how = 1 ∨ how = 3
  · rw [if_neg (fun z => (jrem2 ho).mp z qo), S.o, Option.bind_some, b2_of (C_places F B S hb hw e1), nS1 (show 1 ≤ z_wl s w by omega), n_sub (show k ≤ z_wl s w - 1 by omega)]
    exact key _ (by unfold plH; rw [if_pos qo])
  · rw [if_pos ((jrem2 ho).mpr qo)]
    exact key _ (by unfold plH; rw [if_neg qo])
theorem X0_has_e {g bit : Nat} (hg : g < 32768) (hb : bit < 15) (H : AH) : X0_has (nI g) (nI bit) H = some (nI (bN g bit), H) := by
  rw [X0_has, jbit hg hb]
  rcases bN_01 g bit with e | e <;> rw [e] <;> rfl
theorem C_near {g bit : Nat} (hg : g < 32768) (hb : bit < 15) : X5_near st (nI g) (nI bit) h = some (nI (nr g bit), h) := by
  obtain ⟨d1, d2⟩ := n_div3 hb
  have nz3 : nz 3 = some () := nz_e (by decide)
  have k1 := fun q : bit / 3 < 4 => X0_has_e hg (show bit + 3 < 15 by omega) h
  have k2 := X0_has_e hg (show bit - 3 < 15 by omega) h
  have k3 := X0_has_e hg (show bit - 1 < 15 by omega) h
  have k4 := fun q : bit % 3 < 2 => X0_has_e hg (show bit + 1 < 15 by omega) h
  have z0 : (0 : Int32) = nI 0 := rfl
  have z1 : (1 : Int32) = nI 1 := rfl
  have c1 : bit / 3 < 4 → bit + 3 < 15 := by omega
  have c2 : 0 < bit / 3 → 3 ≤ bit := by omega
  have c3 : 0 < bit % 3 → 1 ≤ bit := by omega
  rcases bN_01 g (bit - 3) with a1 | a1 <;> rcases bN_01 g (bit + 3) with a2 | a2 <;> rcases bN_01 g (bit - 1) with a3 | a3 <;> rcases bN_01 g (bit + 1) with a4 | a4 <;>
  rw [a1] at k2 <;> rw [a2] at k1 <;> rw [a3] at k3 <;> rw [a4] at k4 <;>
  by_cases q1 : 0 < bit / 3 <;> by_cases q2 : bit / 3 < 4 <;> by_cases q3 : 0 < bit % 3 <;> by_cases q4 : bit % 3 < 2 <;>
  first | (exfalso; omega) | (simp (disch := first | assumption | ((repeat (first | with_reducible refine TKI ?_ | with_reducible refine TKL ?_ | with_reducible refine CKI ?_ | with_reducible refine CKL ?_)); assumption) | omega) only [X5_near, X5_near_32, X5_near_33, X5_near_57, X5_near_58, X5_near_82, X5_near_83, nr, nz3, d1, d2, nA1, nA2, nM1, nM2, n_add, n_mul, n_sub, nS1, nS2, nL0, nL1, nL2, nE0, nE1, nE2, nE3, bI_0, bI_1, bI_m, rz_b, rz_0, rz_1, ↓Option.bind_some, ↓b2_some, ↓bX_l, ↓bX_r, Option.bind_some, Option.bind_none, b2_some, bX_l, bX_r, nn_e, if_true, if_false, reduceCtorEq, ↓reduceIte, Nat.reduceEqDiff, Nat.reduceLT, Nat.reduceLeDiff, Nat.reduceSubDiff, Nat.reduceAdd, Nat.reduceMul, q1, q2, q3, q4, k1, k2, k3, k4, a1, a2, a3, a4, Nat.zero_add, Nat.add_zero]; try rfl)
end CState
