set_option maxRecDepth 100000
/-! ===== the class: a year ===== -/
/-- a row in the midst of a year: rain has come so far -/
def cR (s : SH) (f : RW) (sd : Nat → Nat → Nat) (b k : Nat) : RW := fun i => if i < 33 then pr s f b k i else kps s sd (rnR s f) b i
def ASD (h : AH) (st : Nat) (s : SH) (f : RW) (sd : Nat → Nat → Nat) : Prop := ∀ b k, b < z_nb s → k < z_wl s (f (1 + 8 * b)) → hI h (st + 50 + b) k = nI (sd b k)
def PAH (st a _k : Nat) : Prop := a = 144 ∨ (st + 50 ≤ a ∧ a < st + 54)
def PPS (st a k : Nat) : Prop := a = 144 ∨ (a = st ∧ k ≤ 2) ∨ (st + 4 ≤ a ∧ a < st + 49)
theorem rnR_at {s : SH} {f : RW} {b k : Nat} (hb : b < z_nb s) (hk : k < z_wl s (f (1 + 8 * b))) (h6 : z_wl s (f (1 + 8 * b)) ≤ 6) : rnR s f (3 + 8 * b + k) = rn s (f (3 + 8 * b + k)) k (f 0) := by
  unfold rnR pr
  have e1 : (3 + 8 * b + k - 3) / 8 = b := by omega
  have e2 : (3 + 8 * b + k - 3) % 8 = k := by omega
  simp only [e1, e2]
  rw [if_pos ⟨by omega, Or.inl hb, hk, hb⟩]
theorem pr_up {s : SH} {f : RW} {b k : Nat} (hb : b < z_nb s) (hk : k < z_wl s (f (1 + 8 * b))) (h6 : z_wl s (f (1 + 8 * b)) ≤ 6) : pr s f (b + 1) 0 (3 + 8 * b + k) = rnR s f (3 + 8 * b + k) := by
  rw [rnR_at hb hk h6]
  unfold pr
  have e1 : (3 + 8 * b + k - 3) / 8 = b := by omega
  have e2 : (3 + 8 * b + k - 3) % 8 = k := by omega
  simp only [e1, e2]
  rw [if_pos ⟨by omega, Or.inl (by omega), hk, hb⟩]
theorem cR_lo {s : SH} {f : RW} {sd : Nat → Nat → Nat} {b k i : Nat} (h : i < 33) : cR s f sd b k i = pr s f b k i := by rw [cR, if_pos h]
theorem psh_hi {g g' : RW} {y b sl i : Nat} (e : ∀ i, 33 ≤ i → g i = g' i) (hi : 33 ≤ i) : psh g y b sl i = psh g' y b sl i := by
  have e33 := e 33 (Nat.le_refl _)
  unfold psh
  rw [e33]
  split
  · simp only
    rw [e (i + 3) (by omega), e i hi]
  · simp only
    rw [e i hi]
theorem sil_congr {s : SH} {g g' : RW} {b : Nat} : ∀ n, (∀ k, k < n → sdf s g b k = sdf s g' b k) → sil s g b n = sil s g' b n
  | 0, _ => rfl
  | n + 1, e => by
    have ih := sil_congr n (fun k hk => e k (by omega))
    show (if sdf s g b n = 0 then sil s g b n + 1 else sil s g b n) = (if sdf s g' b n = 0 then sil s g' b n + 1 else sil s g' b n)
    rw [ih, e n (by omega)]
theorem alln_congr {p q : Nat → Bool} : ∀ n, (∀ k, k < n → p k = q k) → alln p n = alln q n
  | 0, _ => rfl
  | n + 1, e => by rw [alln, alln, alln_congr n (fun k hk => e k (by omega)), e n (by omega)]
theorem cR_wf {s : SH} (F : WFS s) {f : RW} (G : WFN s f) (sd : Nat → Nat → Nat) (b k : Nat) : WFN s (cR s f sd b k) := by
  have q4 := F.2.2.2.2.1
  have h6 := WFN_6 F G
  refine WFN_up G ?_ (fun b' hb' => ⟨?_, ?_⟩) (fun b' k' hb' hk' => ?_) ?_
  · rw [cR_lo (by decide), pr_ng h6 q4 (by omega)]; exact G.1
  · rw [cR_lo (by omega), pr_ng h6 q4 (by omega)]
  · rw [cR_lo (by omega), pr_ng h6 q4 (by omega)]
  · rw [cR_lo (by omega)]; exact pr_gl ((G.2.1 b' hb').2.2.2 k' hk')
  · rw [cR, if_neg (by decide)]; exact (WFN_kps F (WFN_rn F G _ _) b).2.2
theorem cR_up {s : SH} (F : WFS s) {f : RW} (G : WFN s f) (sd : Nat → Nat → Nat) {b : Nat} (hb : b < z_nb s) :
    (if alln (fun k => sdf s (rnR s f) b k == sd b k) (z_wl s (f (1 + 8 * b))) = true then cR s f sd b (z_wl s (f (1 + 8 * b))) else psh (cR s f sd b (z_wl s (f (1 + 8 * b)))) (cR s f sd b (z_wl s (f (1 + 8 * b))) 0) b (sil s (cR s f sd b (z_wl s (f (1 + 8 * b)))) b (z_wl s (f (1 + 8 * b))))) = cR s f sd (b + 1) 0 := by
  have q4 := F.2.2.2.2.1
  have h6 := WFN_6 F G
  have k1 : ∀ i, i < 33 → kps s sd (rnR s f) b i = rnR s f i := fun i hi => kps_lo hi b
  have sd1 : ∀ k, k < z_wl s (f (1 + 8 * b)) → sdf s (kps s sd (rnR s f) b) b k = sdf s (rnR s f) b k := fun k hk => by
    have := h6 b hb
    unfold sdf
    rw [k1 _ (by omega), k1 _ (by omega)]
  have sd2 : ∀ k, k < z_wl s (f (1 + 8 * b)) → sdf s (cR s f sd b (z_wl s (f (1 + 8 * b)))) b k = sdf s (rnR s f) b k := fun k hk => by
    have := h6 b hb
    unfold sdf
    rw [cR_lo (by omega), cR_lo (by omega), pr_b, pr_up hb hk this, pr_ng h6 q4 (i := 2 + 8 * b) (by omega), rnR_ng F G (i := 2 + 8 * b) (by omega)]
  have w1 : kps s sd (rnR s f) b (1 + 8 * b) = f (1 + 8 * b) := by rw [k1 _ (by omega), rnR_ng F G (by omega)]
  have kp1 : kps s sd (rnR s f) (b + 1) = kp s sd (kps s sd (rnR s f) b) b := rfl
  have al : alln (fun k => sdf s (kps s sd (rnR s f) b) b k == sd b k) (z_wl s (f (1 + 8 * b))) = alln (fun k => sdf s (rnR s f) b k == sd b k) (z_wl s (f (1 + 8 * b))) := alln_congr _ (fun k hk => by rw [sd1 k hk])
  have si : sil s (kps s sd (rnR s f) b) b (z_wl s (f (1 + 8 * b))) = sil s (cR s f sd b (z_wl s (f (1 + 8 * b)))) b (z_wl s (f (1 + 8 * b))) := sil_congr _ (fun k hk => by rw [sd1 k hk, sd2 k hk])
  funext i
  rcases Nat.lt_or_ge i 33 with hi | hi
  · rw [cR_lo hi, ← pr_b]
    split
    · rw [cR_lo hi]
    · rw [psh_lo hi, cR_lo hi]
  · have ri : cR s f sd (b + 1) 0 i = kp s sd (kps s sd (rnR s f) b) b i := by rw [cR, if_neg (by omega), kp1]
    rw [ri, kp, w1, chg, al]
    cases ea : alln (fun k => sdf s (rnR s f) b k == sd b k) (z_wl s (f (1 + 8 * b))) with
    | true => rw [if_pos rfl, if_neg (by decide), cR, if_neg (by omega)]
    | false =>
      rw [if_neg (by decide), if_pos (by decide), si, show cR s f sd b (z_wl s (f (1 + 8 * b))) 0 = kps s sd (rnR s f) b 0 by rw [cR_lo (by decide), k1 0 (by decide), pr_ng h6 q4 (by omega), rnR_ng F G (by omega)]]
      exact psh_hi (fun j hj => by rw [cR, if_neg (by omega)]) hi
theorem cR_end {s : SH} {f : RW} {sd : Nat → Nat → Nat} : yr1 (cR s f sd (z_nb s) 0) = yg s sd f := by
  unfold yg yr1
  funext i
  have e : ∀ i, cR s f sd (z_nb s) 0 i = kps s sd (rnR s f) (z_nb s) i := fun i => by
    unfold cR
    split
    · rw [kps_lo (by assumption)]; rfl
    · rfl
  simp only [e]
theorem CST.gly {s : SH} {h : AH} {st : Nat} {r : RW} (C : CST s h st r) {b k v : Nat} (h4 : z_nb s ≤ 4) (h40 : r 33 ≤ 40) (hb : b < 4) (hk : k < 6) : CST s (wI (st + 4 + b) k (nI v) h) st (fun x => if x = 3 + 8 * b + k then v else r x) := by
  obtain ⟨S, p, P, ⟨v1, v2⟩, v3, v4⟩ := C
  have e33 : (if 33 = 3 + 8 * b + k then v else r 33) = r 33 := if_neg (by omega)
  refine ⟨S, p, P, ⟨?_, ?_⟩, fun b' hb' => ⟨?_, ?_, fun k' hk' => ?_⟩, fun i j hi hj => ?_⟩
  · show _ = nI (if 0 = 3 + 8 * b + k then v else r 0)
    rw [p_II, if_neg (by omega), if_neg (by omega)]; exact v1
  · simp only
    rw [p_II, if_neg (by omega), e33]; exact v2
  · simp only
    rw [p_II, if_neg (by omega), if_neg (by omega)]; exact (v3 b' hb').1
  · simp only
    rw [p_II, if_neg (by omega), if_neg (by omega)]; exact (v3 b' hb').2.1
  · simp only
    rw [p_II]
    by_cases e : b' = b ∧ k' = k
    · rw [if_pos (by omega), if_pos (by omega)]
    · rw [if_neg (by omega), if_neg (by omega)]; exact (v3 b' hb').2.2 k' hk'
  · have hi : i < (if 33 = 3 + 8 * b + k then v else r 33) := hi
    rw [e33] at hi
    have := (P.1 i (by omega)).1
    simp only
    rw [p_II, if_neg (by omega), if_neg (by omega)]
    exact v4 i j hi hj
