set_option maxRecDepth 100000
/-! ===== doubt; what a glyph reads as ===== -/
def env0 (m l i : Nat) : ENV := (fun k => if k = 0 then (m : Int) else if k = 1 then (l : Int) else if k = 2 then (i : Int) else 0, fun _ => 0, fun _ => 0)
def mor (s : SH) (hd k g : Nat) : Nat := pcN (an g (z_lg s hd k))
def les (s : SH) (hd k g : Nat) : Nat := pcN (an (z_lg s hd k) g)
def ink (s : SH) (hd k : Nat) : Nat := pcN (z_lg s hd k)
def dbt (s : SH) (hd k g : Nat) : Nat := match z_dc s with
  | none => mor s hd k g + 2 * les s hd k g
  | some L => (evl (env0 (mor s hd k g) (les s hd k g) (ink s hd k)) L).toNat
/-- one letter more looked at -/
def rd1 (s : SH) (hd g k : Nat) (p : Nat × Nat) : Nat × Nat := if dbt s hd k g < p.2 then (z_lw s hd k, dbt s hd k g) else p
/-- the letter that a glyph reads as, 0: none -/
def rd (s : SH) (hd g : Nat) : Nat := (itr (rd1 s hd g) (z_nl s hd) (0, z_fg s + 1)).1
theorem dbt_le {s : SH} (F : WFS s) (hd k g : Nat) : dbt s hd k g ≤ 1000000 := by
  have b1 := pcN_le (an g (z_lg s hd k))
  have b2 := pcN_le (an (z_lg s hd k) g)
  unfold dbt
  split
  · unfold mor les; omega
  · rename_i L hL
    obtain ⟨v, hv⟩ := (F.2.2.2.2.2.2.1 L hL).2 (env0 (mor s hd k g) (les s hd k g) (ink s hd k))
    have r := tel_rng hv
    rw [evl_tel hv]
    unfold rng at r
    omega
theorem rd_lt {s : SH} (F : WFS s) {hd : Nat} (h1 : hd < 2) (g : Nat) : ∀ n, n ≤ z_nl s hd → (itr (rd1 s hd g) n (0, z_fg s + 1)).1 ≤ 26
  | 0, _ => Nat.zero_le _
  | n + 1, hn => by
    have := F.2.1 hd n h1 hn
    have ih := rd_lt F h1 g n (by omega)
    rw [itr, rd1]
    split
    · exact this.2.1
    · exact ih
/-- where doubt writes -/
def PD2 (a k : Nat) : Prop := (a = 1349 ∧ (k = 56 ∨ k = 59 ∨ k = 60 ∨ k = 61 ∨ k = 112)) ∨ a = 1426
theorem PD2_stn : ∀ a k, Stn a k → ¬ PD2 a k := by intro a k h; unfold Stn at h; unfold PD2; omega
section Doubt
variable {h : AH} {s : SH}
theorem T_doubtOf (W : TKK (hK h) (hR h)) (F : WFS s) (S : TSH h s) {hd k : Nat} (h1 : hd < 2) (h2 : k < z_nl s hd) {g : Nat} (hg : g < 32768) : Ev (X7_doubtOf 1349 (nI hd) (nI k) (nI g) h) (fun z => z.1 = nI (dbt s hd k g) ∧ FT PD2 h z.2) := by
  have q := (F.2.1 hd k h1 h2).2.2
  have b1 : mor s hd k g ≤ 15 := pcN_le _
  have b2 : les s hd k g ≤ 15 := pcN_le _
  have b3 : ink s hd k ≤ 15 := pcN_le _
  have w0 : wide 0 := wide_lit 0 (by decide) (by decide)
  have S2 : TSH (wI 1349 61 (nI (ink s hd k)) (wI 1349 60 (nI (les s hd k g)) (wI 1349 59 (nI (mor s hd k g)) h))) s := S.fr (fun x y z => by
    unfold Stn at z
    rw [p_II, p_II, p_II, if_neg (by omega), if_neg (by omega), if_neg (by omega)])
  have W2 : TKK (hK (wI 1349 61 (nI (ink s hd k)) (wI 1349 60 (nI (les s hd k g)) (wI 1349 59 (nI (mor s hd k g)) h)))) (hR (wI 1349 61 (nI (ink s hd k)) (wI 1349 60 (nI (les s hd k g)) (wI 1349 59 (nI (mor s hd k g)) h)))) := W
  have F2 : FT PD2 h (wI 1349 61 (nI (ink s hd k)) (wI 1349 60 (nI (les s hd k g)) (wI 1349 59 (nI (mor s hd k g)) h))) := (((FT.refl PD2 h).wI (by unfold PD2; omega)).wI (by unfold PD2; omega)).wI (by unfold PD2; omega)
  have e59 : hI (wI 1349 61 (nI (ink s hd k)) (wI 1349 60 (nI (les s hd k g)) (wI 1349 59 (nI (mor s hd k g)) h))) 1349 59 = nI (mor s hd k g) := rfl
  have e60 : hI (wI 1349 61 (nI (ink s hd k)) (wI 1349 60 (nI (les s hd k g)) (wI 1349 59 (nI (mor s hd k g)) h))) 1349 60 = nI (les s hd k g) := rfl
  have e61 : hI (wI 1349 61 (nI (ink s hd k)) (wI 1349 60 (nI (les s hd k g)) (wI 1349 59 (nI (mor s hd k g)) h))) 1349 61 = nI (ink s hd k) := rfl
  have k1 : ∀ H : AH, X7_bits (nI g &&& (nI (z_lg s hd k) ^^^ (-1))) H = some (nI (mor s hd k g), H) := fun H => by rw [n_an, T_bits (an_lt hg)]; rfl
  have k2 : ∀ H : AH, X7_bits (nI (z_lg s hd k) &&& (nI g ^^^ (-1))) H = some (nI (les s hd k g), H) := fun H => by rw [n_an, T_bits (an_lt q)]; rfl
  have k3 : ∀ H : AH, X7_bits (nI (z_lg s hd k)) H = some (nI (ink s hd k), H) := fun H => T_bits q H
  have f1 : TKK (hK (wI 1349 59 (nI (mor s hd k g)) h)) (hR (wI 1349 59 (nI (mor s hd k g)) h)) := W
  have f2 : TKK (hK (wI 1349 60 (nI (les s hd k g)) (wI 1349 59 (nI (mor s hd k g)) h))) (hR (wI 1349 60 (nI (les s hd k g)) (wI 1349 59 (nI (mor s hd k g)) h))) := W
  simp (disch := first | assumption | ((repeat (first | with_reducible refine TKI ?_ | with_reducible refine TKL ?_)); assumption) | omega) only [X7_doubtOf, ↓btgI, ↓btpI, ↓btgL, ↓btpL, ↓btisO, tgI, tpI, tgL, tpL, tisO, ↓btg_51, tg_51, ↓btx_1386, tx_1386, ↓bts_1386, ts_1386, ↓btxl_1386, txl_1386, ↓btsl_1386, tsl_1386, ↓Option.bind_some, ↓b2_some, ↓bX_l, ↓bX_r, Option.bind_some, Option.bind_none, b2_some, bX_l, bX_r, nn_e, if_true, if_false, reduceCtorEq, ↓reduceIte, Nat.reduceEqDiff, Nat.reduceLT, Nat.reduceLeDiff, Nat.reduceSubDiff, Nat.reduceAdd, Nat.reduceMul, T_glyphOf W F S h1 h2, k1, k2, k3]
  generalize hH : (wI 1349 61 (nI (ink s hd k)) (wI 1349 60 (nI (les s hd k g)) (wI 1349 59 (nI (mor s hd k g)) h))) = H at *
  have dc := S2.2.2.2.2.2.2.2.1
  have fin : ∀ (v : Int) (H' : AH), wide v → v ≤ 1000000 → dbt s hd k g = v.toNat → FT PD2 h H' → Ev (X7_doubtOf_76 (iL v) H') (fun z => z.1 = nI (dbt s hd k g) ∧ FT PD2 h z.2) := by
    intro v H' hv hv2 hd3 hF
    rw [X7_doubtOf_76, lq0]
    simp only [lgc_lt hv w0]
    by_cases z : v < 0
    · rw [if_pos z, Ev_some, hd3, Int.toNat_of_nonpos (by omega)]
      exact ⟨rfl, hF⟩
    · rw [if_neg z, Ev_some, hd3, L2i (by unfold rng; omega)]
      refine ⟨?_, hF⟩
      rw [← Int32.toInt_inj, n_int (by omega), Int32.toInt_ofInt_of_le (by omega) (by omega)]
      omega
  cases hz : z_dc s with
  | none =>
    rw [hz] at dc
    simp only [TCD] at dc
    rw [dc, if_pos rfl]
    simp (disch := first | assumption | ((repeat (first | with_reducible refine TKI ?_ | with_reducible refine TKL ?_)); assumption) | omega) only [↓btgI, ↓btpI, ↓btgL, ↓btpL, ↓btisO, tgI, tpI, tgL, tpL, tisO, ↓btg_51, tg_51, ↓btx_1386, tx_1386, ↓bts_1386, ts_1386, ↓btxl_1386, txl_1386, ↓btsl_1386, tsl_1386, ↓Option.bind_some, ↓b2_some, ↓bX_l, ↓bX_r, Option.bind_some, Option.bind_none, b2_some, bX_l, bX_r, nn_e, if_true, if_false, reduceCtorEq, ↓reduceIte, Nat.reduceEqDiff, Nat.reduceLT, Nat.reduceLeDiff, Nat.reduceSubDiff, Nat.reduceAdd, Nat.reduceMul, e59, e60]
    rw [i2L, i2L, n_int (by omega), n_int (by omega), show (2 : Int64) = iL 2 by decide, iL_mul, iL_add]
    refine fin _ _ (by unfold wide; omega) (by omega) ?_ F2
    simp only [dbt, hz]
    omega
  | some L =>
    rw [hz] at dc
    have dc0 := dc
    obtain ⟨f, d1, d2, d3, d4⟩ := dc
    rw [d1, if_neg (by rw [nE2 (by omega)]; exact fun x => x)]
    obtain ⟨c1, c2⟩ := F.2.2.2.2.2.2.1 L hz
    obtain ⟨v, hv⟩ := c2 (env0 (mor s hd k g) (les s hd k g) (ink s hd k))
    have r := tel_rng hv
    have tell := T_codesTell (e := env0 (mor s hd k g) (les s hd k g) (ink s hd k)) W2 (w := 0) (by decide) dc0 (fun c hc => by have := c1 c hc; omega) (fun c hc q1 q2 => by
      have := c1 c hc
      rcases (by omega : c = 40 ∨ c = 41 ∨ c = 42) with rfl | rfl | rfl
      · refine ⟨?_, ?_⟩
        · show ((mor s hd k g : Nat) : Int) = (hI H 1349 59).toInt
          rw [e59, n_int (by omega)]
        · show rng ((mor s hd k g : Nat) : Int)
          unfold rng; omega
      · refine ⟨?_, ?_⟩
        · show ((les s hd k g : Nat) : Int) = (hI H 1349 60).toInt
          rw [e60, n_int (by omega)]
        · show rng ((les s hd k g : Nat) : Int)
          unfold rng; omega
      · refine ⟨?_, ?_⟩
        · show ((ink s hd k : Nat) : Int) = (hI H 1349 61).toInt
          rw [e61, n_int (by omega)]
        · show rng ((ink s hd k : Nat) : Int)
          unfold rng; omega) (hv [])
    rw [show X7_codesTell 1349 0 H = X7_codesTell 1349 (nI 0) H from rfl, Ev_b2]
    refine ev_mono tell ?_
    rintro ⟨x, H'⟩ ⟨rfl, F3⟩
    unfold rng at r
    refine fin v H' (by unfold wide; omega) (by omega) ?_ (F2.trans (F3.mono (fun a b z => by unfold PD0 at z; unfold PD2; omega)))
    simp only [dbt, hz, evl_tel hv]
theorem T_readAs (W : TKK (hK h) (hR h)) (F : WFS s) (S : TSH h s) {hd : Nat} (h1 : hd < 2) {g : Nat} (hg : g < 32768) : Ev (X7_readAs 1349 (nI hd) (nI g) h) (fun z => z.1 = nI (rd s hd g) ∧ FT PD2 h z.2) := by
  have qn := F.1 hd h1
  obtain ⟨f1, -, -⟩ := F.2.2.2.2.2.1
  rw [X7_readAs, X7_readAs_8]
  refine ev_for (z_nl s hd) (fun k st => st.2.2.1 = nI k ∧ FT PD2 h st.2.2.2 ∧ ((st.1 = -1 ∧ itr (rd1 s hd g) k (0, z_fg s + 1) = (0, z_fg s + 1)) ∨ ∃ j l, j < k ∧ l ≤ z_fg s ∧ st.1 = nI j ∧ st.2.1 = nI l ∧ itr (rd1 s hd g) k (0, z_fg s + 1) = (z_lw s hd j, l))) ?_ ?_ 0 _ (Nat.zero_le _) ⟨rfl, FT.refl _ _, Or.inl ⟨rfl, rfl⟩⟩
  · rintro k ⟨b, l0, x, H⟩ hk ⟨hx, F2, hb⟩
    simp only at hx F2 hb
    subst hx
    have W2 := F2.tk W
    have S2 := F2.tsh PD2_stn S
    have dl := dbt_le F hd k g
    simp (disch := first | assumption | ((repeat (first | with_reducible refine TKI ?_ | with_reducible refine TKL ?_)); assumption) | omega) only [X7_readAs_8b, ↓btgI, ↓btpI, ↓btgL, ↓btpL, ↓btisO, tgI, tpI, tgL, tpL, tisO, ↓btg_42, tg_42, ↓btx_1381, tx_1381, ↓bts_1381, ts_1381, ↓btxl_1381, txl_1381, ↓btsl_1381, tsl_1381, ↓btg_50, tg_50, ↓btx_1385, tx_1385, ↓bts_1385, ts_1385, ↓btxl_1385, txl_1385, ↓btsl_1385, tsl_1385, ↓Option.bind_some, ↓b2_some, ↓bX_l, ↓bX_r, Option.bind_some, Option.bind_none, b2_some, bX_l, bX_r, nn_e, if_true, if_false, reduceCtorEq, ↓reduceIte, Nat.reduceEqDiff, Nat.reduceLT, Nat.reduceLeDiff, Nat.reduceSubDiff, Nat.reduceAdd, Nat.reduceMul, nA1, nA2, nM1, nM2, n_add, n_mul, n_sub, nS1, nS2, nL0, nL1, nL2, nE0, nE1, nE2, nE3, bI_0, bI_1, bI_m, rz_b, rz_0, rz_1, S2.1 hd h1, hk, Ev_b2]
    refine ev_mono (T_doubtOf W2 F S2 h1 hk hg) ?_
    rintro ⟨y, H3⟩ ⟨hy, F3⟩
    simp only at hy F3
    subst hy
    have W3 := F3.tk W2
    have S3 := F3.tsh PD2_stn S2
    have x3 : hI H3 1385 3 = nI (z_fg s) := S3.2.2.2.2.2.2.1.1
    have F4 := F2.trans F3
    simp (disch := first | assumption | ((repeat (first | with_reducible refine TKI ?_ | with_reducible refine TKL ?_)); assumption) | omega) only [X7_readAs_57, ↓btgI, ↓btpI, ↓btgL, ↓btpL, ↓btisO, tgI, tpI, tgL, tpL, tisO, ↓btg_42, tg_42, ↓btx_1381, tx_1381, ↓bts_1381, ts_1381, ↓btxl_1381, txl_1381, ↓btsl_1381, tsl_1381, ↓btg_50, tg_50, ↓btx_1385, tx_1385, ↓bts_1385, ts_1385, ↓btxl_1385, txl_1385, ↓btsl_1385, tsl_1385, ↓Option.bind_some, ↓b2_some, ↓bX_l, ↓bX_r, Option.bind_some, Option.bind_none, b2_some, bX_l, bX_r, nn_e, if_true, if_false, reduceCtorEq, ↓reduceIte, Nat.reduceEqDiff, Nat.reduceLT, Nat.reduceLeDiff, Nat.reduceSubDiff, Nat.reduceAdd, Nat.reduceMul, nA1, nA2, nM1, nM2, n_add, n_mul, n_sub, nS1, nS2, nL0, nL1, nL2, nE0, nE1, nE2, nE3, bI_0, bI_1, bI_m, rz_b, rz_0, rz_1, x3]
    have keep : ¬ dbt s hd k g < (itr (rd1 s hd g) k (0, z_fg s + 1)).2 → itr (rd1 s hd g) (k + 1) (0, z_fg s + 1) = itr (rd1 s hd g) k (0, z_fg s + 1) := fun z => by rw [itr, rd1, if_neg z]
    have take : dbt s hd k g < (itr (rd1 s hd g) k (0, z_fg s + 1)).2 → itr (rd1 s hd g) (k + 1) (0, z_fg s + 1) = (z_lw s hd k, dbt s hd k g) := fun z => by rw [itr, rd1, if_pos z]
    rcases hb with ⟨hb, hi⟩ | ⟨j, l, hj, hl, hb, hb2, hi⟩
    · rw [hi] at keep take
      subst hb
      by_cases z : z_fg s < dbt s hd k g
      · rw [if_pos z, Ev_some]
        exact ⟨rfl, F4, Or.inl ⟨rfl, keep (by omega)⟩⟩
      · rw [if_neg z, if_pos rfl, Ev_some]
        exact ⟨rfl, F4, Or.inr ⟨k, dbt s hd k g, by omega, by omega, rfl, rfl, take (by omega)⟩⟩
    · rw [hi] at keep take
      subst hb hb2
      by_cases z : z_fg s < dbt s hd k g
      · rw [if_pos z, Ev_some]
        refine ⟨rfl, F4, Or.inr ⟨j, l, by omega, hl, rfl, rfl, keep (by simp only; omega)⟩⟩
      · rw [if_neg z, if_neg (by rw [nE2 (by omega)]; exact fun x => x)]
        simp (disch := first | assumption | ((repeat (first | with_reducible refine TKI ?_ | with_reducible refine TKL ?_)); assumption) | omega) only [nA1, nA2, nM1, nM2, n_add, n_mul, n_sub, nS1, nS2, nL0, nL1, nL2, nE0, nE1, nE2, nE3, bI_0, bI_1, bI_m, rz_b, rz_0, rz_1]
        by_cases y : dbt s hd k g < l
        · rw [if_pos y, Ev_some]
          exact ⟨rfl, F4, Or.inr ⟨k, dbt s hd k g, by omega, by omega, rfl, rfl, take (by simp only; omega)⟩⟩
        · rw [if_neg y, Ev_some]
          exact ⟨rfl, F4, Or.inr ⟨j, l, by omega, hl, rfl, rfl, keep (by simp only; omega)⟩⟩
  · rintro ⟨b, l0, x, H⟩ ⟨hx, F2, hb⟩
    simp only at hx F2 hb
    subst hx
    have W2 := F2.tk W
    have S2 := F2.tsh PD2_stn S
    simp (disch := first | assumption | ((repeat (first | with_reducible refine TKI ?_ | with_reducible refine TKL ?_)); assumption) | omega) only [X7_readAs_8b, X7_readAs_70, ↓btgI, ↓btpI, ↓btgL, ↓btpL, ↓btisO, tgI, tpI, tgL, tpL, tisO, ↓btg_42, tg_42, ↓btx_1381, tx_1381, ↓bts_1381, ts_1381, ↓btxl_1381, txl_1381, ↓btsl_1381, tsl_1381, ↓btg_50, tg_50, ↓btx_1385, tx_1385, ↓bts_1385, ts_1385, ↓btxl_1385, txl_1385, ↓btsl_1385, tsl_1385, ↓Option.bind_some, ↓b2_some, ↓bX_l, ↓bX_r, Option.bind_some, Option.bind_none, b2_some, bX_l, bX_r, nn_e, if_true, if_false, reduceCtorEq, ↓reduceIte, Nat.reduceEqDiff, Nat.reduceLT, Nat.reduceLeDiff, Nat.reduceSubDiff, Nat.reduceAdd, Nat.reduceMul, nA1, nA2, nM1, nM2, n_add, n_mul, n_sub, nS1, nS2, nL0, nL1, nL2, nE0, nE1, nE2, nE3, bI_0, bI_1, bI_m, rz_b, rz_0, rz_1, S2.1 hd h1, Nat.lt_irrefl]
    rcases hb with ⟨hb, hi⟩ | ⟨j, l, hj, hl, hb, hb2, hi⟩
    · subst hb
      rw [if_pos rfl, Option.bind_some, Ev_some]
      refine ⟨?_, F2⟩
      rw [rd, hi]
      rfl
    · subst hb
      rw [if_neg (by rw [nE2 (by omega)]; exact fun x => x), T_nameOf W2 F S2 h1 hj, b2_some, Option.bind_some, Ev_some]
      refine ⟨?_, F2⟩
      rw [rd, hi]
end Doubt
