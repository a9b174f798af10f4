set_option maxRecDepth 100000
/-! ===== the class: what there is, doubt, what a glyph reads as ===== -/
/-- where shops lie -/
def Im (a : Nat) : Prop := a < 128 ∨ (129 ≤ a ∧ a ≤ 139) ∨ 1428 ≤ a
/-- where the class works -/
def Mc (a : Nat) : Prop := a = 128 ∨ (140 ≤ a ∧ a < 1349)
theorem Mc_Im {a : Nat} (h : Mc a) : ¬ Im a := by unfold Mc at h; unfold Im; omega
theorem CB.ft {va : VaT} {th : ThT} {Q : Nat → Prop} {h h' : AH} {sp : Nat} {s : SH} {P : Nat → Nat → Prop} (hQ : ∀ a, Q a → Im a) (F : FT P h h') (hP : ∀ a k, P a k → Mc a) (B : CB va th Q h sp s) : CB va th Q h' sp s := by
  obtain ⟨K, h0, e, C⟩ := B
  refine ⟨by rw [F.1, F.2.1]; exact K, (F.i (fun z => absurd (hP _ _ z) (by unfold Mc; omega))).trans h0, by rw [F.2.1]; exact e, C.ag (F.ag fun a k q z => Mc_Im (hP a k z) (hQ a q))⟩
def PC1 (a _k : Nat) : Prop := a = 144
theorem PC1_Mc : ∀ a k, PC1 a k → Mc a := by intro a k h; unfold PC1 at h; unfold Mc; omega
section CDoubt
variable {va : VaT} {th : ThT} {Q : Nat → Prop} {h : AH} {sp : Nat} {s : SH}
theorem C_isHand (x : Int32) (h : AH) : X0_isHand x h = some (bI (inR x 2), h) := by
  rw [X0_isHand, C_is, b2_some, show (1 : Int32) = Int32.ofNat 1 from rfl, b_inC (by decide), rz_b, b2_some]
theorem inR_neg {x : Int32} {m : Nat} (h : x < 0) : inR x m = false := by
  have : x.toInt < 0 := by simpa [Int32.lt_iff_toInt_lt] using h
  simp only [inR, decide_eq_false_iff_not]
  omega
theorem inR_nn {x : Int32} {m : Nat} (hm : m < 2147483648) (h : ¬ x < 0) : (x < nI m ↔ inR x m = true) := by
  have : ¬ x.toInt < 0 := by simpa [Int32.lt_iff_toInt_lt] using h
  simp only [inR, decide_eq_true_eq, Int32.lt_iff_toInt_lt, n_int hm]
  omega
theorem C_isWord (F : WFS s) (B : CB va th Q h sp s) (x : Int32) : X0_isWord 128 x h = some (bI (inR x (z_nw s)), h) := by
  have q := F.2.2.1
  rw [X0_isWord]
  by_cases z : x < 0
  · rw [if_pos z, inR_neg z]; rfl
  · rw [if_neg z, co_128 B.1, Option.bind_some, b2_of (C_words B)]
    cases e : inR x (z_nw s) with
    | true => rw [if_pos ((inR_nn (by omega) z).mpr e)]; rfl
    | false => rw [if_neg (fun y => by rw [(inR_nn (by omega) z).mp y] at e; cases e)]; rfl
theorem C_isBoard (F : WFS s) (B : CB va th Q h sp s) (x : Int32) : X0_isBoard 128 x h = some (bI (inR x (z_nb s)), h) := by
  have q := F.2.2.2.2.1
  rw [X0_isBoard]
  by_cases z : x < 0
  · rw [if_pos z, inR_neg z]; rfl
  · rw [if_neg z, co_128 B.1, Option.bind_some, b2_of (C_boards B)]
    cases e : inR x (z_nb s) with
    | true => rw [if_pos ((inR_nn (by omega) z).mpr e)]; rfl
    | false => rw [if_neg (fun y => by rw [(inR_nn (by omega) z).mp y] at e; cases e)]; rfl
theorem C_isLetterOf (F : WFS s) (B : CB va th Q h sp s) (x y : Int32) : X0_isLetterOf 128 x y h = some (bI (inR x 2 && inR y (z_nl s (nt x))), h) := by
  rw [X0_isLetterOf, b2_of (C_isHand x h)]
  cases e : inR x 2 with
  | false => simp [bI]
  | true =>
    obtain ⟨hd, h1, rfl⟩ := inR_ex (by decide) e
    have q := F.1 hd h1
    rw [if_neg (by decide), nt_n (by omega), Bool.true_and]
    by_cases z : y < 0
    · rw [if_pos z, inR_neg z]; rfl
    · rw [if_neg z, co_128 B.1, Option.bind_some, b2_of (C_letters B h1)]
      cases e : inR y (z_nl s hd) with
      | true => rw [if_pos ((inR_nn (by omega) z).mpr e)]; rfl
      | false => rw [if_neg (fun w => by rw [(inR_nn (by omega) z).mp w] at e; cases e)]; rfl
theorem C_wordAt (B : CB va th Q h sp s) {w : Nat} (hw : w < z_nw s) : ∃ L o, gR 1 5 (some sp) h = some (some L) ∧ isO 23 (some L) h = some L ∧ J2_get L (nI w) h = some (some o, h) ∧ cst [9] (some o) h = some () ∧ hK h o = (9, 0) ∧ CW1 Q h o (z_wl s w) (z_wc s w) := by
  obtain ⟨K, h0, e, C⟩ := B
  obtain ⟨⟨a1, -⟩, -, -, ⟨M, d1, d2⟩, -⟩ := C
  have Mk : hK h M = (23, 0) := by obtain ⟨_, x, _⟩ := d2; exact x.k
  obtain ⟨o, o1, o2, o3⟩ := d2.w hw
  exact ⟨M, o, by rw [gR_e a1, d1], isO_e Mk, o1, cst_e o2 (by decide) (by decide), o2, o3⟩
theorem C_g0 (B : CB va th Q h sp s) : gR 0 0 (some 128) h = some (some sp) := by rw [gR_e (ck_128 B.1), B.2.2.1]
theorem C_sp (B : CB va th Q h sp s) : isO 1 (some sp) h = some sp := isO_e B.2.2.2.1.1
theorem C_canPaint (F : WFS s) (B : CB va th Q h sp s) (x y : Int32) : X0_canPaint 128 x y h = some (bI (inR x (z_nw s) && (inR y 2 && cp s (nt x) (nt y))), h) := by
  have q := F.2.2.1
  rw [X0_canPaint, co_128 B.1, Option.bind_some, b2_of (C_isWord F B x)]
  cases e : inR x (z_nw s) with
  | false => simp [bI]
  | true =>
    obtain ⟨w, h1, rfl⟩ := inR_ex (by omega) e
    rw [if_neg (by decide), b2_of (C_isHand y h)]
    cases e2 : inR y 2 with
    | false => simp [bI]
    | true =>
      obtain ⟨hd, h2, rfl⟩ := inR_ex (by decide) e2
      obtain ⟨L, o, l1, l2, l3, l4, l5, l6⟩ := C_wordAt B h1
      rw [if_neg (by decide), nt_n (by omega), nt_n (by omega), C_g0 B, Option.bind_some, Option.bind_some, l1, Option.bind_some, l2, Option.bind_some, b2_of l3, l4, Option.bind_some, C_sp B, Option.bind_some, b2_of (C_isIn F B.2.2.2 B.2.1 h2 h1 l5 l6)]
      cases cp s w hd <;> rfl
theorem C_ink {o g : Nat} (ok : hK h o = (8, 0)) (og : hI h o 1 = nI g) (hg : g < 32768) : X8_ink o h = some (nI (pcN g), h) := by
  rw [X8_ink, gI_e ok, Option.bind_some, og, b2_of (C_bits hg h)]
theorem C_letter (F : WFS s) (B : CB va th Q h sp s) (x y w : Int32) : X0_letter 128 x y w h = some (q_letter s x y w, h) := by
  rw [X0_letter, co_128 B.1, Option.bind_some, b2_of (C_isLetterOf F B x y), q_letter]
  cases e : (inR x 2 && inR y (z_nl s (nt x))) with
  | false => simp [bI]
  | true =>
    rw [Bool.and_eq_true] at e
    obtain ⟨hd, h1, rfl⟩ := inR_ex (by decide) e.1
    have q := F.1 hd h1
    have e2 := e.2
    rw [nt_n (by omega)] at e2
    obtain ⟨k, h2, rfl⟩ := inR_ex (by omega) e2
    have b := (F.2.1 hd k h1 h2).2.2
    obtain ⟨o, o1, o2, o3, o4, o5⟩ := C_letterOf B h1 h2
    rw [nt_n (by omega), nt_n (by omega), if_neg (by decide), if_pos rfl, co_128 B.1, Option.bind_some, b2_of o1, gI_e o2, gI_e o2, isO_e o2, o4, o5]
    simp only [Option.bind_some, b2_of (C_ink o2 o5 b)]
    repeat' split
    all_goals rfl
theorem C_word (F : WFS s) (B : CB va th Q h sp s) (x y : Int32) : X0_word 128 x y h = some (q_word s x y, h) := by
  have q := F.2.2.1
  rw [X0_word, co_128 B.1, Option.bind_some, b2_of (C_isWord F B x), q_word]
  cases e : inR x (z_nw s) with
  | false => simp [bI]
  | true =>
    obtain ⟨w, h1, rfl⟩ := inR_ex (by omega) e
    obtain ⟨q1, q2, q3, -⟩ := F.2.2.2.1 w h1
    rw [if_neg (by decide), if_pos rfl, C_is, b2_some, show (5 : Int32) = Int32.ofNat 5 from rfl, b_inC (by decide)]
    cases e2 : inR y (5 + 1) with
    | false => simp [bI]
    | true =>
      obtain ⟨k, h2, rfl⟩ := inR_ex (by decide) e2
      obtain ⟨L, o, l1, l2, l3, l4, l5, l6⟩ := C_wordAt B h1
      rw [if_neg (by decide), if_pos rfl, nt_n (by omega), nt_n (by omega), C_g0 B, Option.bind_some, l1, Option.bind_some, l2, Option.bind_some, b2_of l3, l4, Option.bind_some, isO_e l5, Option.bind_some, b2_of (l6.at B.2.1 (k := k) (by omega) (fun j hj => (q3 j hj).1))]
theorem C_isSeen (x y : Int32) (h : AH) : X0_isSeen x y h = some (bI (inR x 32768 && inR y 4), h) := by
  rw [X0_isSeen, C_is, b2_some, show (32767 : Int32) = Int32.ofNat 32767 from rfl, b_inC (by decide), C_is, show (3 : Int32) = Int32.ofNat 3 from rfl, b_inC (by decide)]
  cases inR x (32767 + 1) with
  | false => simp [bI]
  | true =>
    rw [if_neg (by decide), b2_some]
    cases inR y (3 + 1) <;> simp [bI]
theorem C_seen (x y : Int32) (h : AH) : X0_seen 128 x y h = some (q_seen x y, h) := by
  rw [X0_seen, b2_of (C_isSeen x y h), q_seen]
  cases e1 : inR x 32768 with
  | false => simp [bI]
  | true =>
    cases e2 : inR y 4 with
    | false => simp [bI]
    | true =>
      obtain ⟨g, h1, rfl⟩ := inR_ex (by decide) e1
      obtain ⟨w, h2, rfl⟩ := inR_ex (by decide) e2
      rw [if_neg (by decide), if_pos rfl, if_pos rfl, b2_of (C_turnedN h2 g), nt_n (by omega), nt_n (by omega)]
theorem C_doubtOf (F : WFS s) (hQ : ∀ a, Q a → Im a) (B : CB va th Q h sp s) {hd k : Nat} (h1 : hd < 2) (h2 : k < z_nl s hd) {g : Nat} (hg : g < 32768) {o : Nat} (ok : hK h o = (8, 0)) (og : hI h o 1 = nI (z_lg s hd k)) : Ev (X0_doubtOf va 128 (some o) (nI g) h) (fun z => z.1 = iL (dbt s hd k g : Nat) ∧ FT PC1 h z.2) := by
  have q := (F.2.1 hd k h1 h2).2.2
  have b1 : mor s hd k g ≤ 15 := pcN_le _
  have b2' : les s hd k g ≤ 15 := pcN_le _
  have b3 : ink s hd k ≤ 15 := pcN_le _
  have K := B.1
  have k1 : J16_bitCount (nI g &&& (nI (z_lg s hd k) ^^^ (-1))) h = some (nI (mor s hd k g), h) := by rw [n_an, C_bits (an_lt hg)]; rfl
  have k2 : J16_bitCount (nI (z_lg s hd k) &&& (nI g ^^^ (-1))) h = some (nI (les s hd k g), h) := by rw [n_an, C_bits (an_lt q)]; rfl
  have g7 : gR 1 7 (some sp) h = some (hR h sp 7) := gR_e B.2.2.2.1.1
  rw [X0_doubtOf, gI_e ok, Option.bind_some, og, b2_of k1, gI_e ok, Option.bind_some, og, b2_of k2, C_g0 B, Option.bind_some, g7, Option.bind_some]
  have dc := B.2.2.2.2.2.2.2.2.1
  cases hz : z_dc s with
  | none =>
    rw [hz] at dc
    have dc : hR h sp 7 = none := dc
    rw [dc, if_pos rfl, Ev_some, i2L, i2L, n_int (by omega), n_int (by omega), show (2 : Int64) = iL 2 by decide, iL_mul, iL_add]
    refine ⟨?_, FT.refl _ _⟩
    simp only [dbt, hz]
    congr 1
  | some L =>
    rw [hz] at dc
    obtain ⟨d, d1, d2⟩ := dc
    rw [d1, if_neg (fun z => by cases z)]
    have i1 : ∀ H : AH, hK H o = (8, 0) → hI H o 1 = nI (z_lg s hd k) → X8_ink o H = some (nI (ink s hd k), H) := fun H y z => C_ink y z q
    have F2 : FT PC1 h (wL 144 2 (iL (ink s hd k : Nat)) (wL 144 1 (iL (les s hd k g : Nat)) (wL 144 0 (iL (mor s hd k g : Nat)) h))) := (((FT.refl PC1 h).wL (by unfold PC1; omega)).wL (by unfold PC1; omega)).wL (by unfold PC1; omega)
    have e1 : Int32.toInt64 (nI (mor s hd k g)) = iL (mor s hd k g : Nat) := by rw [i2L, n_int (by omega)]
    have e2 : Int32.toInt64 (nI (les s hd k g)) = iL (les s hd k g : Nat) := by rw [i2L, n_int (by omega)]
    have e3 : Int32.toInt64 (nI (ink s hd k)) = iL (ink s hd k : Nat) := by rw [i2L, n_int (by omega)]
    have i2 := i1 (wL 144 1 (iL (les s hd k g : Nat)) (wL 144 0 (iL (mor s hd k g : Nat)) h)) ok og
    have o2 : isO 8 (some o) (wL 144 1 (iL (les s hd k g : Nat)) (wL 144 0 (iL (mor s hd k g : Nat)) h)) = some o := isO_e ok
    have B2 : CB va th Q _ sp s := B.ft hQ F2 PC1_Mc
    have g7' : gR 1 7 (some sp) (wL 144 2 (iL (ink s hd k : Nat)) (wL 144 1 (iL (les s hd k g : Nat)) (wL 144 0 (iL (mor s hd k g : Nat)) h))) = some (some d) := by rw [gR_e B2.2.2.2.1.1]; exact congrArg some d1
    have m1 : MOM (wL 144 2 (iL (ink s hd k : Nat)) (wL 144 1 (iL (les s hd k g : Nat)) (wL 144 0 (iL (mor s hd k g : Nat)) h))) (env0 (mor s hd k g) (les s hd k g) (ink s hd k)) 0 3 := by
      refine ⟨ck_143 (h := h) K, K.2 (143, 0, 144) (by decide), ck_144 (h := h) K, fun j _ hj => ?_⟩
      rcases (by omega : j = 0 ∨ j = 1 ∨ j = 2) with rfl | rfl | rfl
      · exact ⟨rfl, by show rng ((mor s hd k g : Nat) : Int); unfold rng; omega⟩
      · exact ⟨rfl, by show rng ((les s hd k g : Nat) : Int); unfold rng; omega⟩
      · exact ⟨rfl, by show rng ((ink s hd k : Nat) : Int); unfold rng; omega⟩
    have vv := d2 _ _ (F2.ag fun a k q z => Mc_Im (PC1_Mc a k z) (hQ a q)) m1
    simp (disch := first | assumption | ((repeat (first | with_reducible refine TKI ?_ | with_reducible refine TKL ?_ | with_reducible refine CKI ?_ | with_reducible refine CKL ?_)); assumption) | omega) only [↓bci_128, ci_128, ↓bcp_128, cp_128, ↓bco_128, co_128, ↓bcx_140, cx_140, ↓bcs_140, cs_140, ↓bcxl_140, cxl_140, ↓bcsl_140, csl_140, ↓bci_141, ci_141, ↓bcp_141, cp_141, ↓bco_141, co_141, ↓bci_142, ci_142, ↓bcp_142, cp_142, ↓bco_142, co_142, ↓bci_143, ci_143, ↓bcp_143, cp_143, ↓bco_143, co_143, ↓bcx_144, cx_144, ↓bcs_144, cs_144, ↓bcxl_144, cxl_144, ↓bcsl_144, csl_144, ↓bci_145, ci_145, ↓bcp_145, cp_145, ↓bco_145, co_145, ↓bcx_146, cx_146, ↓bcs_146, cs_146, ↓bcxl_146, cxl_146, ↓bcsl_146, csl_146, ↓bcx_147, cx_147, ↓bcs_147, cs_147, ↓bcxl_147, cxl_147, ↓bcsl_147, csl_147, ↓bci_256, ci_256, ↓bcp_256, cp_256, ↓bco_256, co_256, ↓bcx_258, cx_258, ↓bcs_258, cs_258, ↓bcxl_258, cxl_258, ↓bcsl_258, csl_258, ↓bcx_259, cx_259, ↓bcs_259, cs_259, ↓bcxl_259, cxl_259, ↓bcsl_259, csl_259, ↓bcx_260, cx_260, ↓bcs_260, cs_260, ↓bcxl_260, cxl_260, ↓bcsl_260, csl_260, ↓bcx_261, cx_261, ↓bcs_261, cs_261, ↓bcxl_261, cxl_261, ↓bcsl_261, csl_261, ↓bcx_262, cx_262, ↓bcs_262, cs_262, ↓bcxl_262, cxl_262, ↓bcsl_262, csl_262, ↓bcx_263, cx_263, ↓bcs_263, cs_263, ↓bcxl_263, cxl_263, ↓bcsl_263, csl_263, ↓bcx_264, cx_264, ↓bcs_264, cs_264, ↓bcxl_264, cxl_264, ↓bcsl_264, csl_264, ↓bcx_265, cx_265, ↓bcs_265, cs_265, ↓bcxl_265, cxl_265, ↓bcsl_265, csl_265, ↓bcx_266, cx_266, ↓bcs_266, cs_266, ↓bcxl_266, cxl_266, ↓bcsl_266, csl_266, ↓bcx_1348, cx_1348, ↓bcs_1348, cs_1348, ↓bcxl_1348, cxl_1348, ↓bcsl_1348, csl_1348, ↓bcg_128_1, cg_128_1, ↓bcg_128_5, cg_128_5, ↓bcg_128_6, cg_128_6, ↓bcg_128_7, cg_128_7, ↓bcg_128_8, cg_128_8, ↓bcg_128_9, cg_128_9, ↓bcg_128_10, cg_128_10, ↓bcg_128_11, cg_128_11, ↓bcg_128_12, cg_128_12, ↓bcg_128_16, cg_128_16, ↓bcg_141_0, cg_141_0, ↓bcg_141_7, cg_141_7, ↓bcg_143_0, cg_143_0, ↓bcg_145_0, cg_145_0, ↓bcg_256_6, cg_256_6, ↓bcg_256_7, cg_256_7, ↓bcg_256_8, cg_256_8, ↓bcg_256_9, cg_256_9, ↓Option.bind_some, ↓b2_some, ↓bX_l, ↓bX_r, Option.bind_some, Option.bind_none, b2_some, bX_l, bX_r, nn_e, if_true, if_false, reduceCtorEq, ↓reduceIte, Nat.reduceEqDiff, Nat.reduceLT, Nat.reduceLeDiff, Nat.reduceSubDiff, Nat.reduceAdd, Nat.reduceMul, e1, e2, e3, ↓b2_of i2, ↓bd_of o2, ↓bd_of (C_g0 B2), ↓bd_of g7', ↓b2_of vv]
    obtain ⟨c1, c2⟩ := F.2.2.2.2.2.2.1 L hz
    obtain ⟨v, hv⟩ := c2 (env0 (mor s hd k g) (les s hd k g) (ink s hd k))
    have r := tel_rng hv
    unfold rng at r
    rw [J4_max_2, show (0 : Int64) = iL 0 by decide]
    simp only [dbt, hz, evl_tel hv, lgc_lt (show wide 0 by unfold wide; omega) (show wide v by unfold wide; omega)]
    by_cases z : 0 < v
    · rw [if_pos z, b2_some, Ev_some]
      exact ⟨by simp only; congr 1; omega, F2⟩
    · rw [if_neg z, b2_some, Ev_some]
      exact ⟨by simp only; congr 1; omega, F2⟩
theorem C_readAs (F : WFS s) (hQ : ∀ a, Q a → Im a) (B : CB va th Q h sp s) {hd : Nat} (h1 : hd < 2) {g : Nat} (hg : g < 32768) : Ev (X0_readAs va 128 (nI hd) (nI g) h) (fun z => z.1 = nI (rd s hd g) ∧ FT PC1 h z.2) := by
  have qn := F.1 hd h1
  obtain ⟨f1, -, -⟩ := F.2.2.2.2.2.1
  have g1 : gI 1 1 (some sp) h = some (nI (z_fg s)) := by rw [gI_e B.2.2.2.1.1, B.2.2.2.2.1.1]
  rw [X0_readAs, C_g0 B, Option.bind_some, g1, Option.bind_some, i2L, n_int (by omega), show (1 : Int64) = iL 1 by decide, iL_add, X0_readAs_17]
  refine ev_for (z_nl s hd) (fun k st => st.2.2.1 = nI k ∧ FT PC1 h st.2.2.2 ∧ st.1 = nI (itr (rd1 s hd g) k (0, z_fg s + 1)).1 ∧ st.2.1 = iL (((itr (rd1 s hd g) k (0, z_fg s + 1)).2 : Nat) : Int) ∧ (itr (rd1 s hd g) k (0, z_fg s + 1)).2 ≤ 1000000) ?_ ?_ 0 _ (Nat.zero_le _) ⟨rfl, FT.refl _ _, rfl, by simp [itr], by simp only [itr]; omega⟩
  · rintro k ⟨b, l0, x, H⟩ hk ⟨hx, F2, hb, hl, hm⟩
    simp only at hx F2 hb hl hm
    subst hx hb hl
    have B2 := B.ft hQ F2 PC1_Mc
    have dl := dbt_le F hd k g
    obtain ⟨o, o1, o2, o3, o4, o5⟩ := C_letterOf B2 h1 hk
    have K2 := B2.1
    simp (disch := first | assumption | ((repeat (first | with_reducible refine TKI ?_ | with_reducible refine TKL ?_ | with_reducible refine CKI ?_ | with_reducible refine CKL ?_)); assumption) | omega) only [X0_readAs_17b, ↓bci_128, ci_128, ↓bcp_128, cp_128, ↓bco_128, co_128, ↓bcx_140, cx_140, ↓bcs_140, cs_140, ↓bcxl_140, cxl_140, ↓bcsl_140, csl_140, ↓bci_141, ci_141, ↓bcp_141, cp_141, ↓bco_141, co_141, ↓bci_142, ci_142, ↓bcp_142, cp_142, ↓bco_142, co_142, ↓bci_143, ci_143, ↓bcp_143, cp_143, ↓bco_143, co_143, ↓bcx_144, cx_144, ↓bcs_144, cs_144, ↓bcxl_144, cxl_144, ↓bcsl_144, csl_144, ↓bci_145, ci_145, ↓bcp_145, cp_145, ↓bco_145, co_145, ↓bcx_146, cx_146, ↓bcs_146, cs_146, ↓bcxl_146, cxl_146, ↓bcsl_146, csl_146, ↓bcx_147, cx_147, ↓bcs_147, cs_147, ↓bcxl_147, cxl_147, ↓bcsl_147, csl_147, ↓bci_256, ci_256, ↓bcp_256, cp_256, ↓bco_256, co_256, ↓bcx_258, cx_258, ↓bcs_258, cs_258, ↓bcxl_258, cxl_258, ↓bcsl_258, csl_258, ↓bcx_259, cx_259, ↓bcs_259, cs_259, ↓bcxl_259, cxl_259, ↓bcsl_259, csl_259, ↓bcx_260, cx_260, ↓bcs_260, cs_260, ↓bcxl_260, cxl_260, ↓bcsl_260, csl_260, ↓bcx_261, cx_261, ↓bcs_261, cs_261, ↓bcxl_261, cxl_261, ↓bcsl_261, csl_261, ↓bcx_262, cx_262, ↓bcs_262, cs_262, ↓bcxl_262, cxl_262, ↓bcsl_262, csl_262, ↓bcx_263, cx_263, ↓bcs_263, cs_263, ↓bcxl_263, cxl_263, ↓bcsl_263, csl_263, ↓bcx_264, cx_264, ↓bcs_264, cs_264, ↓bcxl_264, cxl_264, ↓bcsl_264, csl_264, ↓bcx_265, cx_265, ↓bcs_265, cs_265, ↓bcxl_265, cxl_265, ↓bcsl_265, csl_265, ↓bcx_266, cx_266, ↓bcs_266, cs_266, ↓bcxl_266, cxl_266, ↓bcsl_266, csl_266, ↓bcx_1348, cx_1348, ↓bcs_1348, cs_1348, ↓bcxl_1348, cxl_1348, ↓bcsl_1348, csl_1348, ↓bcg_128_1, cg_128_1, ↓bcg_128_5, cg_128_5, ↓bcg_128_6, cg_128_6, ↓bcg_128_7, cg_128_7, ↓bcg_128_8, cg_128_8, ↓bcg_128_9, cg_128_9, ↓bcg_128_10, cg_128_10, ↓bcg_128_11, cg_128_11, ↓bcg_128_12, cg_128_12, ↓bcg_128_16, cg_128_16, ↓bcg_141_0, cg_141_0, ↓bcg_141_7, cg_141_7, ↓bcg_143_0, cg_143_0, ↓bcg_145_0, cg_145_0, ↓bcg_256_6, cg_256_6, ↓bcg_256_7, cg_256_7, ↓bcg_256_8, cg_256_8, ↓bcg_256_9, cg_256_9, ↓Option.bind_some, ↓b2_some, ↓bX_l, ↓bX_r, Option.bind_some, Option.bind_none, b2_some, bX_l, bX_r, nn_e, if_true, if_false, reduceCtorEq, ↓reduceIte, Nat.reduceEqDiff, Nat.reduceLT, Nat.reduceLeDiff, Nat.reduceSubDiff, Nat.reduceAdd, Nat.reduceMul, nA1, nA2, nM1, nM2, n_add, n_mul, n_sub, nS1, nS2, nL0, nL1, nL2, nE0, nE1, nE2, nE3, bI_0, bI_1, bI_m, rz_b, rz_0, rz_1, ↓b2_of (C_letters B2 h1), hk, ↓b2_of o1, Ev_b2]
    refine ev_mono (C_doubtOf F hQ B2 h1 hk hg o2 o5) ?_
    rintro ⟨y, H3⟩ ⟨hy, F3⟩
    simp only at hy F3
    subst hy
    have B3 := B2.ft hQ F3 PC1_Mc
    have F4 := F2.trans F3
    have K3 := B3.1
    obtain ⟨o', p1, p2, p3, p4, p5⟩ := C_letterOf B3 h1 hk
    have og : gI 8 0 (some o') H3 = some (nI (z_lw s hd k)) := by rw [gI_e p2, p4]
    have lc := lgc_lt (show wide ((dbt s hd k g : Nat) : Int) by unfold wide; omega) (show wide (((itr (rd1 s hd g) k (0, z_fg s + 1)).2 : Nat) : Int) by unfold wide; omega)
    by_cases z : dbt s hd k g < (itr (rd1 s hd g) k (0, z_fg s + 1)).2
    · rw [if_pos (lc.mpr (by omega))]
      simp (disch := first | assumption | ((repeat (first | with_reducible refine TKI ?_ | with_reducible refine TKL ?_ | with_reducible refine CKI ?_ | with_reducible refine CKL ?_)); assumption) | omega) only [↓bci_128, ci_128, ↓bcp_128, cp_128, ↓bco_128, co_128, ↓bcx_140, cx_140, ↓bcs_140, cs_140, ↓bcxl_140, cxl_140, ↓bcsl_140, csl_140, ↓bci_141, ci_141, ↓bcp_141, cp_141, ↓bco_141, co_141, ↓bci_142, ci_142, ↓bcp_142, cp_142, ↓bco_142, co_142, ↓bci_143, ci_143, ↓bcp_143, cp_143, ↓bco_143, co_143, ↓bcx_144, cx_144, ↓bcs_144, cs_144, ↓bcxl_144, cxl_144, ↓bcsl_144, csl_144, ↓bci_145, ci_145, ↓bcp_145, cp_145, ↓bco_145, co_145, ↓bcx_146, cx_146, ↓bcs_146, cs_146, ↓bcxl_146, cxl_146, ↓bcsl_146, csl_146, ↓bcx_147, cx_147, ↓bcs_147, cs_147, ↓bcxl_147, cxl_147, ↓bcsl_147, csl_147, ↓bci_256, ci_256, ↓bcp_256, cp_256, ↓bco_256, co_256, ↓bcx_258, cx_258, ↓bcs_258, cs_258, ↓bcxl_258, cxl_258, ↓bcsl_258, csl_258, ↓bcx_259, cx_259, ↓bcs_259, cs_259, ↓bcxl_259, cxl_259, ↓bcsl_259, csl_259, ↓bcx_260, cx_260, ↓bcs_260, cs_260, ↓bcxl_260, cxl_260, ↓bcsl_260, csl_260, ↓bcx_261, cx_261, ↓bcs_261, cs_261, ↓bcxl_261, cxl_261, ↓bcsl_261, csl_261, ↓bcx_262, cx_262, ↓bcs_262, cs_262, ↓bcxl_262, cxl_262, ↓bcsl_262, csl_262, ↓bcx_263, cx_263, ↓bcs_263, cs_263, ↓bcxl_263, cxl_263, ↓bcsl_263, csl_263, ↓bcx_264, cx_264, ↓bcs_264, cs_264, ↓bcxl_264, cxl_264, ↓bcsl_264, csl_264, ↓bcx_265, cx_265, ↓bcs_265, cs_265, ↓bcxl_265, cxl_265, ↓bcsl_265, csl_265, ↓bcx_266, cx_266, ↓bcs_266, cs_266, ↓bcxl_266, cxl_266, ↓bcsl_266, csl_266, ↓bcx_1348, cx_1348, ↓bcs_1348, cs_1348, ↓bcxl_1348, cxl_1348, ↓bcsl_1348, csl_1348, ↓bcg_128_1, cg_128_1, ↓bcg_128_5, cg_128_5, ↓bcg_128_6, cg_128_6, ↓bcg_128_7, cg_128_7, ↓bcg_128_8, cg_128_8, ↓bcg_128_9, cg_128_9, ↓bcg_128_10, cg_128_10, ↓bcg_128_11, cg_128_11, ↓bcg_128_12, cg_128_12, ↓bcg_128_16, cg_128_16, ↓bcg_141_0, cg_141_0, ↓bcg_141_7, cg_141_7, ↓bcg_143_0, cg_143_0, ↓bcg_145_0, cg_145_0, ↓bcg_256_6, cg_256_6, ↓bcg_256_7, cg_256_7, ↓bcg_256_8, cg_256_8, ↓bcg_256_9, cg_256_9, ↓Option.bind_some, ↓b2_some, ↓bX_l, ↓bX_r, Option.bind_some, Option.bind_none, b2_some, bX_l, bX_r, nn_e, if_true, if_false, reduceCtorEq, ↓reduceIte, Nat.reduceEqDiff, Nat.reduceLT, Nat.reduceLeDiff, Nat.reduceSubDiff, Nat.reduceAdd, Nat.reduceMul, nA1, nA2, nM1, nM2, n_add, n_mul, n_sub, nS1, nS2, nL0, nL1, nL2, nE0, nE1, nE2, nE3, bI_0, bI_1, bI_m, rz_b, rz_0, rz_1, ↓b2_of p1, ↓bd_of og]
      rw [Ev_some]
      refine ⟨rfl, F4, ?_, ?_, ?_⟩
      · simp only [itr, rd1]; rw [if_pos z]
      · simp only [itr, rd1]; rw [if_pos z]
      · simp only [itr, rd1]; rw [if_pos z]; exact dl
    · rw [if_neg (fun w => z (by have := lc.mp w; omega))]
      simp (disch := first | assumption | ((repeat (first | with_reducible refine TKI ?_ | with_reducible refine TKL ?_ | with_reducible refine CKI ?_ | with_reducible refine CKL ?_)); assumption) | omega) only [nA1, nA2, nM1, nM2, n_add, n_mul, n_sub, nS1, nS2, nL0, nL1, nL2, nE0, nE1, nE2, nE3, bI_0, bI_1, bI_m, rz_b, rz_0, rz_1]
      rw [Ev_some]
      refine ⟨rfl, F4, ?_, ?_, ?_⟩
      · simp only [itr, rd1]; rw [if_neg z]
      · simp only [itr, rd1]; rw [if_neg z]
      · simp only [itr, rd1]; rw [if_neg z]; exact hm
  · rintro ⟨b, l0, x, H⟩ ⟨hx, F2, hb, hl, hm⟩
    simp only at hx F2 hb hl hm
    subst hx hb hl
    have B2 := B.ft hQ F2 PC1_Mc
    have K2 := B2.1
    simp (disch := first | assumption | ((repeat (first | with_reducible refine TKI ?_ | with_reducible refine TKL ?_ | with_reducible refine CKI ?_ | with_reducible refine CKL ?_)); assumption) | omega) only [X0_readAs_17b, ↓bci_128, ci_128, ↓bcp_128, cp_128, ↓bco_128, co_128, ↓bcx_140, cx_140, ↓bcs_140, cs_140, ↓bcxl_140, cxl_140, ↓bcsl_140, csl_140, ↓bci_141, ci_141, ↓bcp_141, cp_141, ↓bco_141, co_141, ↓bci_142, ci_142, ↓bcp_142, cp_142, ↓bco_142, co_142, ↓bci_143, ci_143, ↓bcp_143, cp_143, ↓bco_143, co_143, ↓bcx_144, cx_144, ↓bcs_144, cs_144, ↓bcxl_144, cxl_144, ↓bcsl_144, csl_144, ↓bci_145, ci_145, ↓bcp_145, cp_145, ↓bco_145, co_145, ↓bcx_146, cx_146, ↓bcs_146, cs_146, ↓bcxl_146, cxl_146, ↓bcsl_146, csl_146, ↓bcx_147, cx_147, ↓bcs_147, cs_147, ↓bcxl_147, cxl_147, ↓bcsl_147, csl_147, ↓bci_256, ci_256, ↓bcp_256, cp_256, ↓bco_256, co_256, ↓bcx_258, cx_258, ↓bcs_258, cs_258, ↓bcxl_258, cxl_258, ↓bcsl_258, csl_258, ↓bcx_259, cx_259, ↓bcs_259, cs_259, ↓bcxl_259, cxl_259, ↓bcsl_259, csl_259, ↓bcx_260, cx_260, ↓bcs_260, cs_260, ↓bcxl_260, cxl_260, ↓bcsl_260, csl_260, ↓bcx_261, cx_261, ↓bcs_261, cs_261, ↓bcxl_261, cxl_261, ↓bcsl_261, csl_261, ↓bcx_262, cx_262, ↓bcs_262, cs_262, ↓bcxl_262, cxl_262, ↓bcsl_262, csl_262, ↓bcx_263, cx_263, ↓bcs_263, cs_263, ↓bcxl_263, cxl_263, ↓bcsl_263, csl_263, ↓bcx_264, cx_264, ↓bcs_264, cs_264, ↓bcxl_264, cxl_264, ↓bcsl_264, csl_264, ↓bcx_265, cx_265, ↓bcs_265, cs_265, ↓bcxl_265, cxl_265, ↓bcsl_265, csl_265, ↓bcx_266, cx_266, ↓bcs_266, cs_266, ↓bcxl_266, cxl_266, ↓bcsl_266, csl_266, ↓bcx_1348, cx_1348, ↓bcs_1348, cs_1348, ↓bcxl_1348, cxl_1348, ↓bcsl_1348, csl_1348, ↓bcg_128_1, cg_128_1, ↓bcg_128_5, cg_128_5, ↓bcg_128_6, cg_128_6, ↓bcg_128_7, cg_128_7, ↓bcg_128_8, cg_128_8, ↓bcg_128_9, cg_128_9, ↓bcg_128_10, cg_128_10, ↓bcg_128_11, cg_128_11, ↓bcg_128_12, cg_128_12, ↓bcg_128_16, cg_128_16, ↓bcg_141_0, cg_141_0, ↓bcg_141_7, cg_141_7, ↓bcg_143_0, cg_143_0, ↓bcg_145_0, cg_145_0, ↓bcg_256_6, cg_256_6, ↓bcg_256_7, cg_256_7, ↓bcg_256_8, cg_256_8, ↓bcg_256_9, cg_256_9, ↓Option.bind_some, ↓b2_some, ↓bX_l, ↓bX_r, Option.bind_some, Option.bind_none, b2_some, bX_l, bX_r, nn_e, if_true, if_false, reduceCtorEq, ↓reduceIte, Nat.reduceEqDiff, Nat.reduceLT, Nat.reduceLeDiff, Nat.reduceSubDiff, Nat.reduceAdd, Nat.reduceMul, nA1, nA2, nM1, nM2, n_add, n_mul, n_sub, nS1, nS2, nL0, nL1, nL2, nE0, nE1, nE2, nE3, bI_0, bI_1, bI_m, rz_b, rz_0, rz_1, ↓b2_of (C_letters B2 h1), Nat.lt_irrefl]
    rw [Ev_some]
    exact ⟨rfl, F2⟩
end CDoubt
