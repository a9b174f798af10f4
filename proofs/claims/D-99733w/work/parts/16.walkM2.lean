set_option maxRecDepth 100000
theorem cw_X7_boardTold : CW yX7_boardTold cX7_boardTold 5 none 1 := ⟨q2237, q185, ⟨by decide, by decide⟩, by decide +kernel, by decide⟩
def pkX7_boardTold_80 (G : GT) (X : CX) (h0 : AH) (Q : State → Prop) (a0 : Nat) (x2 : Int32) (x3 : Int32) (o : ((Int32 × AH) ⊕ (AH))) : Prop := match o with
  | .inl s => ∀ lv : List (Nat × AV), lle lv [(0, vr (some a0)), (2, vi x2), (3, vi x3), (4, vi s.1)] → V G X 5 h0 Q s.2 80 lv []
  | .inr z => Q = QM G X h0 none z
theorem W_X7_boardTold_139 {G : GT} {X : CX} {d : Nat} {h0 : AH} {Q : State → Prop} (ok : Ok G X RX7 cX7_boardTold 5 d h0) (hr : (cxm X).sig.returnType = none) (hd : 5 ≤ d) {a0 : Nat} {x2 : Int32} {x3 : Int32} {h : AH} {z : (AH)} (hf : X7_boardTold_139 a0 x2 x3 h = some z) (hk : Q = QM G X h0 none z) {lv : List (Nat × AV)} (hl : lle lv [(0, vr (some a0)), (2, vi x2), (3, vi x3)]) : V G X 5 h0 Q h 139 lv [] := by
  refine V.sub hl ?_
  unfold X7_boardTold_139 at hf
  refine v_aload_n ok 0 dX7_boardTold_139 rfl rfl ?_
  refine v_gI ok fl_X7_257 (fun _ _ _ => rfl) dX7_boardTold_140 hf (fun v1 hf => ?_)
  refine v_if_eq ok 147 dX7_boardTold_143 rfl hf (fun hf => ?_) (fun hf => ?_)
  ·
    refine v_aload_n ok 0 dX7_boardTold_147 rfl rfl ?_
    refine v_gR ok fl_X7_117 (by first | exact Or.inl ⟨_, rfl⟩ | exact Or.inr ⟨_, rfl⟩) dX7_boardTold_148 hf (fun v2 hf => ?_)
    refine v_iconst ok 2 dX7_boardTold_151 rfl ?_
    refine v_aload_n ok 0 dX7_boardTold_152 rfl rfl ?_
    refine v_gI ok fl_X7_341 (fun _ _ _ => rfl) dX7_boardTold_153 hf (fun v3 hf => ?_)
    refine v_imul ok dX7_boardTold_156 ?_
    refine v_iload_n ok 2 dX7_boardTold_157 rfl rfl ?_
    refine v_iast ok rfl dX7_boardTold_158 hf (fun h4 hf => ?_)
    refine v_aload_n ok 0 dX7_boardTold_159 rfl rfl ?_
    refine v_gR ok fl_X7_117 (by first | exact Or.inl ⟨_, rfl⟩ | exact Or.inr ⟨_, rfl⟩) dX7_boardTold_160 hf (fun v5 hf => ?_)
    refine v_iconst ok 2 dX7_boardTold_163 rfl ?_
    refine v_aload_n ok 0 dX7_boardTold_164 rfl rfl ?_
    refine v_gI ok fl_X7_341 (fun _ _ _ => rfl) dX7_boardTold_165 hf (fun v6 hf => ?_)
    refine v_imul ok dX7_boardTold_168 ?_
    refine v_iconst ok 1 dX7_boardTold_169 rfl ?_
    refine v_iadd ok dX7_boardTold_170 ?_
    refine v_iload_n ok 3 dX7_boardTold_171 rfl rfl ?_
    refine v_iast ok rfl dX7_boardTold_172 hf (fun h7 hf => ?_)
    refine v_aload_n ok 0 dX7_boardTold_173 rfl rfl ?_
    refine v_dup ok dX7_boardTold_174 rfl ?_
    refine v_gI ok fl_X7_341 (fun _ _ _ => rfl) dX7_boardTold_175 hf (fun v8 hf => ?_)
    refine v_iconst ok 1 dX7_boardTold_178 rfl ?_
    refine v_iadd ok dX7_boardTold_179 ?_
    refine v_pI ok fl_X7_341 ⟨fun _ _ _ => rfl, rfl⟩ (FN.of cf_7.1 rfl) dX7_boardTold_180 hf (fun h9 hf => ?_)
    exact v_vret ok hr (by cases hf; exact hk) dX7_boardTold_183
  ·
    exact v_vret ok hr (by cases hf; exact hk) dX7_boardTold_146
theorem W_X7_boardTold_80b {G : GT} {X : CX} {d : Nat} {h0 : AH} {Q : State → Prop} (ok : Ok G X RX7 cX7_boardTold 5 d h0) (hr : (cxm X).sig.returnType = none) (hd : 5 ≤ d) {a0 : Nat} {x2 : Int32} {x3 : Int32} {x4 : Int32} {h : AH} {z : ((Int32 × AH) ⊕ (AH))} (hf : X7_boardTold_80b  a0 x2 x3 x4 h = some z) (hk : pkX7_boardTold_80 G X h0 Q a0 x2 x3 z) {lv : List (Nat × AV)} (hl : lle lv [(0, vr (some a0)), (2, vi x2), (3, vi x3), (4, vi x4)]) : V G X 5 h0 Q h 80 lv [] := by
  refine V.sub hl ?_
  unfold X7_boardTold_80b at hf
  refine v_aload_n ok 0 dX7_boardTold_80 rfl rfl ?_
  refine v_gI ok fl_X7_257 (fun _ _ _ => rfl) dX7_boardTold_81 hf (fun v10 hf => ?_)
  refine v_if_ne ok 139 dX7_boardTold_84 rfl hf (fun hf => ?_) (fun hf => ?_)
  ·
    obtain ⟨o, ho, hz⟩ := ob hf
    cases hz; exact W_X7_boardTold_139 ok hr hd ho hk ⟨rfl, rfl, rfl, trivial⟩
  ·
    refine v_iload ok dX7_boardTold_87 rfl ?_
    refine v_aload_n ok 0 dX7_boardTold_89 rfl rfl ?_
    refine v_gR ok fl_X7_114 (by first | exact Or.inl ⟨_, rfl⟩ | exact Or.inr ⟨_, rfl⟩) dX7_boardTold_90 hf (fun v11 hf => ?_)
    refine v_bipush ok 7 dX7_boardTold_93 rfl ?_
    refine v_iload_n ok 2 dX7_boardTold_95 rfl rfl ?_
    refine v_imul ok dX7_boardTold_96 ?_
    refine v_iald ok rfl dX7_boardTold_97 hf (fun v12 hf => ?_)
    refine v_icmp_ge ok 139 dX7_boardTold_98 rfl hf (fun hf => ?_) (fun hf => ?_)
    ·
      obtain ⟨o, ho, hz⟩ := ob hf
      cases hz; exact W_X7_boardTold_139 ok hr hd ho hk ⟨rfl, rfl, rfl, trivial⟩
    ·
      refine v_aload_n ok 0 dX7_boardTold_101 rfl rfl ?_
      refine v_iload_n ok 3 dX7_boardTold_102 rfl rfl ?_
      refine v_aload_n ok 0 dX7_boardTold_103 rfl rfl ?_
      refine v_gR ok fl_X7_114 (by first | exact Or.inl ⟨_, rfl⟩ | exact Or.inr ⟨_, rfl⟩) dX7_boardTold_104 hf (fun v13 hf => ?_)
      refine v_bipush ok 7 dX7_boardTold_107 rfl ?_
      refine v_iload_n ok 2 dX7_boardTold_109 rfl rfl ?_
      refine v_imul ok dX7_boardTold_110 ?_
      refine v_iconst ok 1 dX7_boardTold_111 rfl ?_
      refine v_iadd ok dX7_boardTold_112 ?_
      refine v_iload ok dX7_boardTold_113 rfl ?_
      refine v_iadd ok dX7_boardTold_115 ?_
      refine v_iald ok rfl dX7_boardTold_116 hf (fun v14 hf => ?_)
      refine v_cVi ok (RX7, TX7, 117) cf_7.1 [vi x3, vi v14] (F := fun a => X7_toldAt a x3 v14 h) (fun a v h1 _ hv => M_X7_toldAt ok.2.2.2.2.2.2.1 (d := 1) (Nat.le_refl _) hv) (by exact Nat.le_trans (by decide) hd) cw_X7_toldAt q2218 q2220 qs80 dX7_boardTold_117 [] rfl (Nat.le_of_ble_eq_true rfl) hf (fun v15 h16 hf => ?_)
      refine v_iconst ok (-1) dX7_boardTold_120 rfl ?_
      refine v_icmp_ne ok 133 dX7_boardTold_121 rfl hf (fun hf => ?_) (fun hf => ?_)
      ·
        refine v_iinc ok x4 (x4 + 1) dX7_boardTold_133 rfl rfl (by decide) ?_
        refine v_goto ok 80 dX7_boardTold_136 rfl ?_
        cases hf; exact hk _ ⟨rfl, rfl, rfl, rfl, trivial⟩
      ·
        refine v_aload_n ok 0 dX7_boardTold_124 rfl rfl ?_
        refine v_iconst ok 2 dX7_boardTold_125 rfl ?_
        refine v_aload_n ok 0 dX7_boardTold_126 rfl rfl ?_
        refine v_gI ok fl_X7_297 (fun _ _ _ => rfl) dX7_boardTold_127 hf (fun v17 hf => ?_)
        refine v_cVv ok (RX7, TX7, 117) cf_7.1 [vi 2, vi v17] (F := fun a => X7_fail a 2 v17 h16) (fun a h1 _ hv => M_X7_fail ok.2.2.2.2.2.2.1 (d := 1) (Nat.le_refl _) hv) (by exact Nat.le_trans (by decide) hd) cw_X7_fail q2177 q2179 qs72 dX7_boardTold_130 [] rfl (Nat.le_of_ble_eq_true rfl) hf (fun h18 hf => ?_)
        refine v_iinc ok x4 (x4 + 1) dX7_boardTold_133 rfl rfl (by decide) ?_
        refine v_goto ok 80 dX7_boardTold_136 rfl ?_
        cases hf; exact hk _ ⟨rfl, rfl, rfl, rfl, trivial⟩
theorem W_X7_boardTold_80 {G : GT} {X : CX} {d : Nat} {h0 : AH} {Q : State → Prop} (ok : Ok G X RX7 cX7_boardTold 5 d h0) (hr : (cxm X).sig.returnType = none) (hd : 5 ≤ d) {a0 : Nat} {x2 : Int32} {x3 : Int32} {x4 : Int32} {h : AH} {z : (AH)} (hf : X7_boardTold_80  a0 x2 x3 x4 h = some z) (hk : Q = QM G X h0 none z) {lv : List (Nat × AV)} (hl : lle lv [(0, vr (some a0)), (2, vi x2), (3, vi x3), (4, vi x4)]) : V G X 5 h0 Q h 80 lv [] := by
  unfold X7_boardTold_80 at hf
  exact loopC_walk (Wh := fun s : Int32 × AH => ∀ lv : List (Nat × AV), lle lv [(0, vr (some a0)), (2, vi x2), (3, vi x3), (4, vi s.1)] → V G X 5 h0 Q s.2 80 lv []) (PK := fun z => Q = QM G X h0 none z) (fun s o hf hk lv hl => W_X7_boardTold_80b ok hr hd hf (by cases o <;> exact hk) hl) _ z hf hk lv hl
theorem W_X7_boardTold_62 {G : GT} {X : CX} {d : Nat} {h0 : AH} {Q : State → Prop} (ok : Ok G X RX7 cX7_boardTold 5 d h0) (hr : (cxm X).sig.returnType = none) (hd : 5 ≤ d) {a0 : Nat} {x2 : Int32} {h : AH} {z : (AH)} (hf : X7_boardTold_62 a0 x2 h = some z) (hk : Q = QM G X h0 none z) {lv : List (Nat × AV)} (hl : lle lv [(0, vr (some a0)), (2, vi x2)]) : V G X 5 h0 Q h 62 lv [] := by
  refine V.sub hl ?_
  unfold X7_boardTold_62 at hf
  refine v_aload_n ok 0 dX7_boardTold_62 rfl rfl ?_
  refine v_aload_n ok 0 dX7_boardTold_63 rfl rfl ?_
  refine v_gR ok fl_X7_24 (by first | exact Or.inl ⟨_, rfl⟩ | exact Or.inr ⟨_, rfl⟩) dX7_boardTold_64 hf (fun v19 hf => ?_)
  refine v_cVv ok (RX7, TX7, 117) cf_7.1 [vr v19] (F := fun a => X7_asks a v19 h) (fun a h1 _ hv => M_X7_asks ok.2.2.2.2.2.2.1 (d := 4) (Nat.le_refl _) hv) (by exact Nat.le_trans (by decide) hd) cw_X7_asks q2204 q2206 qs78 dX7_boardTold_67 [] rfl (Nat.le_of_ble_eq_true rfl) hf (fun h20 hf => ?_)
  refine v_aload_n ok 0 dX7_boardTold_70 rfl rfl ?_
  refine v_iconst ok 0 dX7_boardTold_71 rfl ?_
  refine v_iconst ok 1 dX7_boardTold_72 rfl ?_
  refine v_cVi ok (RX7, TX7, 117) cf_7.1 [vi 0, vi 1] (F := fun a => X7_number a 0 1 h20) (fun a v h1 _ hv => M_X7_number ok.2.2.2.2.2.2.1 (d := 2) (Nat.le_refl _) hv) (by exact Nat.le_trans (by decide) hd) cw_X7_number q2208 q2210 qs79 dX7_boardTold_73 [] rfl (Nat.le_of_ble_eq_true rfl) hf (fun v21 h22 hf => ?_)
  refine v_istore_n ok 3 dX7_boardTold_76 rfl (by decide) ?_
  refine v_iconst ok 0 dX7_boardTold_77 rfl ?_
  refine v_istore ok dX7_boardTold_78 (by decide) ?_
  exact W_X7_boardTold_80 ok hr hd hf hk ⟨rfl, rfl, rfl, rfl, trivial⟩
theorem W_X7_boardTold_21 {G : GT} {X : CX} {d : Nat} {h0 : AH} {Q : State → Prop} (ok : Ok G X RX7 cX7_boardTold 5 d h0) (hr : (cxm X).sig.returnType = none) (hd : 5 ≤ d) {a0 : Nat} {h : AH} {z : (AH)} (hf : X7_boardTold_21 a0 h = some z) (hk : Q = QM G X h0 none z) {lv : List (Nat × AV)} (hl : lle lv [(0, vr (some a0))]) : V G X 5 h0 Q h 21 lv [] := by
  refine V.sub hl ?_
  unfold X7_boardTold_21 at hf
  refine v_aload_n ok 0 dX7_boardTold_21 rfl rfl ?_
  refine v_gI ok fl_X7_257 (fun _ _ _ => rfl) dX7_boardTold_22 hf (fun v23 hf => ?_)
  refine v_if_eq ok 29 dX7_boardTold_25 rfl hf (fun hf => ?_) (fun hf => ?_)
  ·
    refine v_aload_n ok 0 dX7_boardTold_29 rfl rfl ?_
    refine v_bipush ok 6 dX7_boardTold_30 rfl ?_
    refine v_cVv ok (RX7, TX7, 117) cf_7.1 [vi 6] (F := fun a => X7_name a 6 h) (fun a h1 _ hv => M_X7_name ok.2.2.2.2.2.2.1 (d := 4) (Nat.le_refl _) hv) (by exact Nat.le_trans (by decide) hd) cw_X7_name q2196 q2198 qs76 dX7_boardTold_32 [] rfl (Nat.le_of_ble_eq_true rfl) hf (fun h24 hf => ?_)
    refine v_aload_n ok 0 dX7_boardTold_35 rfl rfl ?_
    refine v_gI ok fl_X7_257 (fun _ _ _ => rfl) dX7_boardTold_36 hf (fun v25 hf => ?_)
    refine v_if_eq ok 43 dX7_boardTold_39 rfl hf (fun hf => ?_) (fun hf => ?_)
    ·
      refine v_aload_n ok 0 dX7_boardTold_43 rfl rfl ?_
      refine v_cVi ok (RX7, TX7, 117) cf_7.1 [] (F := fun a => X7_wordNamed a h24) (fun a v h1 _ hv => M_X7_wordNamed ok.2.2.2.2.2.2.1 (d := 1) (Nat.le_refl _) hv) (by exact Nat.le_trans (by decide) hd) cw_X7_wordNamed q2230 q2232 qs83 dX7_boardTold_44 [] rfl (Nat.le_of_ble_eq_true rfl) hf (fun v26 h27 hf => ?_)
      refine v_istore_n ok 2 dX7_boardTold_47 rfl (by decide) ?_
      refine v_iload_n ok 2 dX7_boardTold_48 rfl rfl ?_
      refine v_iconst ok (-1) dX7_boardTold_49 rfl ?_
      refine v_icmp_ne ok 62 dX7_boardTold_50 rfl hf (fun hf => ?_) (fun hf => ?_)
      ·
        exact W_X7_boardTold_62 ok hr hd hf hk ⟨rfl, rfl, trivial⟩
      ·
        refine v_aload_n ok 0 dX7_boardTold_53 rfl rfl ?_
        refine v_iconst ok 3 dX7_boardTold_54 rfl ?_
        refine v_aload_n ok 0 dX7_boardTold_55 rfl rfl ?_
        refine v_gI ok fl_X7_311 (fun _ _ _ => rfl) dX7_boardTold_56 hf (fun v28 hf => ?_)
        refine v_cVv ok (RX7, TX7, 117) cf_7.1 [vi 3, vi v28] (F := fun a => X7_fail a 3 v28 h27) (fun a h1 _ hv => M_X7_fail ok.2.2.2.2.2.2.1 (d := 1) (Nat.le_refl _) hv) (by exact Nat.le_trans (by decide) hd) cw_X7_fail q2177 q2179 qs72 dX7_boardTold_59 [] rfl (Nat.le_of_ble_eq_true rfl) hf (fun h29 hf => ?_)
        exact W_X7_boardTold_62 ok hr hd hf hk ⟨rfl, rfl, trivial⟩
    ·
      exact v_vret ok hr (by cases hf; exact hk) dX7_boardTold_42
  ·
    exact v_vret ok hr (by cases hf; exact hk) dX7_boardTold_28
theorem W_X7_boardTold {G : GT} {X : CX} {d : Nat} {h0 : AH} {Q : State → Prop} (ok : Ok G X RX7 cX7_boardTold 5 d h0) (hr : (cxm X).sig.returnType = none) (hd : 5 ≤ d) {a0 : Nat} {x1 : Int32} {h : AH} {z : (AH)} (hf : X7_boardTold a0 x1 h = some z) (hk : Q = QM G X h0 none z) {lv : List (Nat × AV)} (hl : lle lv [(0, vr (some a0)), (1, vi x1)]) : V G X 5 h0 Q h 0 lv [] := by
  refine V.sub hl ?_
  unfold X7_boardTold at hf
  refine v_aload_n ok 0 dX7_boardTold_0 rfl rfl ?_
  refine v_gI ok fl_X7_257 (fun _ _ _ => rfl) dX7_boardTold_1 hf (fun v30 hf => ?_)
  refine v_if_ne ok 21 dX7_boardTold_4 rfl hf (fun hf => ?_) (fun hf => ?_)
  ·
    exact W_X7_boardTold_21 ok hr hd hf hk ⟨rfl, trivial⟩
  ·
    refine v_aload_n ok 0 dX7_boardTold_7 rfl rfl ?_
    refine v_gI ok fl_X7_341 (fun _ _ _ => rfl) dX7_boardTold_8 hf (fun v31 hf => ?_)
    refine v_iconst ok 4 dX7_boardTold_11 rfl ?_
    refine v_icmp_ne ok 21 dX7_boardTold_12 rfl hf (fun hf => ?_) (fun hf => ?_)
    ·
      exact W_X7_boardTold_21 ok hr hd hf hk ⟨rfl, trivial⟩
    ·
      refine v_aload_n ok 0 dX7_boardTold_15 rfl rfl ?_
      refine v_iconst ok 5 dX7_boardTold_16 rfl ?_
      refine v_iload_n ok 1 dX7_boardTold_17 rfl rfl ?_
      refine v_cVv ok (RX7, TX7, 117) cf_7.1 [vi 5, vi x1] (F := fun a => X7_fail a 5 x1 h) (fun a h1 _ hv => M_X7_fail ok.2.2.2.2.2.2.1 (d := 1) (Nat.le_refl _) hv) (by exact Nat.le_trans (by decide) hd) cw_X7_fail q2177 q2179 qs72 dX7_boardTold_18 [] rfl (Nat.le_of_ble_eq_true rfl) hf (fun h32 hf => ?_)
      exact W_X7_boardTold_21 ok hr hd hf hk ⟨rfl, trivial⟩
theorem M_X7_boardTold {G : GT} {l : Launch} (hG : Glob G) {d : Nat} (hd : 5 ≤ d) {a0 : Nat} {x1 : Int32} {h : AH} {h' : AH} (hf : X7_boardTold a0 x1 h = some h') : MM G l yX7_boardTold cX7_boardTold 5 none d [vr (some a0), vi x1] h none h' := by
  refine mm_of hG (plainFor_of_name (by decide)) (Nat.le_of_ble_eq_true rfl) (fun X hX ok hr hnm => ?_)
  subst hX
  exact W_X7_boardTold ok hr hd hf rfl ⟨rfl, rfl, trivial⟩
theorem cw_X7_qCode : CW yX7_qCode cX7_qCode 2 none 1 := ⟨q2257, q185, ⟨by decide, by decide⟩, by decide +kernel, by decide⟩
theorem W_X7_qCode {G : GT} {X : CX} {d : Nat} {h0 : AH} {Q : State → Prop} (ok : Ok G X RX7 cX7_qCode 2 d h0) (hr : (cxm X).sig.returnType = none) (hd : 1 ≤ d) {a0 : Nat} {x1 : Int32} {h : AH} {z : (AH)} (hf : X7_qCode a0 x1 h = some z) (hk : Q = QM G X h0 none z) {lv : List (Nat × AV)} (hl : lle lv [(0, vr (some a0)), (1, vi x1)]) : V G X 2 h0 Q h 0 lv [] := by
  refine V.sub hl ?_
  unfold X7_qCode at hf
  refine v_aload_n ok 0 dX7_qCode_0 rfl rfl ?_
  refine v_gR ok fl_X7_241 (by first | exact Or.inl ⟨_, rfl⟩ | exact Or.inr ⟨_, rfl⟩) dX7_qCode_1 hf (fun v1 hf => ?_)
  refine v_aload_n ok 0 dX7_qCode_4 rfl rfl ?_
  refine v_gI ok fl_X7_344 (fun _ _ _ => rfl) dX7_qCode_5 hf (fun v2 hf => ?_)
  refine v_iload_n ok 1 dX7_qCode_8 rfl rfl ?_
  refine v_iast ok rfl dX7_qCode_9 hf (fun h3 hf => ?_)
  refine v_aload_n ok 0 dX7_qCode_10 rfl rfl ?_
  refine v_dup ok dX7_qCode_11 rfl ?_
  refine v_gI ok fl_X7_344 (fun _ _ _ => rfl) dX7_qCode_12 hf (fun v4 hf => ?_)
  refine v_iconst ok 1 dX7_qCode_15 rfl ?_
  refine v_iadd ok dX7_qCode_16 ?_
  refine v_pI ok fl_X7_344 ⟨fun _ _ _ => rfl, rfl⟩ (FN.of cf_7.1 rfl) dX7_qCode_17 hf (fun h5 hf => ?_)
  exact v_vret ok hr (by cases hf; exact hk) dX7_qCode_20
theorem M_X7_qCode {G : GT} {l : Launch} (hG : Glob G) {d : Nat} (hd : 1 ≤ d) {a0 : Nat} {x1 : Int32} {h : AH} {h' : AH} (hf : X7_qCode a0 x1 h = some h') : MM G l yX7_qCode cX7_qCode 2 none d [vr (some a0), vi x1] h none h' := by
  refine mm_of hG (plainFor_of_name (by decide)) (Nat.le_of_ble_eq_true rfl) (fun X hX ok hr hnm => ?_)
  subst hX
  exact W_X7_qCode ok hr hd hf rfl ⟨rfl, rfl, trivial⟩
theorem cw_X7_qDrops : CW yX7_qDrops cX7_qDrops 1 none 0 := ⟨q2297, q185, ⟨by decide, by decide⟩, by decide +kernel, by decide⟩
theorem W_X7_qDrops {G : GT} {X : CX} {d : Nat} {h0 : AH} {Q : State → Prop} (ok : Ok G X RX7 cX7_qDrops 1 d h0) (hr : (cxm X).sig.returnType = none) (hd : 2 ≤ d) {a0 : Nat} {h : AH} {z : (AH)} (hf : X7_qDrops a0 h = some z) (hk : Q = QM G X h0 none z) {lv : List (Nat × AV)} (hl : lle lv [(0, vr (some a0))]) : V G X 1 h0 Q h 0 lv [] := by
  refine V.sub hl ?_
  unfold X7_qDrops at hf
  refine v_aload_n ok 0 dX7_qDrops_0 rfl rfl ?_
  refine v_dup ok dX7_qDrops_1 rfl ?_
  refine v_gI ok fl_X7_347 (fun _ _ _ => rfl) dX7_qDrops_2 hf (fun v1 hf => ?_)
  refine v_iconst ok 1 dX7_qDrops_5 rfl ?_
  refine v_isub ok dX7_qDrops_6 ?_
  refine v_pI ok fl_X7_347 ⟨fun _ _ _ => rfl, rfl⟩ (FN.of cf_7.1 rfl) dX7_qDrops_7 hf (fun h2 hf => ?_)
  refine v_aload_n ok 0 dX7_qDrops_10 rfl rfl ?_
  refine v_aload_n ok 0 dX7_qDrops_11 rfl rfl ?_
  refine v_gR ok fl_X7_244 (by first | exact Or.inl ⟨_, rfl⟩ | exact Or.inr ⟨_, rfl⟩) dX7_qDrops_12 hf (fun v3 hf => ?_)
  refine v_aload_n ok 0 dX7_qDrops_15 rfl rfl ?_
  refine v_gI ok fl_X7_347 (fun _ _ _ => rfl) dX7_qDrops_16 hf (fun v4 hf => ?_)
  refine v_iald ok rfl dX7_qDrops_19 hf (fun v5 hf => ?_)
  refine v_cVv ok (RX7, TX7, 117) cf_7.1 [vi v5] (F := fun a => X7_qCode a v5 h2) (fun a h1 _ hv => M_X7_qCode ok.2.2.2.2.2.2.1 (d := 1) (Nat.le_refl _) hv) (by exact Nat.le_trans (by decide) hd) cw_X7_qCode q2254 q2256 qs89 dX7_qDrops_20 [] rfl (Nat.le_of_ble_eq_true rfl) hf (fun h6 hf => ?_)
  exact v_vret ok hr (by cases hf; exact hk) dX7_qDrops_23
theorem M_X7_qDrops {G : GT} {l : Launch} (hG : Glob G) {d : Nat} (hd : 2 ≤ d) {a0 : Nat} {h : AH} {h' : AH} (hf : X7_qDrops a0 h = some h') : MM G l yX7_qDrops cX7_qDrops 1 none d [vr (some a0)] h none h' := by
  refine mm_of hG (plainFor_of_name (by decide)) (Nat.le_of_ble_eq_true rfl) (fun X hX ok hr hnm => ?_)
  subst hX
  exact W_X7_qDrops ok hr hd hf rfl ⟨rfl, trivial⟩
theorem cw_X7_qIsBracket : CW yX7_qIsBracket cX7_qIsBracket 1 (Option.some Jvm.ClassFile.FieldType.boolean) 1 := ⟨q2308, q185, ⟨by decide, by decide⟩, by decide +kernel, by decide⟩
theorem W_X7_qIsBracket {G : GT} {X : CX} {d : Nat} {h0 : AH} {Q : State → Prop} (ok : Ok G X RX7 cX7_qIsBracket 1 d h0) (hr : (cxm X).sig.returnType = (Option.some Jvm.ClassFile.FieldType.boolean)) (hd : 1 ≤ d) {x0 : Int32} {h : AH} {z : (Int32 × AH)} (hf : X7_qIsBracket x0 h = some z) (hk : Q = QM G X h0 (some (vi z.1)) z.2) {lv : List (Nat × AV)} (hl : lle lv [(0, vi x0)]) : V G X 1 h0 Q h 0 lv [] := by
  refine V.sub hl ?_
  unfold X7_qIsBracket at hf
  refine v_iload_n ok 0 dX7_qIsBracket_0 rfl rfl ?_
  refine v_bipush ok 20 dX7_qIsBracket_1 rfl ?_
  refine v_icmp_lt ok 16 dX7_qIsBracket_3 rfl hf (fun hf => ?_) (fun hf => ?_)
  ·
    refine v_iconst ok 0 dX7_qIsBracket_16 rfl ?_
    exact v_zretL ok hr (by decide) (by decide) (by cases hf; exact hk) dX7_qIsBracket_17
  ·
    refine v_iload_n ok 0 dX7_qIsBracket_6 rfl rfl ?_
    refine v_bipush ok 24 dX7_qIsBracket_7 rfl ?_
    refine v_icmp_gt ok 16 dX7_qIsBracket_9 rfl hf (fun hf => ?_) (fun hf => ?_)
    ·
      refine v_iconst ok 0 dX7_qIsBracket_16 rfl ?_
      exact v_zretL ok hr (by decide) (by decide) (by cases hf; exact hk) dX7_qIsBracket_17
    ·
      refine v_iconst ok 1 dX7_qIsBracket_12 rfl ?_
      refine v_goto ok 17 dX7_qIsBracket_13 rfl ?_
      exact v_zretL ok hr (by decide) (by decide) (by cases hf; exact hk) dX7_qIsBracket_17
theorem M_X7_qIsBracket {G : GT} {l : Launch} (hG : Glob G) {d : Nat} (hd : 1 ≤ d) {x0 : Int32} {h : AH} {v : Int32} {h' : AH} (hf : X7_qIsBracket x0 h = some (v, h')) : MM G l yX7_qIsBracket cX7_qIsBracket 1 (Option.some Jvm.ClassFile.FieldType.boolean) d [vi x0] h (some (vi v)) h' := by
  refine mm_of hG (plainFor_of_name (by decide)) (Nat.le_of_ble_eq_true rfl) (fun X hX ok hr hnm => ?_)
  subst hX
  exact W_X7_qIsBracket ok hr hd hf rfl ⟨rfl, trivial⟩
theorem cw_X7_qBracket : CW yX7_qBracket cX7_qBracket 2 (Option.some Jvm.ClassFile.FieldType.int) 0 := ⟨q2305, q185, ⟨by decide, by decide⟩, by decide +kernel, by decide⟩
def pkX7_qBracket_7 (G : GT) (X : CX) (h0 : AH) (Q : State → Prop) (a0 : Nat) (o : ((Int32 × AH) ⊕ (Int32 × AH))) : Prop := match o with
  | .inl s => ∀ lv : List (Nat × AV), lle lv [(0, vr (some a0)), (1, vi s.1)] → V G X 2 h0 Q s.2 7 lv []
  | .inr z => Q = QM G X h0 (some (vi z.1)) z.2
theorem W_X7_qBracket_33 {G : GT} {X : CX} {d : Nat} {h0 : AH} {Q : State → Prop} (ok : Ok G X RX7 cX7_qBracket 2 d h0) (hr : (cxm X).sig.returnType = (Option.some Jvm.ClassFile.FieldType.int)) (hd : 2 ≤ d) {a0 : Nat} {x1 : Int32} {h : AH} {z : (Int32 × AH)} (hf : X7_qBracket_33 a0 x1 h = some z) (hk : Q = QM G X h0 (some (vi z.1)) z.2) {lv : List (Nat × AV)} (hl : lle lv [(0, vr (some a0)), (1, vi x1)]) : V G X 2 h0 Q h 33 lv [] := by
  refine V.sub hl ?_
  unfold X7_qBracket_33 at hf
  refine v_iload_n ok 1 dX7_qBracket_33 rfl rfl ?_
  refine v_aload_n ok 0 dX7_qBracket_34 rfl rfl ?_
  refine v_gI ok fl_X7_353 (fun _ _ _ => rfl) dX7_qBracket_35 hf (fun v1 hf => ?_)
  refine v_icmp_lt ok 50 dX7_qBracket_38 rfl hf (fun hf => ?_) (fun hf => ?_)
  ·
    refine v_iconst ok (-1) dX7_qBracket_50 rfl ?_
    exact v_iret ok hr (by cases hf; exact hk) dX7_qBracket_51
  ·
    refine v_aload_n ok 0 dX7_qBracket_41 rfl rfl ?_
    refine v_gR ok fl_X7_244 (by first | exact Or.inl ⟨_, rfl⟩ | exact Or.inr ⟨_, rfl⟩) dX7_qBracket_42 hf (fun v2 hf => ?_)
    refine v_iload_n ok 1 dX7_qBracket_45 rfl rfl ?_
    refine v_iald ok rfl dX7_qBracket_46 hf (fun v3 hf => ?_)
    refine v_goto ok 51 dX7_qBracket_47 rfl ?_
    exact v_iret ok hr (by cases hf; exact hk) dX7_qBracket_51
theorem W_X7_qBracket_7b {G : GT} {X : CX} {d : Nat} {h0 : AH} {Q : State → Prop} (ok : Ok G X RX7 cX7_qBracket 2 d h0) (hr : (cxm X).sig.returnType = (Option.some Jvm.ClassFile.FieldType.int)) (hd : 2 ≤ d) {a0 : Nat} {x1 : Int32} {h : AH} {z : ((Int32 × AH) ⊕ (Int32 × AH))} (hf : X7_qBracket_7b  a0 x1 h = some z) (hk : pkX7_qBracket_7 G X h0 Q a0 z) {lv : List (Nat × AV)} (hl : lle lv [(0, vr (some a0)), (1, vi x1)]) : V G X 2 h0 Q h 7 lv [] := by
  refine V.sub hl ?_
  unfold X7_qBracket_7b at hf
  refine v_iload_n ok 1 dX7_qBracket_7 rfl rfl ?_
  refine v_aload_n ok 0 dX7_qBracket_8 rfl rfl ?_
  refine v_gI ok fl_X7_353 (fun _ _ _ => rfl) dX7_qBracket_9 hf (fun v4 hf => ?_)
  refine v_icmp_lt ok 33 dX7_qBracket_12 rfl hf (fun hf => ?_) (fun hf => ?_)
  ·
    obtain ⟨o, ho, hz⟩ := ob hf
    cases hz; exact W_X7_qBracket_33 ok hr hd ho hk ⟨rfl, rfl, trivial⟩
  ·
    refine v_aload_n ok 0 dX7_qBracket_15 rfl rfl ?_
    refine v_gR ok fl_X7_244 (by first | exact Or.inl ⟨_, rfl⟩ | exact Or.inr ⟨_, rfl⟩) dX7_qBracket_16 hf (fun v5 hf => ?_)
    refine v_iload_n ok 1 dX7_qBracket_19 rfl rfl ?_
    refine v_iald ok rfl dX7_qBracket_20 hf (fun v6 hf => ?_)
    refine v_cSi ok [vi v6] (F := X7_qIsBracket v6 h) (fun v h1 hv => M_X7_qIsBracket ok.2.2.2.2.2.2.1 (d := 1) (Nat.le_refl _) hv) (by exact Nat.le_trans (by decide) hd) cw_X7_qIsBracket q2306 q2307 dX7_qBracket_21 [] rfl (Nat.le_of_ble_eq_true rfl) hf (fun v7 h8 hf => ?_)
    refine v_if_ne ok 33 dX7_qBracket_24 rfl hf (fun hf => ?_) (fun hf => ?_)
    ·
      obtain ⟨o, ho, hz⟩ := ob hf
      cases hz; exact W_X7_qBracket_33 ok hr hd ho hk ⟨rfl, rfl, trivial⟩
    ·
      refine v_iinc ok x1 (x1 + (-1)) dX7_qBracket_27 rfl rfl (by decide) ?_
      refine v_goto ok 7 dX7_qBracket_30 rfl ?_
      cases hf; exact hk _ ⟨rfl, rfl, trivial⟩
theorem W_X7_qBracket_7 {G : GT} {X : CX} {d : Nat} {h0 : AH} {Q : State → Prop} (ok : Ok G X RX7 cX7_qBracket 2 d h0) (hr : (cxm X).sig.returnType = (Option.some Jvm.ClassFile.FieldType.int)) (hd : 2 ≤ d) {a0 : Nat} {x1 : Int32} {h : AH} {z : (Int32 × AH)} (hf : X7_qBracket_7  a0 x1 h = some z) (hk : Q = QM G X h0 (some (vi z.1)) z.2) {lv : List (Nat × AV)} (hl : lle lv [(0, vr (some a0)), (1, vi x1)]) : V G X 2 h0 Q h 7 lv [] := by
  unfold X7_qBracket_7 at hf
  exact loopC_walk (Wh := fun s : Int32 × AH => ∀ lv : List (Nat × AV), lle lv [(0, vr (some a0)), (1, vi s.1)] → V G X 2 h0 Q s.2 7 lv []) (PK := fun z => Q = QM G X h0 (some (vi z.1)) z.2) (fun s o hf hk lv hl => W_X7_qBracket_7b ok hr hd hf (by cases o <;> exact hk) hl) _ z hf hk lv hl
theorem W_X7_qBracket {G : GT} {X : CX} {d : Nat} {h0 : AH} {Q : State → Prop} (ok : Ok G X RX7 cX7_qBracket 2 d h0) (hr : (cxm X).sig.returnType = (Option.some Jvm.ClassFile.FieldType.int)) (hd : 2 ≤ d) {a0 : Nat} {h : AH} {z : (Int32 × AH)} (hf : X7_qBracket a0 h = some z) (hk : Q = QM G X h0 (some (vi z.1)) z.2) {lv : List (Nat × AV)} (hl : lle lv [(0, vr (some a0))]) : V G X 2 h0 Q h 0 lv [] := by
  refine V.sub hl ?_
  unfold X7_qBracket at hf
  refine v_aload_n ok 0 dX7_qBracket_0 rfl rfl ?_
  refine v_gI ok fl_X7_347 (fun _ _ _ => rfl) dX7_qBracket_1 hf (fun v9 hf => ?_)
  refine v_iconst ok 1 dX7_qBracket_4 rfl ?_
  refine v_isub ok dX7_qBracket_5 ?_
  refine v_istore_n ok 1 dX7_qBracket_6 rfl (by decide) ?_
  exact W_X7_qBracket_7 ok hr hd hf hk ⟨rfl, rfl, trivial⟩
theorem M_X7_qBracket {G : GT} {l : Launch} (hG : Glob G) {d : Nat} (hd : 2 ≤ d) {a0 : Nat} {h : AH} {v : Int32} {h' : AH} (hf : X7_qBracket a0 h = some (v, h')) : MM G l yX7_qBracket cX7_qBracket 2 (Option.some Jvm.ClassFile.FieldType.int) d [vr (some a0)] h (some (vi v)) h' := by
  refine mm_of hG (plainFor_of_name (by decide)) (Nat.le_of_ble_eq_true rfl) (fun X hX ok hr hnm => ?_)
  subst hX
  exact W_X7_qBracket ok hr hd hf rfl ⟨rfl, trivial⟩
theorem cw_X7_qDropsToBracket : CW yX7_qDropsToBracket cX7_qDropsToBracket 1 none 0 := ⟨q2312, q185, ⟨by decide, by decide⟩, by decide +kernel, by decide⟩
def pkX7_qDropsToBracket_0 (G : GT) (X : CX) (h0 : AH) (Q : State → Prop) (a0 : Nat) (o : ((AH) ⊕ (AH))) : Prop := match o with
  | .inl s => ∀ lv : List (Nat × AV), lle lv [(0, vr (some a0))] → V G X 1 h0 Q s 0 lv []
  | .inr z => Q = QM G X h0 none z
theorem W_X7_qDropsToBracket_0b {G : GT} {X : CX} {d : Nat} {h0 : AH} {Q : State → Prop} (ok : Ok G X RX7 cX7_qDropsToBracket 1 d h0) (hr : (cxm X).sig.returnType = none) (hd : 3 ≤ d) {a0 : Nat} {h : AH} {z : ((AH) ⊕ (AH))} (hf : X7_qDropsToBracket_0b  a0  h = some z) (hk : pkX7_qDropsToBracket_0 G X h0 Q a0 z) {lv : List (Nat × AV)} (hl : lle lv [(0, vr (some a0))]) : V G X 1 h0 Q h 0 lv [] := by
  refine V.sub hl ?_
  unfold X7_qDropsToBracket_0b at hf
  refine v_aload_n ok 0 dX7_qDropsToBracket_0 rfl rfl ?_
  refine v_gI ok fl_X7_347 (fun _ _ _ => rfl) dX7_qDropsToBracket_1 hf (fun v1 hf => ?_)
  refine v_aload_n ok 0 dX7_qDropsToBracket_4 rfl rfl ?_
  refine v_gI ok fl_X7_353 (fun _ _ _ => rfl) dX7_qDropsToBracket_5 hf (fun v2 hf => ?_)
  refine v_icmp_le ok 35 dX7_qDropsToBracket_8 rfl hf (fun hf => ?_) (fun hf => ?_)
  ·
    exact v_vret ok hr (by cases hf; exact hk) dX7_qDropsToBracket_35
  ·
    refine v_aload_n ok 0 dX7_qDropsToBracket_11 rfl rfl ?_
    refine v_gR ok fl_X7_244 (by first | exact Or.inl ⟨_, rfl⟩ | exact Or.inr ⟨_, rfl⟩) dX7_qDropsToBracket_12 hf (fun v3 hf => ?_)
    refine v_aload_n ok 0 dX7_qDropsToBracket_15 rfl rfl ?_
    refine v_gI ok fl_X7_347 (fun _ _ _ => rfl) dX7_qDropsToBracket_16 hf (fun v4 hf => ?_)
    refine v_iconst ok 1 dX7_qDropsToBracket_19 rfl ?_
    refine v_isub ok dX7_qDropsToBracket_20 ?_
    refine v_iald ok rfl dX7_qDropsToBracket_21 hf (fun v5 hf => ?_)
    refine v_cSi ok [vi v5] (F := X7_qIsBracket v5 h) (fun v h1 hv => M_X7_qIsBracket ok.2.2.2.2.2.2.1 (d := 1) (Nat.le_refl _) hv) (by exact Nat.le_trans (by decide) hd) cw_X7_qIsBracket q2306 q2307 dX7_qDropsToBracket_22 [] rfl (Nat.le_of_ble_eq_true rfl) hf (fun v6 h7 hf => ?_)
    refine v_if_ne ok 35 dX7_qDropsToBracket_25 rfl hf (fun hf => ?_) (fun hf => ?_)
    ·
      exact v_vret ok hr (by cases hf; exact hk) dX7_qDropsToBracket_35
    ·
      refine v_aload_n ok 0 dX7_qDropsToBracket_28 rfl rfl ?_
      refine v_cVv ok (RX7, TX7, 117) cf_7.1 [] (F := fun a => X7_qDrops a h7) (fun a h1 _ hv => M_X7_qDrops ok.2.2.2.2.2.2.1 (d := 2) (Nat.le_refl _) hv) (by exact Nat.le_trans (by decide) hd) cw_X7_qDrops q2294 q2296 qs99 dX7_qDropsToBracket_29 [] rfl (Nat.le_of_ble_eq_true rfl) hf (fun h8 hf => ?_)
      refine v_goto ok 0 dX7_qDropsToBracket_32 rfl ?_
      cases hf; exact hk _ ⟨rfl, trivial⟩
theorem W_X7_qDropsToBracket {G : GT} {X : CX} {d : Nat} {h0 : AH} {Q : State → Prop} (ok : Ok G X RX7 cX7_qDropsToBracket 1 d h0) (hr : (cxm X).sig.returnType = none) (hd : 3 ≤ d) {a0 : Nat} {h : AH} {z : (AH)} (hf : X7_qDropsToBracket  a0 h = some z) (hk : Q = QM G X h0 none z) {lv : List (Nat × AV)} (hl : lle lv [(0, vr (some a0))]) : V G X 1 h0 Q h 0 lv [] := by
  unfold X7_qDropsToBracket at hf
  exact loopC_walk (Wh := fun s : AH => ∀ lv : List (Nat × AV), lle lv [(0, vr (some a0))] → V G X 1 h0 Q s 0 lv []) (PK := fun z => Q = QM G X h0 none z) (fun s o hf hk lv hl => W_X7_qDropsToBracket_0b ok hr hd hf (by cases o <;> exact hk) hl) _ z hf hk lv hl
theorem M_X7_qDropsToBracket {G : GT} {l : Launch} (hG : Glob G) {d : Nat} (hd : 3 ≤ d) {a0 : Nat} {h : AH} {h' : AH} (hf : X7_qDropsToBracket a0 h = some h') : MM G l yX7_qDropsToBracket cX7_qDropsToBracket 1 none d [vr (some a0)] h none h' := by
  refine mm_of hG (plainFor_of_name (by decide)) (Nat.le_of_ble_eq_true rfl) (fun X hX ok hr hnm => ?_)
  subst hX
  exact W_X7_qDropsToBracket ok hr hd hf rfl ⟨rfl, trivial⟩
theorem cw_X7_qEndsPart : CW yX7_qEndsPart cX7_qEndsPart 1 none 0 := ⟨q2293, q185, ⟨by decide, by decide⟩, by decide +kernel, by decide⟩
def pkX7_qEndsPart_0 (G : GT) (X : CX) (h0 : AH) (Q : State → Prop) (a0 : Nat) (o : ((AH) ⊕ (AH))) : Prop := match o with
  | .inl s => ∀ lv : List (Nat × AV), lle lv [(0, vr (some a0))] → V G X 1 h0 Q s 0 lv []
  | .inr z => Q = QM G X h0 none z
theorem W_X7_qEndsPart_0b {G : GT} {X : CX} {d : Nat} {h0 : AH} {Q : State → Prop} (ok : Ok G X RX7 cX7_qEndsPart 1 d h0) (hr : (cxm X).sig.returnType = none) (hd : 3 ≤ d) {a0 : Nat} {h : AH} {z : ((AH) ⊕ (AH))} (hf : X7_qEndsPart_0b  a0  h = some z) (hk : pkX7_qEndsPart_0 G X h0 Q a0 z) {lv : List (Nat × AV)} (hl : lle lv [(0, vr (some a0))]) : V G X 1 h0 Q h 0 lv [] := by
  refine V.sub hl ?_
  unfold X7_qEndsPart_0b at hf
  refine v_aload_n ok 0 dX7_qEndsPart_0 rfl rfl ?_
  refine v_gI ok fl_X7_257 (fun _ _ _ => rfl) dX7_qEndsPart_1 hf (fun v1 hf => ?_)
  refine v_if_ne ok 51 dX7_qEndsPart_4 rfl hf (fun hf => ?_) (fun hf => ?_)
  ·
    exact v_vret ok hr (by cases hf; exact hk) dX7_qEndsPart_51
  ·
    refine v_aload_n ok 0 dX7_qEndsPart_7 rfl rfl ?_
    refine v_gI ok fl_X7_347 (fun _ _ _ => rfl) dX7_qEndsPart_8 hf (fun v2 hf => ?_)
    refine v_aload_n ok 0 dX7_qEndsPart_11 rfl rfl ?_
    refine v_gI ok fl_X7_353 (fun _ _ _ => rfl) dX7_qEndsPart_12 hf (fun v3 hf => ?_)
    refine v_icmp_le ok 51 dX7_qEndsPart_15 rfl hf (fun hf => ?_) (fun hf => ?_)
    ·
      exact v_vret ok hr (by cases hf; exact hk) dX7_qEndsPart_51
    ·
      refine v_aload_n ok 0 dX7_qEndsPart_18 rfl rfl ?_
      refine v_gR ok fl_X7_244 (by first | exact Or.inl ⟨_, rfl⟩ | exact Or.inr ⟨_, rfl⟩) dX7_qEndsPart_19 hf (fun v4 hf => ?_)
      refine v_aload_n ok 0 dX7_qEndsPart_22 rfl rfl ?_
      refine v_gI ok fl_X7_347 (fun _ _ _ => rfl) dX7_qEndsPart_23 hf (fun v5 hf => ?_)
      refine v_iconst ok 1 dX7_qEndsPart_26 rfl ?_
      refine v_isub ok dX7_qEndsPart_27 ?_
      refine v_iald ok rfl dX7_qEndsPart_28 hf (fun v6 hf => ?_)
      refine v_bipush ok 60 dX7_qEndsPart_29 rfl ?_
      refine v_icmp_lt ok 51 dX7_qEndsPart_31 rfl hf (fun hf => ?_) (fun hf => ?_)
      ·
        exact v_vret ok hr (by cases hf; exact hk) dX7_qEndsPart_51
      ·
        refine v_aload_n ok 0 dX7_qEndsPart_34 rfl rfl ?_
        refine v_dup ok dX7_qEndsPart_35 rfl ?_
        refine v_gI ok fl_X7_350 (fun _ _ _ => rfl) dX7_qEndsPart_36 hf (fun v7 hf => ?_)
        refine v_iconst ok 1 dX7_qEndsPart_39 rfl ?_
        refine v_isub ok dX7_qEndsPart_40 ?_
        refine v_pI ok fl_X7_350 ⟨fun _ _ _ => rfl, rfl⟩ (FN.of cf_7.1 rfl) dX7_qEndsPart_41 hf (fun h8 hf => ?_)
        refine v_aload_n ok 0 dX7_qEndsPart_44 rfl rfl ?_
        refine v_cVv ok (RX7, TX7, 117) cf_7.1 [] (F := fun a => X7_qDrops a h8) (fun a h1 _ hv => M_X7_qDrops ok.2.2.2.2.2.2.1 (d := 2) (Nat.le_refl _) hv) (by exact Nat.le_trans (by decide) hd) cw_X7_qDrops q2294 q2296 qs99 dX7_qEndsPart_45 [] rfl (Nat.le_of_ble_eq_true rfl) hf (fun h9 hf => ?_)
        refine v_goto ok 0 dX7_qEndsPart_48 rfl ?_
        cases hf; exact hk _ ⟨rfl, trivial⟩
theorem W_X7_qEndsPart {G : GT} {X : CX} {d : Nat} {h0 : AH} {Q : State → Prop} (ok : Ok G X RX7 cX7_qEndsPart 1 d h0) (hr : (cxm X).sig.returnType = none) (hd : 3 ≤ d) {a0 : Nat} {h : AH} {z : (AH)} (hf : X7_qEndsPart  a0 h = some z) (hk : Q = QM G X h0 none z) {lv : List (Nat × AV)} (hl : lle lv [(0, vr (some a0))]) : V G X 1 h0 Q h 0 lv [] := by
  unfold X7_qEndsPart at hf
  exact loopC_walk (Wh := fun s : AH => ∀ lv : List (Nat × AV), lle lv [(0, vr (some a0))] → V G X 1 h0 Q s 0 lv []) (PK := fun z => Q = QM G X h0 none z) (fun s o hf hk lv hl => W_X7_qEndsPart_0b ok hr hd hf (by cases o <;> exact hk) hl) _ z hf hk lv hl
theorem M_X7_qEndsPart {G : GT} {l : Launch} (hG : Glob G) {d : Nat} (hd : 3 ≤ d) {a0 : Nat} {h : AH} {h' : AH} (hf : X7_qEndsPart a0 h = some h') : MM G l yX7_qEndsPart cX7_qEndsPart 1 none d [vr (some a0)] h none h' := by
  refine mm_of hG (plainFor_of_name (by decide)) (Nat.le_of_ble_eq_true rfl) (fun X hX ok hr hnm => ?_)
  subst hX
  exact W_X7_qEndsPart ok hr hd hf rfl ⟨rfl, trivial⟩
theorem cw_X7_qIsOn : CW yX7_qIsOn cX7_qIsOn 2 (Option.some Jvm.ClassFile.FieldType.boolean) 1 := ⟨q2316, q185, ⟨by decide, by decide⟩, by decide +kernel, by decide⟩
theorem W_X7_qIsOn {G : GT} {X : CX} {d : Nat} {h0 : AH} {Q : State → Prop} (ok : Ok G X RX7 cX7_qIsOn 2 d h0) (hr : (cxm X).sig.returnType = (Option.some Jvm.ClassFile.FieldType.boolean)) (hd : 1 ≤ d) {a0 : Nat} {x1 : Int32} {h : AH} {z : (Int32 × AH)} (hf : X7_qIsOn a0 x1 h = some z) (hk : Q = QM G X h0 (some (vi z.1)) z.2) {lv : List (Nat × AV)} (hl : lle lv [(0, vr (some a0)), (1, vi x1)]) : V G X 2 h0 Q h 0 lv [] := by
  refine V.sub hl ?_
  unfold X7_qIsOn at hf
  refine v_aload_n ok 0 dX7_qIsOn_0 rfl rfl ?_
  refine v_gI ok fl_X7_347 (fun _ _ _ => rfl) dX7_qIsOn_1 hf (fun v1 hf => ?_)
  refine v_if_le ok 26 dX7_qIsOn_4 rfl hf (fun hf => ?_) (fun hf => ?_)
  ·
    refine v_iconst ok 0 dX7_qIsOn_26 rfl ?_
    exact v_zretL ok hr (by decide) (by decide) (by cases hf; exact hk) dX7_qIsOn_27
  ·
    refine v_aload_n ok 0 dX7_qIsOn_7 rfl rfl ?_
    refine v_gR ok fl_X7_244 (by first | exact Or.inl ⟨_, rfl⟩ | exact Or.inr ⟨_, rfl⟩) dX7_qIsOn_8 hf (fun v2 hf => ?_)
    refine v_aload_n ok 0 dX7_qIsOn_11 rfl rfl ?_
    refine v_gI ok fl_X7_347 (fun _ _ _ => rfl) dX7_qIsOn_12 hf (fun v3 hf => ?_)
    refine v_iconst ok 1 dX7_qIsOn_15 rfl ?_
    refine v_isub ok dX7_qIsOn_16 ?_
    refine v_iald ok rfl dX7_qIsOn_17 hf (fun v4 hf => ?_)
    refine v_iload_n ok 1 dX7_qIsOn_18 rfl rfl ?_
    refine v_icmp_ne ok 26 dX7_qIsOn_19 rfl hf (fun hf => ?_) (fun hf => ?_)
    ·
      refine v_iconst ok 0 dX7_qIsOn_26 rfl ?_
      exact v_zretL ok hr (by decide) (by decide) (by cases hf; exact hk) dX7_qIsOn_27
    ·
      refine v_iconst ok 1 dX7_qIsOn_22 rfl ?_
      refine v_goto ok 27 dX7_qIsOn_23 rfl ?_
      exact v_zretL ok hr (by decide) (by decide) (by cases hf; exact hk) dX7_qIsOn_27
theorem M_X7_qIsOn {G : GT} {l : Launch} (hG : Glob G) {d : Nat} (hd : 1 ≤ d) {a0 : Nat} {x1 : Int32} {h : AH} {v : Int32} {h' : AH} (hf : X7_qIsOn a0 x1 h = some (v, h')) : MM G l yX7_qIsOn cX7_qIsOn 2 (Option.some Jvm.ClassFile.FieldType.boolean) d [vr (some a0), vi x1] h (some (vi v)) h' := by
  refine mm_of hG (plainFor_of_name (by decide)) (Nat.le_of_ble_eq_true rfl) (fun X hX ok hr hnm => ?_)
  subst hX
  exact W_X7_qIsOn ok hr hd hf rfl ⟨rfl, rfl, trivial⟩
theorem cw_X7_qGoesOn : CW yX7_qGoesOn cX7_qGoesOn 2 (Option.some Jvm.ClassFile.FieldType.boolean) 0 := ⟨q2301, q185, ⟨by decide, by decide⟩, by decide +kernel, by decide⟩
def pkX7_qGoesOn_162 (G : GT) (X : CX) (h0 : AH) (Q : State → Prop) (a0 : Nat) (x1 : Int32) (o : ((AH) ⊕ (Int32 × AH))) : Prop := match o with
  | .inl s => ∀ lv : List (Nat × AV), lle lv [(0, vr (some a0)), (1, vi x1)] → V G X 2 h0 Q s 162 lv []
  | .inr z => Q = QM G X h0 (some (vi z.1)) z.2
def pkX7_qGoesOn_247 (G : GT) (X : CX) (h0 : AH) (Q : State → Prop) (a0 : Nat) (x1 : Int32) (o : ((AH) ⊕ (Int32 × AH))) : Prop := match o with
  | .inl s => ∀ lv : List (Nat × AV), lle lv [(0, vr (some a0)), (1, vi x1)] → V G X 2 h0 Q s 247 lv []
  | .inr z => Q = QM G X h0 (some (vi z.1)) z.2
def pkX7_qGoesOn_0 (G : GT) (X : CX) (h0 : AH) (Q : State → Prop) (a0 : Nat) (o : ((AH) ⊕ (Int32 × AH))) : Prop := match o with
  | .inl s => ∀ lv : List (Nat × AV), lle lv [(0, vr (some a0))] → V G X 2 h0 Q s 0 lv []
  | .inr z => Q = QM G X h0 (some (vi z.1)) z.2
theorem W_X7_qGoesOn_115 {G : GT} {X : CX} {d : Nat} {h0 : AH} {Q : State → Prop} (ok : Ok G X RX7 cX7_qGoesOn 2 d h0) (hr : (cxm X).sig.returnType = (Option.some Jvm.ClassFile.FieldType.boolean)) (hd : 4 ≤ d) {a0 : Nat} {h : AH} {z : ((AH) ⊕ (Int32 × AH))} (hf : X7_qGoesOn_115 a0 h = some z) (hk : pkX7_qGoesOn_0 G X h0 Q a0 z) {lv : List (Nat × AV)} (hl : lle lv [(0, vr (some a0))]) : V G X 2 h0 Q h 115 lv [] := by
  refine V.sub hl ?_
  unfold X7_qGoesOn_115 at hf
  refine v_aload_n ok 0 dX7_qGoesOn_115 rfl rfl ?_
  refine v_cVv ok (RX7, TX7, 117) cf_7.1 [] (F := fun a => X7_qEndsPart a h) (fun a h1 _ hv => M_X7_qEndsPart ok.2.2.2.2.2.2.1 (d := 3) (Nat.le_refl _) hv) (by exact Nat.le_trans (by decide) hd) cw_X7_qEndsPart q2290 q2292 qs98 dX7_qGoesOn_116 [] rfl (Nat.le_of_ble_eq_true rfl) hf (fun h1 hf => ?_)
  refine v_goto ok 0 dX7_qGoesOn_119 rfl ?_
  cases hf; exact hk _ ⟨rfl, trivial⟩
theorem W_X7_qGoesOn_112 {G : GT} {X : CX} {d : Nat} {h0 : AH} {Q : State → Prop} (ok : Ok G X RX7 cX7_qGoesOn 2 d h0) (hr : (cxm X).sig.returnType = (Option.some Jvm.ClassFile.FieldType.boolean)) (hd : 4 ≤ d) {a0 : Nat} {s0 : Option Nat} {s1 : Int32} {h : AH} {z : ((AH) ⊕ (Int32 × AH))} (hf : X7_qGoesOn_112 a0 s0 s1 h = some z) (hk : pkX7_qGoesOn_0 G X h0 Q a0 z) {lv : List (Nat × AV)} (hl : lle lv [(0, vr (some a0))]) : V G X 2 h0 Q h 112 lv [vi s1, vr s0] := by
  refine V.sub hl ?_
  unfold X7_qGoesOn_112 at hf
  refine v_cVv ok (RX7, TX7, 117) cf_7.1 [vi s1] (F := fun a => X7_qCode a s1 h) (fun a h1 _ hv => M_X7_qCode ok.2.2.2.2.2.2.1 (d := 1) (Nat.le_refl _) hv) (by exact Nat.le_trans (by decide) hd) cw_X7_qCode q2254 q2256 qs89 dX7_qGoesOn_112 [] rfl (Nat.le_of_ble_eq_true rfl) hf (fun h2 hf => ?_)
  exact W_X7_qGoesOn_115 ok hr hd hf hk ⟨rfl, trivial⟩
theorem W_X7_qGoesOn_43 {G : GT} {X : CX} {d : Nat} {h0 : AH} {Q : State → Prop} (ok : Ok G X RX7 cX7_qGoesOn 2 d h0) (hr : (cxm X).sig.returnType = (Option.some Jvm.ClassFile.FieldType.boolean)) (hd : 4 ≤ d) {a0 : Nat} {h : AH} {z : ((AH) ⊕ (Int32 × AH))} (hf : X7_qGoesOn_43 a0 h = some z) (hk : pkX7_qGoesOn_0 G X h0 Q a0 z) {lv : List (Nat × AV)} (hl : lle lv [(0, vr (some a0))]) : V G X 2 h0 Q h 43 lv [] := by
  refine V.sub hl ?_
  unfold X7_qGoesOn_43 at hf
  refine v_aload_n ok 0 dX7_qGoesOn_43 rfl rfl ?_
  refine v_dup ok dX7_qGoesOn_44 rfl ?_
  refine v_gI ok fl_X7_263 (fun _ _ _ => rfl) dX7_qGoesOn_45 hf (fun v3 hf => ?_)
  refine v_iconst ok 1 dX7_qGoesOn_48 rfl ?_
  refine v_iadd ok dX7_qGoesOn_49 ?_
  refine v_pI ok fl_X7_263 ⟨fun _ _ _ => rfl, rfl⟩ (FN.of cf_7.1 rfl) dX7_qGoesOn_50 hf (fun h4 hf => ?_)
  refine v_aload_n ok 0 dX7_qGoesOn_53 rfl rfl ?_
  refine v_cVv ok (RX7, TX7, 117) cf_7.1 [] (F := fun a => X7_qDropsToBracket a h4) (fun a h1 _ hv => M_X7_qDropsToBracket ok.2.2.2.2.2.2.1 (d := 3) (Nat.le_refl _) hv) (by exact Nat.le_trans (by decide) hd) cw_X7_qDropsToBracket q2309 q2311 qs102 dX7_qGoesOn_54 [] rfl (Nat.le_of_ble_eq_true rfl) hf (fun h5 hf => ?_)
  refine v_aload_n ok 0 dX7_qGoesOn_57 rfl rfl ?_
  refine v_dup ok dX7_qGoesOn_58 rfl ?_
  refine v_gI ok fl_X7_347 (fun _ _ _ => rfl) dX7_qGoesOn_59 hf (fun v6 hf => ?_)
  refine v_iconst ok 1 dX7_qGoesOn_62 rfl ?_
  refine v_isub ok dX7_qGoesOn_63 ?_
  refine v_pI ok fl_X7_347 ⟨fun _ _ _ => rfl, rfl⟩ (FN.of cf_7.1 rfl) dX7_qGoesOn_64 hf (fun h7 hf => ?_)
  refine v_aload_n ok 0 dX7_qGoesOn_67 rfl rfl ?_
  refine v_dup ok dX7_qGoesOn_68 rfl ?_
  refine v_gI ok fl_X7_350 (fun _ _ _ => rfl) dX7_qGoesOn_69 hf (fun v8 hf => ?_)
  refine v_iconst ok 1 dX7_qGoesOn_72 rfl ?_
  refine v_isub ok dX7_qGoesOn_73 ?_
  refine v_pI ok fl_X7_350 ⟨fun _ _ _ => rfl, rfl⟩ (FN.of cf_7.1 rfl) dX7_qGoesOn_74 hf (fun h9 hf => ?_)
  refine v_aload_n ok 0 dX7_qGoesOn_77 rfl rfl ?_
  refine v_gR ok fl_X7_244 (by first | exact Or.inl ⟨_, rfl⟩ | exact Or.inr ⟨_, rfl⟩) dX7_qGoesOn_78 hf (fun v10 hf => ?_)
  refine v_aload_n ok 0 dX7_qGoesOn_81 rfl rfl ?_
  refine v_gI ok fl_X7_347 (fun _ _ _ => rfl) dX7_qGoesOn_82 hf (fun v11 hf => ?_)
  refine v_iald ok rfl dX7_qGoesOn_85 hf (fun v12 hf => ?_)
  refine v_bipush ok 20 dX7_qGoesOn_86 rfl ?_
  refine v_icmp_eq ok 115 dX7_qGoesOn_88 rfl hf (fun hf => ?_) (fun hf => ?_)
  ·
    exact W_X7_qGoesOn_115 ok hr hd hf hk ⟨rfl, trivial⟩
  ·
    refine v_aload_n ok 0 dX7_qGoesOn_91 rfl rfl ?_
    refine v_aload_n ok 0 dX7_qGoesOn_92 rfl rfl ?_
    refine v_gR ok fl_X7_244 (by first | exact Or.inl ⟨_, rfl⟩ | exact Or.inr ⟨_, rfl⟩) dX7_qGoesOn_93 hf (fun v13 hf => ?_)
    refine v_aload_n ok 0 dX7_qGoesOn_96 rfl rfl ?_
    refine v_gI ok fl_X7_347 (fun _ _ _ => rfl) dX7_qGoesOn_97 hf (fun v14 hf => ?_)
    refine v_iald ok rfl dX7_qGoesOn_100 hf (fun v15 hf => ?_)
    refine v_bipush ok 23 dX7_qGoesOn_101 rfl ?_
    refine v_icmp_ne ok 110 dX7_qGoesOn_103 rfl hf (fun hf => ?_) (fun hf => ?_)
    ·
      refine v_bipush ok 6 dX7_qGoesOn_110 rfl ?_
      exact W_X7_qGoesOn_112 ok hr hd hf hk ⟨rfl, trivial⟩
    ·
      refine v_iconst ok 5 dX7_qGoesOn_106 rfl ?_
      refine v_goto ok 112 dX7_qGoesOn_107 rfl ?_
      exact W_X7_qGoesOn_112 ok hr hd hf hk ⟨rfl, trivial⟩
theorem W_X7_qGoesOn_178 {G : GT} {X : CX} {d : Nat} {h0 : AH} {Q : State → Prop} (ok : Ok G X RX7 cX7_qGoesOn 2 d h0) (hr : (cxm X).sig.returnType = (Option.some Jvm.ClassFile.FieldType.boolean)) (hd : 4 ≤ d) {a0 : Nat} {x1 : Int32} {h : AH} {z : ((AH) ⊕ (Int32 × AH))} (hf : X7_qGoesOn_178 a0 x1 h = some z) (hk : pkX7_qGoesOn_162 G X h0 Q a0 x1 z) {lv : List (Nat × AV)} (hl : lle lv [(0, vr (some a0)), (1, vi x1)]) : V G X 2 h0 Q h 178 lv [] := by
  refine V.sub hl ?_
  unfold X7_qGoesOn_178 at hf
  refine v_aload_n ok 0 dX7_qGoesOn_178 rfl rfl ?_
  refine v_cVv ok (RX7, TX7, 117) cf_7.1 [] (F := fun a => X7_qDrops a h) (fun a h1 _ hv => M_X7_qDrops ok.2.2.2.2.2.2.1 (d := 2) (Nat.le_refl _) hv) (by exact Nat.le_trans (by decide) hd) cw_X7_qDrops q2294 q2296 qs99 dX7_qGoesOn_179 [] rfl (Nat.le_of_ble_eq_true rfl) hf (fun h16 hf => ?_)
  refine v_goto ok 162 dX7_qGoesOn_182 rfl ?_
  cases hf; exact hk _ ⟨rfl, rfl, trivial⟩
theorem W_X7_qGoesOn_185 {G : GT} {X : CX} {d : Nat} {h0 : AH} {Q : State → Prop} (ok : Ok G X RX7 cX7_qGoesOn 2 d h0) (hr : (cxm X).sig.returnType = (Option.some Jvm.ClassFile.FieldType.boolean)) (hd : 4 ≤ d) {a0 : Nat} {x1 : Int32} {h : AH} {z : (Int32 × AH)} (hf : X7_qGoesOn_185 a0 x1 h = some z) (hk : Q = QM G X h0 (some (vi z.1)) z.2) {lv : List (Nat × AV)} (hl : lle lv [(0, vr (some a0)), (1, vi x1)]) : V G X 2 h0 Q h 185 lv [] := by
  refine V.sub hl ?_
  unfold X7_qGoesOn_185 at hf
  refine v_aload_n ok 0 dX7_qGoesOn_185 rfl rfl ?_
  refine v_gR ok fl_X7_244 (by first | exact Or.inl ⟨_, rfl⟩ | exact Or.inr ⟨_, rfl⟩) dX7_qGoesOn_186 hf (fun v17 hf => ?_)
  refine v_aload_n ok 0 dX7_qGoesOn_189 rfl rfl ?_
  refine v_gI ok fl_X7_347 (fun _ _ _ => rfl) dX7_qGoesOn_190 hf (fun v18 hf => ?_)
  refine v_iload_n ok 1 dX7_qGoesOn_193 rfl rfl ?_
  refine v_iast ok rfl dX7_qGoesOn_194 hf (fun h19 hf => ?_)
  refine v_aload_n ok 0 dX7_qGoesOn_195 rfl rfl ?_
  refine v_dup ok dX7_qGoesOn_196 rfl ?_
  refine v_gI ok fl_X7_347 (fun _ _ _ => rfl) dX7_qGoesOn_197 hf (fun v20 hf => ?_)
  refine v_iconst ok 1 dX7_qGoesOn_200 rfl ?_
  refine v_iadd ok dX7_qGoesOn_201 ?_
  refine v_pI ok fl_X7_347 ⟨fun _ _ _ => rfl, rfl⟩ (FN.of cf_7.1 rfl) dX7_qGoesOn_202 hf (fun h21 hf => ?_)
  refine v_iconst ok 1 dX7_qGoesOn_205 rfl ?_
  exact v_zretL ok hr (by decide) (by decide) (by cases hf; exact hk) dX7_qGoesOn_206
theorem W_X7_qGoesOn_162b {G : GT} {X : CX} {d : Nat} {h0 : AH} {Q : State → Prop} (ok : Ok G X RX7 cX7_qGoesOn 2 d h0) (hr : (cxm X).sig.returnType = (Option.some Jvm.ClassFile.FieldType.boolean)) (hd : 4 ≤ d) {a0 : Nat} {x1 : Int32} {h : AH} {z : ((AH) ⊕ (Int32 × AH))} (hf : X7_qGoesOn_162b  a0 x1  h = some z) (hk : pkX7_qGoesOn_162 G X h0 Q a0 x1 z) {lv : List (Nat × AV)} (hl : lle lv [(0, vr (some a0)), (1, vi x1)]) : V G X 2 h0 Q h 162 lv [] := by
  refine V.sub hl ?_
  unfold X7_qGoesOn_162b at hf
  refine v_aload_n ok 0 dX7_qGoesOn_162 rfl rfl ?_
  refine v_iconst ok 3 dX7_qGoesOn_163 rfl ?_
  refine v_cVi ok (RX7, TX7, 117) cf_7.1 [vi 3] (F := fun a => X7_qIsOn a 3 h) (fun a v h1 _ hv => M_X7_qIsOn ok.2.2.2.2.2.2.1 (d := 1) (Nat.le_refl _) hv) (by exact Nat.le_trans (by decide) hd) cw_X7_qIsOn q2313 q2315 qs103 dX7_qGoesOn_164 [] rfl (Nat.le_of_ble_eq_true rfl) hf (fun v22 h23 hf => ?_)
  refine v_if_ne ok 178 dX7_qGoesOn_167 rfl hf (fun hf => ?_) (fun hf => ?_)
  ·
    exact W_X7_qGoesOn_178 ok hr hd hf hk ⟨rfl, rfl, trivial⟩
  ·
    refine v_aload_n ok 0 dX7_qGoesOn_170 rfl rfl ?_
    refine v_iconst ok 4 dX7_qGoesOn_171 rfl ?_
    refine v_cVi ok (RX7, TX7, 117) cf_7.1 [vi 4] (F := fun a => X7_qIsOn a 4 h23) (fun a v h1 _ hv => M_X7_qIsOn ok.2.2.2.2.2.2.1 (d := 1) (Nat.le_refl _) hv) (by exact Nat.le_trans (by decide) hd) cw_X7_qIsOn q2313 q2315 qs103 dX7_qGoesOn_172 [] rfl (Nat.le_of_ble_eq_true rfl) hf (fun v24 h25 hf => ?_)
    refine v_if_eq ok 185 dX7_qGoesOn_175 rfl hf (fun hf => ?_) (fun hf => ?_)
    ·
      obtain ⟨o, ho, hz⟩ := ob hf
      cases hz; exact W_X7_qGoesOn_185 ok hr hd ho hk ⟨rfl, rfl, trivial⟩
    ·
      exact W_X7_qGoesOn_178 ok hr hd hf hk ⟨rfl, rfl, trivial⟩
theorem W_X7_qGoesOn_162 {G : GT} {X : CX} {d : Nat} {h0 : AH} {Q : State → Prop} (ok : Ok G X RX7 cX7_qGoesOn 2 d h0) (hr : (cxm X).sig.returnType = (Option.some Jvm.ClassFile.FieldType.boolean)) (hd : 4 ≤ d) {a0 : Nat} {x1 : Int32} {h : AH} {z : (Int32 × AH)} (hf : X7_qGoesOn_162  a0 x1 h = some z) (hk : Q = QM G X h0 (some (vi z.1)) z.2) {lv : List (Nat × AV)} (hl : lle lv [(0, vr (some a0)), (1, vi x1)]) : V G X 2 h0 Q h 162 lv [] := by
  unfold X7_qGoesOn_162 at hf
  exact loopC_walk (Wh := fun s : AH => ∀ lv : List (Nat × AV), lle lv [(0, vr (some a0)), (1, vi x1)] → V G X 2 h0 Q s 162 lv []) (PK := fun z => Q = QM G X h0 (some (vi z.1)) z.2) (fun s o hf hk lv hl => W_X7_qGoesOn_162b ok hr hd hf (by cases o <;> exact hk) hl) _ z hf hk lv hl
theorem W_X7_qGoesOn_140 {G : GT} {X : CX} {d : Nat} {h0 : AH} {Q : State → Prop} (ok : Ok G X RX7 cX7_qGoesOn 2 d h0) (hr : (cxm X).sig.returnType = (Option.some Jvm.ClassFile.FieldType.boolean)) (hd : 4 ≤ d) {a0 : Nat} {h : AH} {z : (Int32 × AH)} (hf : X7_qGoesOn_140 a0 h = some z) (hk : Q = QM G X h0 (some (vi z.1)) z.2) {lv : List (Nat × AV)} (hl : lle lv [(0, vr (some a0))]) : V G X 2 h0 Q h 140 lv [] := by
  refine V.sub hl ?_
  unfold X7_qGoesOn_140 at hf
  refine v_aload_n ok 0 dX7_qGoesOn_140 rfl rfl ?_
  refine v_gR ok fl_X7_7 (by first | exact Or.inl ⟨_, rfl⟩ | exact Or.inr ⟨_, rfl⟩) dX7_qGoesOn_141 hf (fun v26 hf => ?_)
  refine v_aload_n ok 0 dX7_qGoesOn_144 rfl rfl ?_
  refine v_gI ok fl_X7_263 (fun _ _ _ => rfl) dX7_qGoesOn_145 hf (fun v27 hf => ?_)
  refine v_iconst ok 1 dX7_qGoesOn_148 rfl ?_
  refine v_isub ok dX7_qGoesOn_149 ?_
  refine v_iald ok rfl dX7_qGoesOn_150 hf (fun v28 hf => ?_)
  refine v_bipush ok 42 dX7_qGoesOn_151 rfl ?_
  refine v_icmp_ne ok 160 dX7_qGoesOn_153 rfl hf (fun hf => ?_) (fun hf => ?_)
  ·
    refine v_iconst ok 4 dX7_qGoesOn_160 rfl ?_
    refine v_istore_n ok 1 dX7_qGoesOn_161 rfl (by decide) ?_
    exact W_X7_qGoesOn_162 ok hr hd hf hk ⟨rfl, rfl, trivial⟩
  ·
    refine v_iconst ok 3 dX7_qGoesOn_156 rfl ?_
    refine v_goto ok 161 dX7_qGoesOn_157 rfl ?_
    refine v_istore_n ok 1 dX7_qGoesOn_161 rfl (by decide) ?_
    exact W_X7_qGoesOn_162 ok hr hd hf hk ⟨rfl, rfl, trivial⟩
theorem W_X7_qGoesOn_279 {G : GT} {X : CX} {d : Nat} {h0 : AH} {Q : State → Prop} (ok : Ok G X RX7 cX7_qGoesOn 2 d h0) (hr : (cxm X).sig.returnType = (Option.some Jvm.ClassFile.FieldType.boolean)) (hd : 4 ≤ d) {a0 : Nat} {x1 : Int32} {h : AH} {z : ((AH) ⊕ (Int32 × AH))} (hf : X7_qGoesOn_279 a0 x1 h = some z) (hk : pkX7_qGoesOn_247 G X h0 Q a0 x1 z) {lv : List (Nat × AV)} (hl : lle lv [(0, vr (some a0)), (1, vi x1)]) : V G X 2 h0 Q h 279 lv [] := by
  refine V.sub hl ?_
  unfold X7_qGoesOn_279 at hf
  refine v_aload_n ok 0 dX7_qGoesOn_279 rfl rfl ?_
  refine v_cVv ok (RX7, TX7, 117) cf_7.1 [] (F := fun a => X7_qDrops a h) (fun a h1 _ hv => M_X7_qDrops ok.2.2.2.2.2.2.1 (d := 2) (Nat.le_refl _) hv) (by exact Nat.le_trans (by decide) hd) cw_X7_qDrops q2294 q2296 qs99 dX7_qGoesOn_280 [] rfl (Nat.le_of_ble_eq_true rfl) hf (fun h29 hf => ?_)
  refine v_goto ok 247 dX7_qGoesOn_283 rfl ?_
  cases hf; exact hk _ ⟨rfl, rfl, trivial⟩
theorem W_X7_qGoesOn_286 {G : GT} {X : CX} {d : Nat} {h0 : AH} {Q : State → Prop} (ok : Ok G X RX7 cX7_qGoesOn 2 d h0) (hr : (cxm X).sig.returnType = (Option.some Jvm.ClassFile.FieldType.boolean)) (hd : 4 ≤ d) {a0 : Nat} {x1 : Int32} {h : AH} {z : (Int32 × AH)} (hf : X7_qGoesOn_286 a0 x1 h = some z) (hk : Q = QM G X h0 (some (vi z.1)) z.2) {lv : List (Nat × AV)} (hl : lle lv [(0, vr (some a0)), (1, vi x1)]) : V G X 2 h0 Q h 286 lv [] := by
  refine V.sub hl ?_
  unfold X7_qGoesOn_286 at hf
  refine v_aload_n ok 0 dX7_qGoesOn_286 rfl rfl ?_
  refine v_gR ok fl_X7_244 (by first | exact Or.inl ⟨_, rfl⟩ | exact Or.inr ⟨_, rfl⟩) dX7_qGoesOn_287 hf (fun v30 hf => ?_)
  refine v_aload_n ok 0 dX7_qGoesOn_290 rfl rfl ?_
  refine v_gI ok fl_X7_347 (fun _ _ _ => rfl) dX7_qGoesOn_291 hf (fun v31 hf => ?_)
  refine v_iload_n ok 1 dX7_qGoesOn_294 rfl rfl ?_
  refine v_iast ok rfl dX7_qGoesOn_295 hf (fun h32 hf => ?_)
  refine v_aload_n ok 0 dX7_qGoesOn_296 rfl rfl ?_
  refine v_dup ok dX7_qGoesOn_297 rfl ?_
  refine v_gI ok fl_X7_347 (fun _ _ _ => rfl) dX7_qGoesOn_298 hf (fun v33 hf => ?_)
  refine v_iconst ok 1 dX7_qGoesOn_301 rfl ?_
  refine v_iadd ok dX7_qGoesOn_302 ?_
  refine v_pI ok fl_X7_347 ⟨fun _ _ _ => rfl, rfl⟩ (FN.of cf_7.1 rfl) dX7_qGoesOn_303 hf (fun h34 hf => ?_)
  refine v_iconst ok 1 dX7_qGoesOn_306 rfl ?_
  exact v_zretL ok hr (by decide) (by decide) (by cases hf; exact hk) dX7_qGoesOn_307
theorem W_X7_qGoesOn_247b {G : GT} {X : CX} {d : Nat} {h0 : AH} {Q : State → Prop} (ok : Ok G X RX7 cX7_qGoesOn 2 d h0) (hr : (cxm X).sig.returnType = (Option.some Jvm.ClassFile.FieldType.boolean)) (hd : 4 ≤ d) {a0 : Nat} {x1 : Int32} {h : AH} {z : ((AH) ⊕ (Int32 × AH))} (hf : X7_qGoesOn_247b  a0 x1  h = some z) (hk : pkX7_qGoesOn_247 G X h0 Q a0 x1 z) {lv : List (Nat × AV)} (hl : lle lv [(0, vr (some a0)), (1, vi x1)]) : V G X 2 h0 Q h 247 lv [] := by
  refine V.sub hl ?_
  unfold X7_qGoesOn_247b at hf
  refine v_aload_n ok 0 dX7_qGoesOn_247 rfl rfl ?_
  refine v_iconst ok 3 dX7_qGoesOn_248 rfl ?_
  refine v_cVi ok (RX7, TX7, 117) cf_7.1 [vi 3] (F := fun a => X7_qIsOn a 3 h) (fun a v h1 _ hv => M_X7_qIsOn ok.2.2.2.2.2.2.1 (d := 1) (Nat.le_refl _) hv) (by exact Nat.le_trans (by decide) hd) cw_X7_qIsOn q2313 q2315 qs103 dX7_qGoesOn_249 [] rfl (Nat.le_of_ble_eq_true rfl) hf (fun v35 h36 hf => ?_)
  refine v_if_ne ok 279 dX7_qGoesOn_252 rfl hf (fun hf => ?_) (fun hf => ?_)
  ·
    exact W_X7_qGoesOn_279 ok hr hd hf hk ⟨rfl, rfl, trivial⟩
  ·
    refine v_aload_n ok 0 dX7_qGoesOn_255 rfl rfl ?_
    refine v_iconst ok 4 dX7_qGoesOn_256 rfl ?_
    refine v_cVi ok (RX7, TX7, 117) cf_7.1 [vi 4] (F := fun a => X7_qIsOn a 4 h36) (fun a v h1 _ hv => M_X7_qIsOn ok.2.2.2.2.2.2.1 (d := 1) (Nat.le_refl _) hv) (by exact Nat.le_trans (by decide) hd) cw_X7_qIsOn q2313 q2315 qs103 dX7_qGoesOn_257 [] rfl (Nat.le_of_ble_eq_true rfl) hf (fun v37 h38 hf => ?_)
    refine v_if_ne ok 279 dX7_qGoesOn_260 rfl hf (fun hf => ?_) (fun hf => ?_)
    ·
      exact W_X7_qGoesOn_279 ok hr hd hf hk ⟨rfl, rfl, trivial⟩
    ·
      refine v_aload_n ok 0 dX7_qGoesOn_263 rfl rfl ?_
      refine v_iconst ok 1 dX7_qGoesOn_264 rfl ?_
      refine v_cVi ok (RX7, TX7, 117) cf_7.1 [vi 1] (F := fun a => X7_qIsOn a 1 h38) (fun a v h1 _ hv => M_X7_qIsOn ok.2.2.2.2.2.2.1 (d := 1) (Nat.le_refl _) hv) (by exact Nat.le_trans (by decide) hd) cw_X7_qIsOn q2313 q2315 qs103 dX7_qGoesOn_265 [] rfl (Nat.le_of_ble_eq_true rfl) hf (fun v39 h40 hf => ?_)
      refine v_if_ne ok 279 dX7_qGoesOn_268 rfl hf (fun hf => ?_) (fun hf => ?_)
      ·
        exact W_X7_qGoesOn_279 ok hr hd hf hk ⟨rfl, rfl, trivial⟩
      ·
        refine v_aload_n ok 0 dX7_qGoesOn_271 rfl rfl ?_
        refine v_iconst ok 2 dX7_qGoesOn_272 rfl ?_
        refine v_cVi ok (RX7, TX7, 117) cf_7.1 [vi 2] (F := fun a => X7_qIsOn a 2 h40) (fun a v h1 _ hv => M_X7_qIsOn ok.2.2.2.2.2.2.1 (d := 1) (Nat.le_refl _) hv) (by exact Nat.le_trans (by decide) hd) cw_X7_qIsOn q2313 q2315 qs103 dX7_qGoesOn_273 [] rfl (Nat.le_of_ble_eq_true rfl) hf (fun v41 h42 hf => ?_)
        refine v_if_eq ok 286 dX7_qGoesOn_276 rfl hf (fun hf => ?_) (fun hf => ?_)
        ·
          obtain ⟨o, ho, hz⟩ := ob hf
          cases hz; exact W_X7_qGoesOn_286 ok hr hd ho hk ⟨rfl, rfl, trivial⟩
        ·
          exact W_X7_qGoesOn_279 ok hr hd hf hk ⟨rfl, rfl, trivial⟩
theorem W_X7_qGoesOn_247 {G : GT} {X : CX} {d : Nat} {h0 : AH} {Q : State → Prop} (ok : Ok G X RX7 cX7_qGoesOn 2 d h0) (hr : (cxm X).sig.returnType = (Option.some Jvm.ClassFile.FieldType.boolean)) (hd : 4 ≤ d) {a0 : Nat} {x1 : Int32} {h : AH} {z : (Int32 × AH)} (hf : X7_qGoesOn_247  a0 x1 h = some z) (hk : Q = QM G X h0 (some (vi z.1)) z.2) {lv : List (Nat × AV)} (hl : lle lv [(0, vr (some a0)), (1, vi x1)]) : V G X 2 h0 Q h 247 lv [] := by
  unfold X7_qGoesOn_247 at hf
  exact loopC_walk (Wh := fun s : AH => ∀ lv : List (Nat × AV), lle lv [(0, vr (some a0)), (1, vi x1)] → V G X 2 h0 Q s 247 lv []) (PK := fun z => Q = QM G X h0 (some (vi z.1)) z.2) (fun s o hf hk lv hl => W_X7_qGoesOn_247b ok hr hd hf (by cases o <;> exact hk) hl) _ z hf hk lv hl
theorem W_X7_qGoesOn_225 {G : GT} {X : CX} {d : Nat} {h0 : AH} {Q : State → Prop} (ok : Ok G X RX7 cX7_qGoesOn 2 d h0) (hr : (cxm X).sig.returnType = (Option.some Jvm.ClassFile.FieldType.boolean)) (hd : 4 ≤ d) {a0 : Nat} {h : AH} {z : (Int32 × AH)} (hf : X7_qGoesOn_225 a0 h = some z) (hk : Q = QM G X h0 (some (vi z.1)) z.2) {lv : List (Nat × AV)} (hl : lle lv [(0, vr (some a0))]) : V G X 2 h0 Q h 225 lv [] := by
  refine V.sub hl ?_
  unfold X7_qGoesOn_225 at hf
  refine v_aload_n ok 0 dX7_qGoesOn_225 rfl rfl ?_
  refine v_gR ok fl_X7_7 (by first | exact Or.inl ⟨_, rfl⟩ | exact Or.inr ⟨_, rfl⟩) dX7_qGoesOn_226 hf (fun v43 hf => ?_)
  refine v_aload_n ok 0 dX7_qGoesOn_229 rfl rfl ?_
  refine v_gI ok fl_X7_263 (fun _ _ _ => rfl) dX7_qGoesOn_230 hf (fun v44 hf => ?_)
  refine v_iconst ok 1 dX7_qGoesOn_233 rfl ?_
  refine v_isub ok dX7_qGoesOn_234 ?_
  refine v_iald ok rfl dX7_qGoesOn_235 hf (fun v45 hf => ?_)
  refine v_bipush ok 43 dX7_qGoesOn_236 rfl ?_
  refine v_icmp_ne ok 245 dX7_qGoesOn_238 rfl hf (fun hf => ?_) (fun hf => ?_)
  ·
    refine v_iconst ok 2 dX7_qGoesOn_245 rfl ?_
    refine v_istore_n ok 1 dX7_qGoesOn_246 rfl (by decide) ?_
    exact W_X7_qGoesOn_247 ok hr hd hf hk ⟨rfl, rfl, trivial⟩
  ·
    refine v_iconst ok 1 dX7_qGoesOn_241 rfl ?_
    refine v_goto ok 246 dX7_qGoesOn_242 rfl ?_
    refine v_istore_n ok 1 dX7_qGoesOn_246 rfl (by decide) ?_
    exact W_X7_qGoesOn_247 ok hr hd hf hk ⟨rfl, rfl, trivial⟩
theorem W_X7_qGoesOn_326 {G : GT} {X : CX} {d : Nat} {h0 : AH} {Q : State → Prop} (ok : Ok G X RX7 cX7_qGoesOn 2 d h0) (hr : (cxm X).sig.returnType = (Option.some Jvm.ClassFile.FieldType.boolean)) (hd : 4 ≤ d) {a0 : Nat} {h : AH} {z : (Int32 × AH)} (hf : X7_qGoesOn_326 a0 h = some z) (hk : Q = QM G X h0 (some (vi z.1)) z.2) {lv : List (Nat × AV)} (hl : lle lv [(0, vr (some a0))]) : V G X 2 h0 Q h 326 lv [] := by
  refine V.sub hl ?_
  unfold X7_qGoesOn_326 at hf
  refine v_aload_n ok 0 dX7_qGoesOn_326 rfl rfl ?_
  refine v_bipush ok 44 dX7_qGoesOn_327 rfl ?_
  refine v_cVv ok (RX7, TX7, 117) cf_7.1 [vi 44] (F := fun a => X7_asksSign a 44 h) (fun a h1 _ hv => M_X7_asksSign ok.2.2.2.2.2.2.1 (d := 3) (Nat.le_refl _) hv) (by exact Nat.le_trans (by decide) hd) cw_X7_asksSign q2278 q2280 qs95 dX7_qGoesOn_329 [] rfl (Nat.le_of_ble_eq_true rfl) hf (fun h46 hf => ?_)
  refine v_aload_n ok 0 dX7_qGoesOn_332 rfl rfl ?_
  refine v_gI ok fl_X7_257 (fun _ _ _ => rfl) dX7_qGoesOn_333 hf (fun v47 hf => ?_)
  refine v_if_eq ok 341 dX7_qGoesOn_336 rfl hf (fun hf => ?_) (fun hf => ?_)
  ·
    refine v_aload_n ok 0 dX7_qGoesOn_341 rfl rfl ?_
    refine v_cVv ok (RX7, TX7, 117) cf_7.1 [] (F := fun a => X7_qDropsToBracket a h46) (fun a h1 _ hv => M_X7_qDropsToBracket ok.2.2.2.2.2.2.1 (d := 3) (Nat.le_refl _) hv) (by exact Nat.le_trans (by decide) hd) cw_X7_qDropsToBracket q2309 q2311 qs102 dX7_qGoesOn_342 [] rfl (Nat.le_of_ble_eq_true rfl) hf (fun h48 hf => ?_)
    refine v_aload_n ok 0 dX7_qGoesOn_345 rfl rfl ?_
    refine v_gR ok fl_X7_244 (by first | exact Or.inl ⟨_, rfl⟩ | exact Or.inr ⟨_, rfl⟩) dX7_qGoesOn_346 hf (fun v49 hf => ?_)
    refine v_aload_n ok 0 dX7_qGoesOn_349 rfl rfl ?_
    refine v_gI ok fl_X7_347 (fun _ _ _ => rfl) dX7_qGoesOn_350 hf (fun v50 hf => ?_)
    refine v_iconst ok 1 dX7_qGoesOn_353 rfl ?_
    refine v_isub ok dX7_qGoesOn_354 ?_
    refine v_dup2 ok dX7_qGoesOn_355 rfl rfl ?_
    refine v_iald ok rfl dX7_qGoesOn_356 hf (fun v51 hf => ?_)
    refine v_iconst ok 2 dX7_qGoesOn_357 rfl ?_
    refine v_iadd ok dX7_qGoesOn_358 ?_
    refine v_iast ok rfl dX7_qGoesOn_359 hf (fun h52 hf => ?_)
    refine v_iconst ok 1 dX7_qGoesOn_360 rfl ?_
    exact v_zretL ok hr (by decide) (by decide) (by cases hf; exact hk) dX7_qGoesOn_361
  ·
    refine v_iconst ok 0 dX7_qGoesOn_339 rfl ?_
    exact v_zretL ok hr (by decide) (by decide) (by cases hf; exact hk) dX7_qGoesOn_340
theorem W_X7_qGoesOn_122 {G : GT} {X : CX} {d : Nat} {h0 : AH} {Q : State → Prop} (ok : Ok G X RX7 cX7_qGoesOn 2 d h0) (hr : (cxm X).sig.returnType = (Option.some Jvm.ClassFile.FieldType.boolean)) (hd : 4 ≤ d) {a0 : Nat} {h : AH} {z : (Int32 × AH)} (hf : X7_qGoesOn_122 a0 h = some z) (hk : Q = QM G X h0 (some (vi z.1)) z.2) {lv : List (Nat × AV)} (hl : lle lv [(0, vr (some a0))]) : V G X 2 h0 Q h 122 lv [] := by
  refine V.sub hl ?_
  unfold X7_qGoesOn_122 at hf
  refine v_aload_n ok 0 dX7_qGoesOn_122 rfl rfl ?_
  refine v_bipush ok 42 dX7_qGoesOn_123 rfl ?_
  refine v_cVi ok (RX7, TX7, 117) cf_7.1 [vi 42] (F := fun a => X7_takesSign a 42 h) (fun a v h1 _ hv => M_X7_takesSign ok.2.2.2.2.2.2.1 (d := 2) (Nat.le_refl _) hv) (by exact Nat.le_trans (by decide) hd) cw_X7_takesSign q2282 q2284 qs96 dX7_qGoesOn_125 [] rfl (Nat.le_of_ble_eq_true rfl) hf (fun v53 h54 hf => ?_)
  refine v_if_ne ok 140 dX7_qGoesOn_128 rfl hf (fun hf => ?_) (fun hf => ?_)
  ·
    exact W_X7_qGoesOn_140 ok hr hd hf hk ⟨rfl, trivial⟩
  ·
    refine v_aload_n ok 0 dX7_qGoesOn_131 rfl rfl ?_
    refine v_bipush ok 47 dX7_qGoesOn_132 rfl ?_
    refine v_cVi ok (RX7, TX7, 117) cf_7.1 [vi 47] (F := fun a => X7_takesSign a 47 h54) (fun a v h1 _ hv => M_X7_takesSign ok.2.2.2.2.2.2.1 (d := 2) (Nat.le_refl _) hv) (by exact Nat.le_trans (by decide) hd) cw_X7_takesSign q2282 q2284 qs96 dX7_qGoesOn_134 [] rfl (Nat.le_of_ble_eq_true rfl) hf (fun v55 h56 hf => ?_)
    refine v_if_eq ok 207 dX7_qGoesOn_137 rfl hf (fun hf => ?_) (fun hf => ?_)
    ·
      refine v_aload_n ok 0 dX7_qGoesOn_207 rfl rfl ?_
      refine v_bipush ok 43 dX7_qGoesOn_208 rfl ?_
      refine v_cVi ok (RX7, TX7, 117) cf_7.1 [vi 43] (F := fun a => X7_takesSign a 43 h56) (fun a v h1 _ hv => M_X7_takesSign ok.2.2.2.2.2.2.1 (d := 2) (Nat.le_refl _) hv) (by exact Nat.le_trans (by decide) hd) cw_X7_takesSign q2282 q2284 qs96 dX7_qGoesOn_210 [] rfl (Nat.le_of_ble_eq_true rfl) hf (fun v57 h58 hf => ?_)
      refine v_if_ne ok 225 dX7_qGoesOn_213 rfl hf (fun hf => ?_) (fun hf => ?_)
      ·
        exact W_X7_qGoesOn_225 ok hr hd hf hk ⟨rfl, trivial⟩
      ·
        refine v_aload_n ok 0 dX7_qGoesOn_216 rfl rfl ?_
        refine v_bipush ok 45 dX7_qGoesOn_217 rfl ?_
        refine v_cVi ok (RX7, TX7, 117) cf_7.1 [vi 45] (F := fun a => X7_takesSign a 45 h58) (fun a v h1 _ hv => M_X7_takesSign ok.2.2.2.2.2.2.1 (d := 2) (Nat.le_refl _) hv) (by exact Nat.le_trans (by decide) hd) cw_X7_takesSign q2282 q2284 qs96 dX7_qGoesOn_219 [] rfl (Nat.le_of_ble_eq_true rfl) hf (fun v59 h60 hf => ?_)
        refine v_if_eq ok 308 dX7_qGoesOn_222 rfl hf (fun hf => ?_) (fun hf => ?_)
        ·
          refine v_aload_n ok 0 dX7_qGoesOn_308 rfl rfl ?_
          refine v_cVi ok (RX7, TX7, 117) cf_7.1 [] (F := fun a => X7_qBracket a h60) (fun a v h1 _ hv => M_X7_qBracket ok.2.2.2.2.2.2.1 (d := 2) (Nat.le_refl _) hv) (by exact Nat.le_trans (by decide) hd) cw_X7_qBracket q2302 q2304 qs101 dX7_qGoesOn_309 [] rfl (Nat.le_of_ble_eq_true rfl) hf (fun v61 h62 hf => ?_)
          refine v_bipush ok 21 dX7_qGoesOn_312 rfl ?_
          refine v_icmp_eq ok 326 dX7_qGoesOn_314 rfl hf (fun hf => ?_) (fun hf => ?_)
          ·
            exact W_X7_qGoesOn_326 ok hr hd hf hk ⟨rfl, trivial⟩
          ·
            refine v_aload_n ok 0 dX7_qGoesOn_317 rfl rfl ?_
            refine v_cVi ok (RX7, TX7, 117) cf_7.1 [] (F := fun a => X7_qBracket a h62) (fun a v h1 _ hv => M_X7_qBracket ok.2.2.2.2.2.2.1 (d := 2) (Nat.le_refl _) hv) (by exact Nat.le_trans (by decide) hd) cw_X7_qBracket q2302 q2304 qs101 dX7_qGoesOn_318 [] rfl (Nat.le_of_ble_eq_true rfl) hf (fun v63 h64 hf => ?_)
            refine v_bipush ok 22 dX7_qGoesOn_321 rfl ?_
            refine v_icmp_ne ok 362 dX7_qGoesOn_323 rfl hf (fun hf => ?_) (fun hf => ?_)
            ·
              refine v_aload_n ok 0 dX7_qGoesOn_362 rfl rfl ?_
              refine v_cVi ok (RX7, TX7, 117) cf_7.1 [] (F := fun a => X7_qBracket a h64) (fun a v h1 _ hv => M_X7_qBracket ok.2.2.2.2.2.2.1 (d := 2) (Nat.le_refl _) hv) (by exact Nat.le_trans (by decide) hd) cw_X7_qBracket q2302 q2304 qs101 dX7_qGoesOn_363 [] rfl (Nat.le_of_ble_eq_true rfl) hf (fun v65 h66 hf => ?_)
              refine v_iconst ok (-1) dX7_qGoesOn_366 rfl ?_
              refine v_icmp_eq ok 386 dX7_qGoesOn_367 rfl hf (fun hf => ?_) (fun hf => ?_)
              ·
                refine v_iconst ok 0 dX7_qGoesOn_386 rfl ?_
                exact v_zretL ok hr (by decide) (by decide) (by cases hf; exact hk) dX7_qGoesOn_387
              ·
                refine v_aload_n ok 0 dX7_qGoesOn_370 rfl rfl ?_
                refine v_gI ok fl_X7_257 (fun _ _ _ => rfl) dX7_qGoesOn_371 hf (fun v67 hf => ?_)
                refine v_if_ne ok 386 dX7_qGoesOn_374 rfl hf (fun hf => ?_) (fun hf => ?_)
                ·
                  refine v_iconst ok 0 dX7_qGoesOn_386 rfl ?_
                  exact v_zretL ok hr (by decide) (by decide) (by cases hf; exact hk) dX7_qGoesOn_387
                ·
                  refine v_aload_n ok 0 dX7_qGoesOn_377 rfl rfl ?_
                  refine v_iconst ok 1 dX7_qGoesOn_378 rfl ?_
                  refine v_aload_n ok 0 dX7_qGoesOn_379 rfl rfl ?_
                  refine v_gI ok fl_X7_263 (fun _ _ _ => rfl) dX7_qGoesOn_380 hf (fun v68 hf => ?_)
                  refine v_cVv ok (RX7, TX7, 117) cf_7.1 [vi 1, vi v68] (F := fun a => X7_fail a 1 v68 h66) (fun a h1 _ hv => M_X7_fail ok.2.2.2.2.2.2.1 (d := 1) (Nat.le_refl _) hv) (by exact Nat.le_trans (by decide) hd) cw_X7_fail q2177 q2179 qs72 dX7_qGoesOn_383 [] rfl (Nat.le_of_ble_eq_true rfl) hf (fun h69 hf => ?_)
                  refine v_iconst ok 0 dX7_qGoesOn_386 rfl ?_
                  exact v_zretL ok hr (by decide) (by decide) (by cases hf; exact hk) dX7_qGoesOn_387
            ·
              exact W_X7_qGoesOn_326 ok hr hd hf hk ⟨rfl, trivial⟩
        ·
          exact W_X7_qGoesOn_225 ok hr hd hf hk ⟨rfl, trivial⟩
    ·
      exact W_X7_qGoesOn_140 ok hr hd hf hk ⟨rfl, trivial⟩
theorem W_X7_qGoesOn_0b {G : GT} {X : CX} {d : Nat} {h0 : AH} {Q : State → Prop} (ok : Ok G X RX7 cX7_qGoesOn 2 d h0) (hr : (cxm X).sig.returnType = (Option.some Jvm.ClassFile.FieldType.boolean)) (hd : 4 ≤ d) {a0 : Nat} {h : AH} {z : ((AH) ⊕ (Int32 × AH))} (hf : X7_qGoesOn_0b  a0  h = some z) (hk : pkX7_qGoesOn_0 G X h0 Q a0 z) {lv : List (Nat × AV)} (hl : lle lv [(0, vr (some a0))]) : V G X 2 h0 Q h 0 lv [] := by
  refine V.sub hl ?_
  unfold X7_qGoesOn_0b at hf
  refine v_aload_n ok 0 dX7_qGoesOn_0 rfl rfl ?_
  refine v_gI ok fl_X7_257 (fun _ _ _ => rfl) dX7_qGoesOn_1 hf (fun v70 hf => ?_)
  refine v_if_ne ok 122 dX7_qGoesOn_4 rfl hf (fun hf => ?_) (fun hf => ?_)
  ·
    obtain ⟨o, ho, hz⟩ := ob hf
    cases hz; exact W_X7_qGoesOn_122 ok hr hd ho hk ⟨rfl, trivial⟩
  ·
    refine v_aload_n ok 0 dX7_qGoesOn_7 rfl rfl ?_
    refine v_cVi ok (RX7, TX7, 117) cf_7.1 [] (F := fun a => X7_look a h) (fun a v h1 _ hv => M_X7_look ok.2.2.2.2.2.2.1 (d := 1) (Nat.le_refl _) hv) (by exact Nat.le_trans (by decide) hd) cw_X7_look q2169 q2171 qs70 dX7_qGoesOn_8 [] rfl (Nat.le_of_ble_eq_true rfl) hf (fun v71 h72 hf => ?_)
    refine v_bipush ok 41 dX7_qGoesOn_11 rfl ?_
    refine v_icmp_ne ok 122 dX7_qGoesOn_13 rfl hf (fun hf => ?_) (fun hf => ?_)
    ·
      obtain ⟨o, ho, hz⟩ := ob hf
      cases hz; exact W_X7_qGoesOn_122 ok hr hd ho hk ⟨rfl, trivial⟩
    ·
      refine v_aload_n ok 0 dX7_qGoesOn_16 rfl rfl ?_
      refine v_cVi ok (RX7, TX7, 117) cf_7.1 [] (F := fun a => X7_qBracket a h72) (fun a v h1 _ hv => M_X7_qBracket ok.2.2.2.2.2.2.1 (d := 2) (Nat.le_refl _) hv) (by exact Nat.le_trans (by decide) hd) cw_X7_qBracket q2302 q2304 qs101 dX7_qGoesOn_17 [] rfl (Nat.le_of_ble_eq_true rfl) hf (fun v73 h74 hf => ?_)
      refine v_bipush ok 20 dX7_qGoesOn_20 rfl ?_
      refine v_icmp_eq ok 43 dX7_qGoesOn_22 rfl hf (fun hf => ?_) (fun hf => ?_)
      ·
        exact W_X7_qGoesOn_43 ok hr hd hf hk ⟨rfl, trivial⟩
      ·
        refine v_aload_n ok 0 dX7_qGoesOn_25 rfl rfl ?_
        refine v_cVi ok (RX7, TX7, 117) cf_7.1 [] (F := fun a => X7_qBracket a h74) (fun a v h1 _ hv => M_X7_qBracket ok.2.2.2.2.2.2.1 (d := 2) (Nat.le_refl _) hv) (by exact Nat.le_trans (by decide) hd) cw_X7_qBracket q2302 q2304 qs101 dX7_qGoesOn_26 [] rfl (Nat.le_of_ble_eq_true rfl) hf (fun v75 h76 hf => ?_)
        refine v_bipush ok 23 dX7_qGoesOn_29 rfl ?_
        refine v_icmp_eq ok 43 dX7_qGoesOn_31 rfl hf (fun hf => ?_) (fun hf => ?_)
        ·
          exact W_X7_qGoesOn_43 ok hr hd hf hk ⟨rfl, trivial⟩
        ·
          refine v_aload_n ok 0 dX7_qGoesOn_34 rfl rfl ?_
          refine v_cVi ok (RX7, TX7, 117) cf_7.1 [] (F := fun a => X7_qBracket a h76) (fun a v h1 _ hv => M_X7_qBracket ok.2.2.2.2.2.2.1 (d := 2) (Nat.le_refl _) hv) (by exact Nat.le_trans (by decide) hd) cw_X7_qBracket q2302 q2304 qs101 dX7_qGoesOn_35 [] rfl (Nat.le_of_ble_eq_true rfl) hf (fun v77 h78 hf => ?_)
          refine v_bipush ok 24 dX7_qGoesOn_38 rfl ?_
          refine v_icmp_ne ok 122 dX7_qGoesOn_40 rfl hf (fun hf => ?_) (fun hf => ?_)
          ·
            obtain ⟨o, ho, hz⟩ := ob hf
            cases hz; exact W_X7_qGoesOn_122 ok hr hd ho hk ⟨rfl, trivial⟩
          ·
            exact W_X7_qGoesOn_43 ok hr hd hf hk ⟨rfl, trivial⟩
theorem W_X7_qGoesOn {G : GT} {X : CX} {d : Nat} {h0 : AH} {Q : State → Prop} (ok : Ok G X RX7 cX7_qGoesOn 2 d h0) (hr : (cxm X).sig.returnType = (Option.some Jvm.ClassFile.FieldType.boolean)) (hd : 4 ≤ d) {a0 : Nat} {h : AH} {z : (Int32 × AH)} (hf : X7_qGoesOn  a0 h = some z) (hk : Q = QM G X h0 (some (vi z.1)) z.2) {lv : List (Nat × AV)} (hl : lle lv [(0, vr (some a0))]) : V G X 2 h0 Q h 0 lv [] := by
  unfold X7_qGoesOn at hf
  exact loopC_walk (Wh := fun s : AH => ∀ lv : List (Nat × AV), lle lv [(0, vr (some a0))] → V G X 2 h0 Q s 0 lv []) (PK := fun z => Q = QM G X h0 (some (vi z.1)) z.2) (fun s o hf hk lv hl => W_X7_qGoesOn_0b ok hr hd hf (by cases o <;> exact hk) hl) _ z hf hk lv hl
theorem M_X7_qGoesOn {G : GT} {l : Launch} (hG : Glob G) {d : Nat} (hd : 4 ≤ d) {a0 : Nat} {h : AH} {v : Int32} {h' : AH} (hf : X7_qGoesOn a0 h = some (v, h')) : MM G l yX7_qGoesOn cX7_qGoesOn 2 (Option.some Jvm.ClassFile.FieldType.boolean) d [vr (some a0)] h (some (vi v)) h' := by
  refine mm_of hG (plainFor_of_name (by decide)) (Nat.le_of_ble_eq_true rfl) (fun X hX ok hr hnm => ?_)
  subst hX
  exact W_X7_qGoesOn ok hr hd hf rfl ⟨rfl, trivial⟩
theorem cw_X7_qAsksWord : CW yX7_qAsksWord cX7_qAsksWord 2 none 1 := ⟨q2289, q185, ⟨by decide, by decide⟩, by decide +kernel, by decide⟩
theorem W_X7_qAsksWord {G : GT} {X : CX} {d : Nat} {h0 : AH} {Q : State → Prop} (ok : Ok G X RX7 cX7_qAsksWord 2 d h0) (hr : (cxm X).sig.returnType = none) (hd : 5 ≤ d) {a0 : Nat} {x1 : Int32} {h : AH} {z : (AH)} (hf : X7_qAsksWord a0 x1 h = some z) (hk : Q = QM G X h0 none z) {lv : List (Nat × AV)} (hl : lle lv [(0, vr (some a0)), (1, vi x1)]) : V G X 2 h0 Q h 0 lv [] := by
  refine V.sub hl ?_
  unfold X7_qAsksWord at hf
  refine v_iload_n ok 1 dX7_qAsksWord_0 rfl rfl ?_
  refine sw_if (v := 0) hf (fun e_ hf => ?_) (fun n1 hf => ?_)
  ·
    refine v_tableIn ok 0 60 dX7_qAsksWord_1 e_ (by decide) (by decide) rfl rfl ?_
    refine v_aload_n ok 0 dX7_qAsksWord_60 rfl rfl ?_
    refine v_aload_n ok 0 dX7_qAsksWord_61 rfl rfl ?_
    refine v_gR ok fl_X7_205 (by first | exact Or.inl ⟨_, rfl⟩ | exact Or.inr ⟨_, rfl⟩) dX7_qAsksWord_62 hf (fun v2 hf => ?_)
    refine v_cVv ok (RX7, TX7, 117) cf_7.1 [vr v2] (F := fun a => X7_asks a v2 h) (fun a h1 _ hv => M_X7_asks ok.2.2.2.2.2.2.1 (d := 4) (Nat.le_refl _) hv) (by exact Nat.le_trans (by decide) hd) cw_X7_asks q2204 q2206 qs78 dX7_qAsksWord_65 [] rfl (Nat.le_of_ble_eq_true rfl) hf (fun h3 hf => ?_)
    refine v_goto ok 189 dX7_qAsksWord_68 rfl ?_
    exact v_vret ok hr (by cases hf; exact hk) dX7_qAsksWord_189
  ·
    refine sw_if (v := 1) hf (fun e_ hf => ?_) (fun n4 hf => ?_)
    ·
      refine v_tableIn ok 1 71 dX7_qAsksWord_1 e_ (by decide) (by decide) rfl rfl ?_
      refine v_aload_n ok 0 dX7_qAsksWord_71 rfl rfl ?_
      refine v_aload_n ok 0 dX7_qAsksWord_72 rfl rfl ?_
      refine v_gR ok fl_X7_208 (by first | exact Or.inl ⟨_, rfl⟩ | exact Or.inr ⟨_, rfl⟩) dX7_qAsksWord_73 hf (fun v5 hf => ?_)
      refine v_cVv ok (RX7, TX7, 117) cf_7.1 [vr v5] (F := fun a => X7_asks a v5 h) (fun a h1 _ hv => M_X7_asks ok.2.2.2.2.2.2.1 (d := 4) (Nat.le_refl _) hv) (by exact Nat.le_trans (by decide) hd) cw_X7_asks q2204 q2206 qs78 dX7_qAsksWord_76 [] rfl (Nat.le_of_ble_eq_true rfl) hf (fun h6 hf => ?_)
      refine v_goto ok 189 dX7_qAsksWord_79 rfl ?_
      exact v_vret ok hr (by cases hf; exact hk) dX7_qAsksWord_189
    ·
      refine sw_if (v := 2) hf (fun e_ hf => ?_) (fun n7 hf => ?_)
      ·
        refine v_tableIn ok 2 82 dX7_qAsksWord_1 e_ (by decide) (by decide) rfl rfl ?_
        refine v_aload_n ok 0 dX7_qAsksWord_82 rfl rfl ?_
        refine v_aload_n ok 0 dX7_qAsksWord_83 rfl rfl ?_
        refine v_gR ok fl_X7_211 (by first | exact Or.inl ⟨_, rfl⟩ | exact Or.inr ⟨_, rfl⟩) dX7_qAsksWord_84 hf (fun v8 hf => ?_)
        refine v_cVv ok (RX7, TX7, 117) cf_7.1 [vr v8] (F := fun a => X7_asks a v8 h) (fun a h1 _ hv => M_X7_asks ok.2.2.2.2.2.2.1 (d := 4) (Nat.le_refl _) hv) (by exact Nat.le_trans (by decide) hd) cw_X7_asks q2204 q2206 qs78 dX7_qAsksWord_87 [] rfl (Nat.le_of_ble_eq_true rfl) hf (fun h9 hf => ?_)
        refine v_goto ok 189 dX7_qAsksWord_90 rfl ?_
        exact v_vret ok hr (by cases hf; exact hk) dX7_qAsksWord_189
      ·
        refine sw_if (v := 3) hf (fun e_ hf => ?_) (fun n10 hf => ?_)
        ·
          refine v_tableIn ok 3 93 dX7_qAsksWord_1 e_ (by decide) (by decide) rfl rfl ?_
          refine v_aload_n ok 0 dX7_qAsksWord_93 rfl rfl ?_
          refine v_aload_n ok 0 dX7_qAsksWord_94 rfl rfl ?_
          refine v_gR ok fl_X7_214 (by first | exact Or.inl ⟨_, rfl⟩ | exact Or.inr ⟨_, rfl⟩) dX7_qAsksWord_95 hf (fun v11 hf => ?_)
          refine v_cVv ok (RX7, TX7, 117) cf_7.1 [vr v11] (F := fun a => X7_asks a v11 h) (fun a h1 _ hv => M_X7_asks ok.2.2.2.2.2.2.1 (d := 4) (Nat.le_refl _) hv) (by exact Nat.le_trans (by decide) hd) cw_X7_asks q2204 q2206 qs78 dX7_qAsksWord_98 [] rfl (Nat.le_of_ble_eq_true rfl) hf (fun h12 hf => ?_)
          refine v_goto ok 189 dX7_qAsksWord_101 rfl ?_
          exact v_vret ok hr (by cases hf; exact hk) dX7_qAsksWord_189
        ·
          refine sw_if (v := 4) hf (fun e_ hf => ?_) (fun n13 hf => ?_)
          ·
            refine v_tableIn ok 4 104 dX7_qAsksWord_1 e_ (by decide) (by decide) rfl rfl ?_
            refine v_aload_n ok 0 dX7_qAsksWord_104 rfl rfl ?_
            refine v_aload_n ok 0 dX7_qAsksWord_105 rfl rfl ?_
            refine v_gR ok fl_X7_217 (by first | exact Or.inl ⟨_, rfl⟩ | exact Or.inr ⟨_, rfl⟩) dX7_qAsksWord_106 hf (fun v14 hf => ?_)
            refine v_cVv ok (RX7, TX7, 117) cf_7.1 [vr v14] (F := fun a => X7_asks a v14 h) (fun a h1 _ hv => M_X7_asks ok.2.2.2.2.2.2.1 (d := 4) (Nat.le_refl _) hv) (by exact Nat.le_trans (by decide) hd) cw_X7_asks q2204 q2206 qs78 dX7_qAsksWord_109 [] rfl (Nat.le_of_ble_eq_true rfl) hf (fun h15 hf => ?_)
            refine v_goto ok 189 dX7_qAsksWord_112 rfl ?_
            exact v_vret ok hr (by cases hf; exact hk) dX7_qAsksWord_189
          ·
            refine sw_if (v := 5) hf (fun e_ hf => ?_) (fun n16 hf => ?_)
            ·
              refine v_tableIn ok 5 115 dX7_qAsksWord_1 e_ (by decide) (by decide) rfl rfl ?_
              refine v_aload_n ok 0 dX7_qAsksWord_115 rfl rfl ?_
              refine v_aload_n ok 0 dX7_qAsksWord_116 rfl rfl ?_
              refine v_gR ok fl_X7_220 (by first | exact Or.inl ⟨_, rfl⟩ | exact Or.inr ⟨_, rfl⟩) dX7_qAsksWord_117 hf (fun v17 hf => ?_)
              refine v_cVv ok (RX7, TX7, 117) cf_7.1 [vr v17] (F := fun a => X7_asks a v17 h) (fun a h1 _ hv => M_X7_asks ok.2.2.2.2.2.2.1 (d := 4) (Nat.le_refl _) hv) (by exact Nat.le_trans (by decide) hd) cw_X7_asks q2204 q2206 qs78 dX7_qAsksWord_120 [] rfl (Nat.le_of_ble_eq_true rfl) hf (fun h18 hf => ?_)
              refine v_goto ok 189 dX7_qAsksWord_123 rfl ?_
              exact v_vret ok hr (by cases hf; exact hk) dX7_qAsksWord_189
            ·
              refine sw_if (v := 6) hf (fun e_ hf => ?_) (fun n19 hf => ?_)
              ·
                refine v_tableIn ok 6 126 dX7_qAsksWord_1 e_ (by decide) (by decide) rfl rfl ?_
                refine v_aload_n ok 0 dX7_qAsksWord_126 rfl rfl ?_
                refine v_aload_n ok 0 dX7_qAsksWord_127 rfl rfl ?_
                refine v_gR ok fl_X7_223 (by first | exact Or.inl ⟨_, rfl⟩ | exact Or.inr ⟨_, rfl⟩) dX7_qAsksWord_128 hf (fun v20 hf => ?_)
                refine v_cVv ok (RX7, TX7, 117) cf_7.1 [vr v20] (F := fun a => X7_asks a v20 h) (fun a h1 _ hv => M_X7_asks ok.2.2.2.2.2.2.1 (d := 4) (Nat.le_refl _) hv) (by exact Nat.le_trans (by decide) hd) cw_X7_asks q2204 q2206 qs78 dX7_qAsksWord_131 [] rfl (Nat.le_of_ble_eq_true rfl) hf (fun h21 hf => ?_)
                refine v_goto ok 189 dX7_qAsksWord_134 rfl ?_
                exact v_vret ok hr (by cases hf; exact hk) dX7_qAsksWord_189
              ·
                refine sw_if (v := 7) hf (fun e_ hf => ?_) (fun n22 hf => ?_)
                ·
                  refine v_tableIn ok 7 137 dX7_qAsksWord_1 e_ (by decide) (by decide) rfl rfl ?_
                  refine v_aload_n ok 0 dX7_qAsksWord_137 rfl rfl ?_
                  refine v_aload_n ok 0 dX7_qAsksWord_138 rfl rfl ?_
                  refine v_gR ok fl_X7_226 (by first | exact Or.inl ⟨_, rfl⟩ | exact Or.inr ⟨_, rfl⟩) dX7_qAsksWord_139 hf (fun v23 hf => ?_)
                  refine v_cVv ok (RX7, TX7, 117) cf_7.1 [vr v23] (F := fun a => X7_asks a v23 h) (fun a h1 _ hv => M_X7_asks ok.2.2.2.2.2.2.1 (d := 4) (Nat.le_refl _) hv) (by exact Nat.le_trans (by decide) hd) cw_X7_asks q2204 q2206 qs78 dX7_qAsksWord_142 [] rfl (Nat.le_of_ble_eq_true rfl) hf (fun h24 hf => ?_)
                  refine v_goto ok 189 dX7_qAsksWord_145 rfl ?_
                  exact v_vret ok hr (by cases hf; exact hk) dX7_qAsksWord_189
                ·
                  refine sw_if (v := 8) hf (fun e_ hf => ?_) (fun n25 hf => ?_)
                  ·
                    refine v_tableIn ok 8 148 dX7_qAsksWord_1 e_ (by decide) (by decide) rfl rfl ?_
                    refine v_aload_n ok 0 dX7_qAsksWord_148 rfl rfl ?_
                    refine v_aload_n ok 0 dX7_qAsksWord_149 rfl rfl ?_
                    refine v_gR ok fl_X7_229 (by first | exact Or.inl ⟨_, rfl⟩ | exact Or.inr ⟨_, rfl⟩) dX7_qAsksWord_150 hf (fun v26 hf => ?_)
                    refine v_cVv ok (RX7, TX7, 117) cf_7.1 [vr v26] (F := fun a => X7_asks a v26 h) (fun a h1 _ hv => M_X7_asks ok.2.2.2.2.2.2.1 (d := 4) (Nat.le_refl _) hv) (by exact Nat.le_trans (by decide) hd) cw_X7_asks q2204 q2206 qs78 dX7_qAsksWord_153 [] rfl (Nat.le_of_ble_eq_true rfl) hf (fun h27 hf => ?_)
                    refine v_goto ok 189 dX7_qAsksWord_156 rfl ?_
                    exact v_vret ok hr (by cases hf; exact hk) dX7_qAsksWord_189
                  ·
                    refine sw_if (v := 9) hf (fun e_ hf => ?_) (fun n28 hf => ?_)
                    ·
                      refine v_tableIn ok 9 159 dX7_qAsksWord_1 e_ (by decide) (by decide) rfl rfl ?_
                      refine v_aload_n ok 0 dX7_qAsksWord_159 rfl rfl ?_
                      refine v_aload_n ok 0 dX7_qAsksWord_160 rfl rfl ?_
                      refine v_gR ok fl_X7_232 (by first | exact Or.inl ⟨_, rfl⟩ | exact Or.inr ⟨_, rfl⟩) dX7_qAsksWord_161 hf (fun v29 hf => ?_)
                      refine v_cVv ok (RX7, TX7, 117) cf_7.1 [vr v29] (F := fun a => X7_asks a v29 h) (fun a h1 _ hv => M_X7_asks ok.2.2.2.2.2.2.1 (d := 4) (Nat.le_refl _) hv) (by exact Nat.le_trans (by decide) hd) cw_X7_asks q2204 q2206 qs78 dX7_qAsksWord_164 [] rfl (Nat.le_of_ble_eq_true rfl) hf (fun h30 hf => ?_)
                      refine v_goto ok 189 dX7_qAsksWord_167 rfl ?_
                      exact v_vret ok hr (by cases hf; exact hk) dX7_qAsksWord_189
                    ·
                      refine sw_if (v := 10) hf (fun e_ hf => ?_) (fun n31 hf => ?_)
                      ·
                        refine v_tableIn ok 10 170 dX7_qAsksWord_1 e_ (by decide) (by decide) rfl rfl ?_
                        refine v_aload_n ok 0 dX7_qAsksWord_170 rfl rfl ?_
                        refine v_aload_n ok 0 dX7_qAsksWord_171 rfl rfl ?_
                        refine v_gR ok fl_X7_235 (by first | exact Or.inl ⟨_, rfl⟩ | exact Or.inr ⟨_, rfl⟩) dX7_qAsksWord_172 hf (fun v32 hf => ?_)
                        refine v_cVv ok (RX7, TX7, 117) cf_7.1 [vr v32] (F := fun a => X7_asks a v32 h) (fun a h1 _ hv => M_X7_asks ok.2.2.2.2.2.2.1 (d := 4) (Nat.le_refl _) hv) (by exact Nat.le_trans (by decide) hd) cw_X7_asks q2204 q2206 qs78 dX7_qAsksWord_175 [] rfl (Nat.le_of_ble_eq_true rfl) hf (fun h33 hf => ?_)
                        refine v_goto ok 189 dX7_qAsksWord_178 rfl ?_
                        exact v_vret ok hr (by cases hf; exact hk) dX7_qAsksWord_189
                      ·
                        have n1 := ne_toI 0 (by decide) n1
                        have n4 := ne_toI 1 (by decide) n4
                        have n7 := ne_toI 2 (by decide) n7
                        have n10 := ne_toI 3 (by decide) n10
                        have n13 := ne_toI 4 (by decide) n13
                        have n16 := ne_toI 5 (by decide) n16
                        have n19 := ne_toI 6 (by decide) n19
                        have n22 := ne_toI 7 (by decide) n22
                        have n25 := ne_toI 8 (by decide) n25
                        have n28 := ne_toI 9 (by decide) n28
                        have n31 := ne_toI 10 (by decide) n31
                        refine v_tableOut ok 181 dX7_qAsksWord_1 (by omega) rfl ?_
                        refine v_aload_n ok 0 dX7_qAsksWord_181 rfl rfl ?_
                        refine v_aload_n ok 0 dX7_qAsksWord_182 rfl rfl ?_
                        refine v_gR ok fl_X7_238 (by first | exact Or.inl ⟨_, rfl⟩ | exact Or.inr ⟨_, rfl⟩) dX7_qAsksWord_183 hf (fun v34 hf => ?_)
                        refine v_cVv ok (RX7, TX7, 117) cf_7.1 [vr v34] (F := fun a => X7_asks a v34 h) (fun a h1 _ hv => M_X7_asks ok.2.2.2.2.2.2.1 (d := 4) (Nat.le_refl _) hv) (by exact Nat.le_trans (by decide) hd) cw_X7_asks q2204 q2206 qs78 dX7_qAsksWord_186 [] rfl (Nat.le_of_ble_eq_true rfl) hf (fun h35 hf => ?_)
                        exact v_vret ok hr (by cases hf; exact hk) dX7_qAsksWord_189
theorem M_X7_qAsksWord {G : GT} {l : Launch} (hG : Glob G) {d : Nat} (hd : 5 ≤ d) {a0 : Nat} {x1 : Int32} {h : AH} {h' : AH} (hf : X7_qAsksWord a0 x1 h = some h') : MM G l yX7_qAsksWord cX7_qAsksWord 2 none d [vr (some a0), vi x1] h none h' := by
  refine mm_of hG (plainFor_of_name (by decide)) (Nat.le_of_ble_eq_true rfl) (fun X hX ok hr hnm => ?_)
  subst hX
  exact W_X7_qAsksWord ok hr hd hf rfl ⟨rfl, rfl, trivial⟩
theorem cw_X7_qOpens : CW yX7_qOpens cX7_qOpens 3 none 2 := ⟨q2249, q185, ⟨by decide, by decide⟩, by decide +kernel, by decide⟩
theorem W_X7_qOpens {G : GT} {X : CX} {d : Nat} {h0 : AH} {Q : State → Prop} (ok : Ok G X RX7 cX7_qOpens 3 d h0) (hr : (cxm X).sig.returnType = none) (hd : 2 ≤ d) {a0 : Nat} {x1 : Int32} {x2 : Int32} {h : AH} {z : (AH)} (hf : X7_qOpens a0 x1 x2 h = some z) (hk : Q = QM G X h0 none z) {lv : List (Nat × AV)} (hl : lle lv [(0, vr (some a0)), (1, vi x1), (2, vi x2)]) : V G X 3 h0 Q h 0 lv [] := by
  refine V.sub hl ?_
  unfold X7_qOpens at hf
  refine v_aload_n ok 0 dX7_qOpens_0 rfl rfl ?_
  refine v_gI ok fl_X7_257 (fun _ _ _ => rfl) dX7_qOpens_1 hf (fun v1 hf => ?_)
  refine v_if_eq ok 8 dX7_qOpens_4 rfl hf (fun hf => ?_) (fun hf => ?_)
  ·
    refine v_aload_n ok 0 dX7_qOpens_8 rfl rfl ?_
    refine v_gI ok fl_X7_350 (fun _ _ _ => rfl) dX7_qOpens_9 hf (fun v2 hf => ?_)
    refine v_bipush ok 6 dX7_qOpens_12 rfl ?_
    refine v_icmp_ne ok 24 dX7_qOpens_14 rfl hf (fun hf => ?_) (fun hf => ?_)
    ·
      refine v_aload_n ok 0 dX7_qOpens_24 rfl rfl ?_
      refine v_dup ok dX7_qOpens_25 rfl ?_
      refine v_gI ok fl_X7_350 (fun _ _ _ => rfl) dX7_qOpens_26 hf (fun v3 hf => ?_)
      refine v_iconst ok 1 dX7_qOpens_29 rfl ?_
      refine v_iadd ok dX7_qOpens_30 ?_
      refine v_pI ok fl_X7_350 ⟨fun _ _ _ => rfl, rfl⟩ (FN.of cf_7.1 rfl) dX7_qOpens_31 hf (fun h4 hf => ?_)
      refine v_aload_n ok 0 dX7_qOpens_34 rfl rfl ?_
      refine v_gR ok fl_X7_244 (by first | exact Or.inl ⟨_, rfl⟩ | exact Or.inr ⟨_, rfl⟩) dX7_qOpens_35 hf (fun v5 hf => ?_)
      refine v_aload_n ok 0 dX7_qOpens_38 rfl rfl ?_
      refine v_gI ok fl_X7_347 (fun _ _ _ => rfl) dX7_qOpens_39 hf (fun v6 hf => ?_)
      refine v_iload_n ok 1 dX7_qOpens_42 rfl rfl ?_
      refine v_iast ok rfl dX7_qOpens_43 hf (fun h7 hf => ?_)
      refine v_aload_n ok 0 dX7_qOpens_44 rfl rfl ?_
      refine v_dup ok dX7_qOpens_45 rfl ?_
      refine v_gI ok fl_X7_347 (fun _ _ _ => rfl) dX7_qOpens_46 hf (fun v8 hf => ?_)
      refine v_iconst ok 1 dX7_qOpens_49 rfl ?_
      refine v_iadd ok dX7_qOpens_50 ?_
      refine v_pI ok fl_X7_347 ⟨fun _ _ _ => rfl, rfl⟩ (FN.of cf_7.1 rfl) dX7_qOpens_51 hf (fun h9 hf => ?_)
      exact v_vret ok hr (by cases hf; exact hk) dX7_qOpens_54
    ·
      refine v_aload_n ok 0 dX7_qOpens_17 rfl rfl ?_
      refine v_iconst ok 4 dX7_qOpens_18 rfl ?_
      refine v_iload_n ok 2 dX7_qOpens_19 rfl rfl ?_
      refine v_cVv ok (RX7, TX7, 117) cf_7.1 [vi 4, vi x2] (F := fun a => X7_fail a 4 x2 h) (fun a h1 _ hv => M_X7_fail ok.2.2.2.2.2.2.1 (d := 1) (Nat.le_refl _) hv) (by exact Nat.le_trans (by decide) hd) cw_X7_fail q2177 q2179 qs72 dX7_qOpens_20 [] rfl (Nat.le_of_ble_eq_true rfl) hf (fun h10 hf => ?_)
      exact v_vret ok hr (by cases hf; exact hk) dX7_qOpens_23
  ·
    exact v_vret ok hr (by cases hf; exact hk) dX7_qOpens_7
theorem M_X7_qOpens {G : GT} {l : Launch} (hG : Glob G) {d : Nat} (hd : 2 ≤ d) {a0 : Nat} {x1 : Int32} {x2 : Int32} {h : AH} {h' : AH} (hf : X7_qOpens a0 x1 x2 h = some h') : MM G l yX7_qOpens cX7_qOpens 3 none d [vr (some a0), vi x1, vi x2] h none h' := by
  refine mm_of hG (plainFor_of_name (by decide)) (Nat.le_of_ble_eq_true rfl) (fun X hX ok hr hnm => ?_)
  subst hX
  exact W_X7_qOpens ok hr hd hf rfl ⟨rfl, rfl, rfl, trivial⟩
theorem cw_X7_isAllowed : CW yX7_isAllowed cX7_isAllowed 2 (Option.some Jvm.ClassFile.FieldType.boolean) 1 := ⟨q2277, q185, ⟨by decide, by decide⟩, by decide +kernel, by decide⟩
theorem W_X7_isAllowed {G : GT} {X : CX} {d : Nat} {h0 : AH} {Q : State → Prop} (ok : Ok G X RX7 cX7_isAllowed 2 d h0) (hr : (cxm X).sig.returnType = (Option.some Jvm.ClassFile.FieldType.boolean)) (hd : 1 ≤ d) {a0 : Nat} {x1 : Int32} {h : AH} {z : (Int32 × AH)} (hf : X7_isAllowed a0 x1 h = some z) (hk : Q = QM G X h0 (some (vi z.1)) z.2) {lv : List (Nat × AV)} (hl : lle lv [(0, vr (some a0)), (1, vi x1)]) : V G X 2 h0 Q h 0 lv [] := by
  refine V.sub hl ?_
  unfold X7_isAllowed at hf
  refine v_aload_n ok 0 dX7_isAllowed_0 rfl rfl ?_
  refine v_gI ok fl_X7_314 (fun _ _ _ => rfl) dX7_isAllowed_1 hf (fun v1 hf => ?_)
  refine v_if_ne ok 20 dX7_isAllowed_4 rfl hf (fun hf => ?_) (fun hf => ?_)
  ·
    refine v_aload_n ok 0 dX7_isAllowed_20 rfl rfl ?_
    refine v_gI ok fl_X7_314 (fun _ _ _ => rfl) dX7_isAllowed_21 hf (fun v2 hf => ?_)
    refine v_iconst ok 1 dX7_isAllowed_24 rfl ?_
    refine v_icmp_ne ok 47 dX7_isAllowed_25 rfl hf (fun hf => ?_) (fun hf => ?_)
    ·
      refine v_iload_n ok 1 dX7_isAllowed_47 rfl rfl ?_
      refine v_iconst ok 2 dX7_isAllowed_48 rfl ?_
      refine v_icmp_eq ok 58 dX7_isAllowed_49 rfl hf (fun hf => ?_) (fun hf => ?_)
      ·
        refine v_iconst ok 1 dX7_isAllowed_58 rfl ?_
        refine v_goto ok 63 dX7_isAllowed_59 rfl ?_
        exact v_zretL ok hr (by decide) (by decide) (by cases hf; exact hk) dX7_isAllowed_63
      ·
        refine v_iload_n ok 1 dX7_isAllowed_52 rfl rfl ?_
        refine v_bipush ok 6 dX7_isAllowed_53 rfl ?_
        refine v_icmp_le ok 62 dX7_isAllowed_55 rfl hf (fun hf => ?_) (fun hf => ?_)
        ·
          refine v_iconst ok 0 dX7_isAllowed_62 rfl ?_
          exact v_zretL ok hr (by decide) (by decide) (by cases hf; exact hk) dX7_isAllowed_63
        ·
          refine v_iconst ok 1 dX7_isAllowed_58 rfl ?_
          refine v_goto ok 63 dX7_isAllowed_59 rfl ?_
          exact v_zretL ok hr (by decide) (by decide) (by cases hf; exact hk) dX7_isAllowed_63
    ·
      refine v_iload_n ok 1 dX7_isAllowed_28 rfl rfl ?_
      refine v_iconst ok 2 dX7_isAllowed_29 rfl ?_
      refine v_icmp_le ok 43 dX7_isAllowed_30 rfl hf (fun hf => ?_) (fun hf => ?_)
      ·
        refine v_iconst ok 0 dX7_isAllowed_43 rfl ?_
        refine v_goto ok 63 dX7_isAllowed_44 rfl ?_
        exact v_zretL ok hr (by decide) (by decide) (by cases hf; exact hk) dX7_isAllowed_63
      ·
        refine v_iload_n ok 1 dX7_isAllowed_33 rfl rfl ?_
        refine v_bipush ok 8 dX7_isAllowed_34 rfl ?_
        refine v_icmp_ge ok 43 dX7_isAllowed_36 rfl hf (fun hf => ?_) (fun hf => ?_)
        ·
          refine v_iconst ok 0 dX7_isAllowed_43 rfl ?_
          refine v_goto ok 63 dX7_isAllowed_44 rfl ?_
          exact v_zretL ok hr (by decide) (by decide) (by cases hf; exact hk) dX7_isAllowed_63
        ·
          refine v_iconst ok 1 dX7_isAllowed_39 rfl ?_
          refine v_goto ok 63 dX7_isAllowed_40 rfl ?_
          exact v_zretL ok hr (by decide) (by decide) (by cases hf; exact hk) dX7_isAllowed_63
  ·
    refine v_iload_n ok 1 dX7_isAllowed_7 rfl rfl ?_
    refine v_iconst ok 3 dX7_isAllowed_8 rfl ?_
    refine v_icmp_ge ok 16 dX7_isAllowed_9 rfl hf (fun hf => ?_) (fun hf => ?_)
    ·
      refine v_iconst ok 0 dX7_isAllowed_16 rfl ?_
      refine v_goto ok 63 dX7_isAllowed_17 rfl ?_
      exact v_zretL ok hr (by decide) (by decide) (by cases hf; exact hk) dX7_isAllowed_63
    ·
      refine v_iconst ok 1 dX7_isAllowed_12 rfl ?_
      refine v_goto ok 63 dX7_isAllowed_13 rfl ?_
      exact v_zretL ok hr (by decide) (by decide) (by cases hf; exact hk) dX7_isAllowed_63
theorem M_X7_isAllowed {G : GT} {l : Launch} (hG : Glob G) {d : Nat} (hd : 1 ≤ d) {a0 : Nat} {x1 : Int32} {h : AH} {v : Int32} {h' : AH} (hf : X7_isAllowed a0 x1 h = some (v, h')) : MM G l yX7_isAllowed cX7_isAllowed 2 (Option.some Jvm.ClassFile.FieldType.boolean) d [vr (some a0), vi x1] h (some (vi v)) h' := by
  refine mm_of hG (plainFor_of_name (by decide)) (Nat.le_of_ble_eq_true rfl) (fun X hX ok hr hnm => ?_)
  subst hX
  exact W_X7_isAllowed ok hr hd hf rfl ⟨rfl, rfl, trivial⟩
theorem cw_X7_qWordHere : CW yX7_qWordHere cX7_qWordHere 1 (Option.some Jvm.ClassFile.FieldType.int) 0 := ⟨q2273, q185, ⟨by decide, by decide⟩, by decide +kernel, by decide⟩
theorem W_X7_qWordHere {G : GT} {X : CX} {d : Nat} {h0 : AH} {Q : State → Prop} (ok : Ok G X RX7 cX7_qWordHere 1 d h0) (hr : (cxm X).sig.returnType = (Option.some Jvm.ClassFile.FieldType.int)) (hd : 3 ≤ d) {a0 : Nat} {h : AH} {z : (Int32 × AH)} (hf : X7_qWordHere a0 h = some z) (hk : Q = QM G X h0 (some (vi z.1)) z.2) {lv : List (Nat × AV)} (hl : lle lv [(0, vr (some a0))]) : V G X 1 h0 Q h 0 lv [] := by
  refine V.sub hl ?_
  unfold X7_qWordHere at hf
  refine v_aload_n ok 0 dX7_qWordHere_0 rfl rfl ?_
  refine v_aload_n ok 0 dX7_qWordHere_1 rfl rfl ?_
  refine v_gR ok fl_X7_205 (by first | exact Or.inl ⟨_, rfl⟩ | exact Or.inr ⟨_, rfl⟩) dX7_qWordHere_2 hf (fun v1 hf => ?_)
  refine v_cVi ok (RX7, TX7, 117) cf_7.1 [vr v1] (F := fun a => X7_isHere a v1 h) (fun a v h1 _ hv => M_X7_isHere ok.2.2.2.2.2.2.1 (d := 2) (Nat.le_refl _) hv) (by exact Nat.le_trans (by decide) hd) cw_X7_isHere q2185 q2187 qs74 dX7_qWordHere_5 [] rfl (Nat.le_of_ble_eq_true rfl) hf (fun v2 h3 hf => ?_)
  refine v_if_eq ok 13 dX7_qWordHere_8 rfl hf (fun hf => ?_) (fun hf => ?_)
  ·
    refine v_aload_n ok 0 dX7_qWordHere_13 rfl rfl ?_
    refine v_aload_n ok 0 dX7_qWordHere_14 rfl rfl ?_
    refine v_gR ok fl_X7_208 (by first | exact Or.inl ⟨_, rfl⟩ | exact Or.inr ⟨_, rfl⟩) dX7_qWordHere_15 hf (fun v4 hf => ?_)
    refine v_cVi ok (RX7, TX7, 117) cf_7.1 [vr v4] (F := fun a => X7_isHere a v4 h3) (fun a v h1 _ hv => M_X7_isHere ok.2.2.2.2.2.2.1 (d := 2) (Nat.le_refl _) hv) (by exact Nat.le_trans (by decide) hd) cw_X7_isHere q2185 q2187 qs74 dX7_qWordHere_18 [] rfl (Nat.le_of_ble_eq_true rfl) hf (fun v5 h6 hf => ?_)
    refine v_if_eq ok 26 dX7_qWordHere_21 rfl hf (fun hf => ?_) (fun hf => ?_)
    ·
      refine v_aload_n ok 0 dX7_qWordHere_26 rfl rfl ?_
      refine v_aload_n ok 0 dX7_qWordHere_27 rfl rfl ?_
      refine v_gR ok fl_X7_211 (by first | exact Or.inl ⟨_, rfl⟩ | exact Or.inr ⟨_, rfl⟩) dX7_qWordHere_28 hf (fun v7 hf => ?_)
      refine v_cVi ok (RX7, TX7, 117) cf_7.1 [vr v7] (F := fun a => X7_isHere a v7 h6) (fun a v h1 _ hv => M_X7_isHere ok.2.2.2.2.2.2.1 (d := 2) (Nat.le_refl _) hv) (by exact Nat.le_trans (by decide) hd) cw_X7_isHere q2185 q2187 qs74 dX7_qWordHere_31 [] rfl (Nat.le_of_ble_eq_true rfl) hf (fun v8 h9 hf => ?_)
      refine v_if_eq ok 39 dX7_qWordHere_34 rfl hf (fun hf => ?_) (fun hf => ?_)
      ·
        refine v_aload_n ok 0 dX7_qWordHere_39 rfl rfl ?_
        refine v_aload_n ok 0 dX7_qWordHere_40 rfl rfl ?_
        refine v_gR ok fl_X7_214 (by first | exact Or.inl ⟨_, rfl⟩ | exact Or.inr ⟨_, rfl⟩) dX7_qWordHere_41 hf (fun v10 hf => ?_)
        refine v_cVi ok (RX7, TX7, 117) cf_7.1 [vr v10] (F := fun a => X7_isHere a v10 h9) (fun a v h1 _ hv => M_X7_isHere ok.2.2.2.2.2.2.1 (d := 2) (Nat.le_refl _) hv) (by exact Nat.le_trans (by decide) hd) cw_X7_isHere q2185 q2187 qs74 dX7_qWordHere_44 [] rfl (Nat.le_of_ble_eq_true rfl) hf (fun v11 h12 hf => ?_)
        refine v_if_eq ok 52 dX7_qWordHere_47 rfl hf (fun hf => ?_) (fun hf => ?_)
        ·
          refine v_aload_n ok 0 dX7_qWordHere_52 rfl rfl ?_
          refine v_aload_n ok 0 dX7_qWordHere_53 rfl rfl ?_
          refine v_gR ok fl_X7_217 (by first | exact Or.inl ⟨_, rfl⟩ | exact Or.inr ⟨_, rfl⟩) dX7_qWordHere_54 hf (fun v13 hf => ?_)
          refine v_cVi ok (RX7, TX7, 117) cf_7.1 [vr v13] (F := fun a => X7_isHere a v13 h12) (fun a v h1 _ hv => M_X7_isHere ok.2.2.2.2.2.2.1 (d := 2) (Nat.le_refl _) hv) (by exact Nat.le_trans (by decide) hd) cw_X7_isHere q2185 q2187 qs74 dX7_qWordHere_57 [] rfl (Nat.le_of_ble_eq_true rfl) hf (fun v14 h15 hf => ?_)
          refine v_if_eq ok 65 dX7_qWordHere_60 rfl hf (fun hf => ?_) (fun hf => ?_)
          ·
            refine v_aload_n ok 0 dX7_qWordHere_65 rfl rfl ?_
            refine v_aload_n ok 0 dX7_qWordHere_66 rfl rfl ?_
            refine v_gR ok fl_X7_220 (by first | exact Or.inl ⟨_, rfl⟩ | exact Or.inr ⟨_, rfl⟩) dX7_qWordHere_67 hf (fun v16 hf => ?_)
            refine v_cVi ok (RX7, TX7, 117) cf_7.1 [vr v16] (F := fun a => X7_isHere a v16 h15) (fun a v h1 _ hv => M_X7_isHere ok.2.2.2.2.2.2.1 (d := 2) (Nat.le_refl _) hv) (by exact Nat.le_trans (by decide) hd) cw_X7_isHere q2185 q2187 qs74 dX7_qWordHere_70 [] rfl (Nat.le_of_ble_eq_true rfl) hf (fun v17 h18 hf => ?_)
            refine v_if_eq ok 78 dX7_qWordHere_73 rfl hf (fun hf => ?_) (fun hf => ?_)
            ·
              refine v_aload_n ok 0 dX7_qWordHere_78 rfl rfl ?_
              refine v_aload_n ok 0 dX7_qWordHere_79 rfl rfl ?_
              refine v_gR ok fl_X7_223 (by first | exact Or.inl ⟨_, rfl⟩ | exact Or.inr ⟨_, rfl⟩) dX7_qWordHere_80 hf (fun v19 hf => ?_)
              refine v_cVi ok (RX7, TX7, 117) cf_7.1 [vr v19] (F := fun a => X7_isHere a v19 h18) (fun a v h1 _ hv => M_X7_isHere ok.2.2.2.2.2.2.1 (d := 2) (Nat.le_refl _) hv) (by exact Nat.le_trans (by decide) hd) cw_X7_isHere q2185 q2187 qs74 dX7_qWordHere_83 [] rfl (Nat.le_of_ble_eq_true rfl) hf (fun v20 h21 hf => ?_)
              refine v_if_eq ok 92 dX7_qWordHere_86 rfl hf (fun hf => ?_) (fun hf => ?_)
              ·
                refine v_aload_n ok 0 dX7_qWordHere_92 rfl rfl ?_
                refine v_aload_n ok 0 dX7_qWordHere_93 rfl rfl ?_
                refine v_gR ok fl_X7_226 (by first | exact Or.inl ⟨_, rfl⟩ | exact Or.inr ⟨_, rfl⟩) dX7_qWordHere_94 hf (fun v22 hf => ?_)
                refine v_cVi ok (RX7, TX7, 117) cf_7.1 [vr v22] (F := fun a => X7_isHere a v22 h21) (fun a v h1 _ hv => M_X7_isHere ok.2.2.2.2.2.2.1 (d := 2) (Nat.le_refl _) hv) (by exact Nat.le_trans (by decide) hd) cw_X7_isHere q2185 q2187 qs74 dX7_qWordHere_97 [] rfl (Nat.le_of_ble_eq_true rfl) hf (fun v23 h24 hf => ?_)
                refine v_if_eq ok 106 dX7_qWordHere_100 rfl hf (fun hf => ?_) (fun hf => ?_)
                ·
                  refine v_aload_n ok 0 dX7_qWordHere_106 rfl rfl ?_
                  refine v_aload_n ok 0 dX7_qWordHere_107 rfl rfl ?_
                  refine v_gR ok fl_X7_229 (by first | exact Or.inl ⟨_, rfl⟩ | exact Or.inr ⟨_, rfl⟩) dX7_qWordHere_108 hf (fun v25 hf => ?_)
                  refine v_cVi ok (RX7, TX7, 117) cf_7.1 [vr v25] (F := fun a => X7_isHere a v25 h24) (fun a v h1 _ hv => M_X7_isHere ok.2.2.2.2.2.2.1 (d := 2) (Nat.le_refl _) hv) (by exact Nat.le_trans (by decide) hd) cw_X7_isHere q2185 q2187 qs74 dX7_qWordHere_111 [] rfl (Nat.le_of_ble_eq_true rfl) hf (fun v26 h27 hf => ?_)
                  refine v_if_eq ok 120 dX7_qWordHere_114 rfl hf (fun hf => ?_) (fun hf => ?_)
                  ·
                    refine v_aload_n ok 0 dX7_qWordHere_120 rfl rfl ?_
                    refine v_aload_n ok 0 dX7_qWordHere_121 rfl rfl ?_
                    refine v_gR ok fl_X7_232 (by first | exact Or.inl ⟨_, rfl⟩ | exact Or.inr ⟨_, rfl⟩) dX7_qWordHere_122 hf (fun v28 hf => ?_)
                    refine v_cVi ok (RX7, TX7, 117) cf_7.1 [vr v28] (F := fun a => X7_isHere a v28 h27) (fun a v h1 _ hv => M_X7_isHere ok.2.2.2.2.2.2.1 (d := 2) (Nat.le_refl _) hv) (by exact Nat.le_trans (by decide) hd) cw_X7_isHere q2185 q2187 qs74 dX7_qWordHere_125 [] rfl (Nat.le_of_ble_eq_true rfl) hf (fun v29 h30 hf => ?_)
                    refine v_if_eq ok 134 dX7_qWordHere_128 rfl hf (fun hf => ?_) (fun hf => ?_)
                    ·
                      refine v_aload_n ok 0 dX7_qWordHere_134 rfl rfl ?_
                      refine v_aload_n ok 0 dX7_qWordHere_135 rfl rfl ?_
                      refine v_gR ok fl_X7_235 (by first | exact Or.inl ⟨_, rfl⟩ | exact Or.inr ⟨_, rfl⟩) dX7_qWordHere_136 hf (fun v31 hf => ?_)
                      refine v_cVi ok (RX7, TX7, 117) cf_7.1 [vr v31] (F := fun a => X7_isHere a v31 h30) (fun a v h1 _ hv => M_X7_isHere ok.2.2.2.2.2.2.1 (d := 2) (Nat.le_refl _) hv) (by exact Nat.le_trans (by decide) hd) cw_X7_isHere q2185 q2187 qs74 dX7_qWordHere_139 [] rfl (Nat.le_of_ble_eq_true rfl) hf (fun v32 h33 hf => ?_)
                      refine v_if_eq ok 148 dX7_qWordHere_142 rfl hf (fun hf => ?_) (fun hf => ?_)
                      ·
                        refine v_aload_n ok 0 dX7_qWordHere_148 rfl rfl ?_
                        refine v_aload_n ok 0 dX7_qWordHere_149 rfl rfl ?_
                        refine v_gR ok fl_X7_238 (by first | exact Or.inl ⟨_, rfl⟩ | exact Or.inr ⟨_, rfl⟩) dX7_qWordHere_150 hf (fun v34 hf => ?_)
                        refine v_cVi ok (RX7, TX7, 117) cf_7.1 [vr v34] (F := fun a => X7_isHere a v34 h33) (fun a v h1 _ hv => M_X7_isHere ok.2.2.2.2.2.2.1 (d := 2) (Nat.le_refl _) hv) (by exact Nat.le_trans (by decide) hd) cw_X7_isHere q2185 q2187 qs74 dX7_qWordHere_153 [] rfl (Nat.le_of_ble_eq_true rfl) hf (fun v35 h36 hf => ?_)
                        refine v_if_eq ok 162 dX7_qWordHere_156 rfl hf (fun hf => ?_) (fun hf => ?_)
                        ·
                          refine v_iconst ok (-1) dX7_qWordHere_162 rfl ?_
                          exact v_iret ok hr (by cases hf; exact hk) dX7_qWordHere_163
                        ·
                          refine v_bipush ok 11 dX7_qWordHere_159 rfl ?_
                          exact v_iret ok hr (by cases hf; exact hk) dX7_qWordHere_161
                      ·
                        refine v_bipush ok 10 dX7_qWordHere_145 rfl ?_
                        exact v_iret ok hr (by cases hf; exact hk) dX7_qWordHere_147
                    ·
                      refine v_bipush ok 9 dX7_qWordHere_131 rfl ?_
                      exact v_iret ok hr (by cases hf; exact hk) dX7_qWordHere_133
                  ·
                    refine v_bipush ok 8 dX7_qWordHere_117 rfl ?_
                    exact v_iret ok hr (by cases hf; exact hk) dX7_qWordHere_119
                ·
                  refine v_bipush ok 7 dX7_qWordHere_103 rfl ?_
                  exact v_iret ok hr (by cases hf; exact hk) dX7_qWordHere_105
              ·
                refine v_bipush ok 6 dX7_qWordHere_89 rfl ?_
                exact v_iret ok hr (by cases hf; exact hk) dX7_qWordHere_91
            ·
              refine v_iconst ok 5 dX7_qWordHere_76 rfl ?_
              exact v_iret ok hr (by cases hf; exact hk) dX7_qWordHere_77
          ·
            refine v_iconst ok 4 dX7_qWordHere_63 rfl ?_
            exact v_iret ok hr (by cases hf; exact hk) dX7_qWordHere_64
        ·
          refine v_iconst ok 3 dX7_qWordHere_50 rfl ?_
          exact v_iret ok hr (by cases hf; exact hk) dX7_qWordHere_51
      ·
        refine v_iconst ok 2 dX7_qWordHere_37 rfl ?_
        exact v_iret ok hr (by cases hf; exact hk) dX7_qWordHere_38
    ·
      refine v_iconst ok 1 dX7_qWordHere_24 rfl ?_
      exact v_iret ok hr (by cases hf; exact hk) dX7_qWordHere_25
  ·
    refine v_iconst ok 0 dX7_qWordHere_11 rfl ?_
    exact v_iret ok hr (by cases hf; exact hk) dX7_qWordHere_12
theorem M_X7_qWordHere {G : GT} {l : Launch} (hG : Glob G) {d : Nat} (hd : 3 ≤ d) {a0 : Nat} {h : AH} {v : Int32} {h' : AH} (hf : X7_qWordHere a0 h = some (v, h')) : MM G l yX7_qWordHere cX7_qWordHere 1 (Option.some Jvm.ClassFile.FieldType.int) d [vr (some a0)] h (some (vi v)) h' := by
  refine mm_of hG (plainFor_of_name (by decide)) (Nat.le_of_ble_eq_true rfl) (fun X hX ok hr hnm => ?_)
  subst hX
  exact W_X7_qWordHere ok hr hd hf rfl ⟨rfl, trivial⟩
theorem cw_X7_qWordOf : CW yX7_qWordOf cX7_qWordOf 4 (Option.some Jvm.ClassFile.FieldType.int) 2 := ⟨q2269, q185, ⟨by decide, by decide⟩, by decide +kernel, by decide⟩
theorem W_X7_qWordOf {G : GT} {X : CX} {d : Nat} {h0 : AH} {Q : State → Prop} (ok : Ok G X RX7 cX7_qWordOf 4 d h0) (hr : (cxm X).sig.returnType = (Option.some Jvm.ClassFile.FieldType.int)) (hd : 4 ≤ d) {a0 : Nat} {x1 : Int32} {x2 : Int32} {h : AH} {z : (Int32 × AH)} (hf : X7_qWordOf a0 x1 x2 h = some z) (hk : Q = QM G X h0 (some (vi z.1)) z.2) {lv : List (Nat × AV)} (hl : lle lv [(0, vr (some a0)), (1, vi x1), (2, vi x2)]) : V G X 4 h0 Q h 0 lv [] := by
  refine V.sub hl ?_
  unfold X7_qWordOf at hf
  refine v_aload_n ok 0 dX7_qWordOf_0 rfl rfl ?_
  refine v_cVi ok (RX7, TX7, 117) cf_7.1 [] (F := fun a => X7_qWordHere a h) (fun a v h1 _ hv => M_X7_qWordHere ok.2.2.2.2.2.2.1 (d := 3) (Nat.le_refl _) hv) (by exact Nat.le_trans (by decide) hd) cw_X7_qWordHere q2270 q2272 qs93 dX7_qWordOf_1 [] rfl (Nat.le_of_ble_eq_true rfl) hf (fun v1 h2 hf => ?_)
  refine v_istore_n ok 3 dX7_qWordOf_4 rfl (by decide) ?_
  refine v_iload_n ok 3 dX7_qWordOf_5 rfl rfl ?_
  refine v_iload_n ok 1 dX7_qWordOf_6 rfl rfl ?_
  refine v_icmp_lt ok 27 dX7_qWordOf_7 rfl hf (fun hf => ?_) (fun hf => ?_)
  ·
    refine v_iconst ok (-1) dX7_qWordOf_27 rfl ?_
    exact v_iret ok hr (by cases hf; exact hk) dX7_qWordOf_28
  ·
    refine v_iload_n ok 3 dX7_qWordOf_10 rfl rfl ?_
    refine v_iload_n ok 2 dX7_qWordOf_11 rfl rfl ?_
    refine v_icmp_ge ok 27 dX7_qWordOf_12 rfl hf (fun hf => ?_) (fun hf => ?_)
    ·
      refine v_iconst ok (-1) dX7_qWordOf_27 rfl ?_
      exact v_iret ok hr (by cases hf; exact hk) dX7_qWordOf_28
    ·
      refine v_aload_n ok 0 dX7_qWordOf_15 rfl rfl ?_
      refine v_iload_n ok 3 dX7_qWordOf_16 rfl rfl ?_
      refine v_cVi ok (RX7, TX7, 117) cf_7.1 [vi v1] (F := fun a => X7_isAllowed a v1 h2) (fun a v h1 _ hv => M_X7_isAllowed ok.2.2.2.2.2.2.1 (d := 1) (Nat.le_refl _) hv) (by exact Nat.le_trans (by decide) hd) cw_X7_isAllowed q2274 q2276 qs94 dX7_qWordOf_17 [] rfl (Nat.le_of_ble_eq_true rfl) hf (fun v3 h4 hf => ?_)
      refine v_if_eq ok 27 dX7_qWordOf_20 rfl hf (fun hf => ?_) (fun hf => ?_)
      ·
        refine v_iconst ok (-1) dX7_qWordOf_27 rfl ?_
        exact v_iret ok hr (by cases hf; exact hk) dX7_qWordOf_28
      ·
        refine v_iload_n ok 3 dX7_qWordOf_23 rfl rfl ?_
        refine v_goto ok 28 dX7_qWordOf_24 rfl ?_
        exact v_iret ok hr (by cases hf; exact hk) dX7_qWordOf_28
theorem M_X7_qWordOf {G : GT} {l : Launch} (hG : Glob G) {d : Nat} (hd : 4 ≤ d) {a0 : Nat} {x1 : Int32} {x2 : Int32} {h : AH} {v : Int32} {h' : AH} (hf : X7_qWordOf a0 x1 x2 h = some (v, h')) : MM G l yX7_qWordOf cX7_qWordOf 4 (Option.some Jvm.ClassFile.FieldType.int) d [vr (some a0), vi x1, vi x2] h (some (vi v)) h' := by
  refine mm_of hG (plainFor_of_name (by decide)) (Nat.le_of_ble_eq_true rfl) (fun X hX ok hr hnm => ?_)
  subst hX
  exact W_X7_qWordOf ok hr hd hf rfl ⟨rfl, rfl, rfl, trivial⟩
theorem cw_X7_qPartTold : CW yX7_qPartTold cX7_qPartTold 6 none 0 := ⟨q2265, q185, ⟨by decide, by decide⟩, by decide +kernel, by decide⟩
def pkX7_qPartTold_2 (G : GT) (X : CX) (h0 : AH) (Q : State → Prop) (a0 : Nat) (o : ((Int32 × AH) ⊕ (AH))) : Prop := match o with
  | .inl s => ∀ lv : List (Nat × AV), lle lv [(0, vr (some a0)), (1, vi s.1)] → V G X 6 h0 Q s.2 2 lv []
  | .inr z => Q = QM G X h0 none z
theorem W_X7_qPartTold_144 {G : GT} {X : CX} {d : Nat} {h0 : AH} {Q : State → Prop} (ok : Ok G X RX7 cX7_qPartTold 6 d h0) (hr : (cxm X).sig.returnType = none) (hd : 6 ≤ d) {a0 : Nat} {x1 : Int32} {h : AH} {z : ((Int32 × AH) ⊕ (AH))} (hf : X7_qPartTold_144 a0 x1 h = some z) (hk : pkX7_qPartTold_2 G X h0 Q a0 z) {lv : List (Nat × AV)} (hl : lle lv [(0, vr (some a0)), (1, vi x1)]) : V G X 6 h0 Q h 144 lv [] := by
  refine V.sub hl ?_
  unfold X7_qPartTold_144 at hf
  refine v_aload_n ok 0 dX7_qPartTold_144 rfl rfl ?_
  refine v_bipush ok 40 dX7_qPartTold_145 rfl ?_
  refine v_cVv ok (RX7, TX7, 117) cf_7.1 [vi 40] (F := fun a => X7_asksSign a 40 h) (fun a h1 _ hv => M_X7_asksSign ok.2.2.2.2.2.2.1 (d := 3) (Nat.le_refl _) hv) (by exact Nat.le_trans (by decide) hd) cw_X7_asksSign q2278 q2280 qs95 dX7_qPartTold_147 [] rfl (Nat.le_of_ble_eq_true rfl) hf (fun h1 hf => ?_)
  refine v_goto ok 183 dX7_qPartTold_150 rfl ?_
  refine v_goto ok 2 dX7_qPartTold_183 rfl ?_
  cases hf; exact hk _ ⟨rfl, rfl, trivial⟩
theorem W_X7_qPartTold_139 {G : GT} {X : CX} {d : Nat} {h0 : AH} {Q : State → Prop} (ok : Ok G X RX7 cX7_qPartTold 6 d h0) (hr : (cxm X).sig.returnType = none) (hd : 6 ≤ d) {a0 : Nat} {x1 : Int32} {x5 : Int32} {s0 : Option Nat} {s1 : Int32} {h : AH} {z : ((Int32 × AH) ⊕ (AH))} (hf : X7_qPartTold_139 a0 x1 x5 s0 s1 h = some z) (hk : pkX7_qPartTold_2 G X h0 Q a0 z) {lv : List (Nat × AV)} (hl : lle lv [(0, vr (some a0)), (1, vi x1), (5, vi x5)]) : V G X 6 h0 Q h 139 lv [vi s1, vr s0] := by
  refine V.sub hl ?_
  unfold X7_qPartTold_139 at hf
  refine v_iload ok dX7_qPartTold_139 rfl ?_
  refine v_cVv ok (RX7, TX7, 117) cf_7.1 [vi s1, vi x5] (F := fun a => X7_qOpens a s1 x5 h) (fun a h1 _ hv => M_X7_qOpens ok.2.2.2.2.2.2.1 (d := 2) (Nat.le_refl _) hv) (by exact Nat.le_trans (by decide) hd) cw_X7_qOpens q2246 q2248 qs87 dX7_qPartTold_141 [] rfl (Nat.le_of_ble_eq_true rfl) hf (fun h2 hf => ?_)
  exact W_X7_qPartTold_144 ok hr hd hf hk ⟨rfl, rfl, trivial⟩
theorem W_X7_qPartTold_118 {G : GT} {X : CX} {d : Nat} {h0 : AH} {Q : State → Prop} (ok : Ok G X RX7 cX7_qPartTold 6 d h0) (hr : (cxm X).sig.returnType = none) (hd : 6 ≤ d) {a0 : Nat} {x1 : Int32} {x4 : Int32} {s0 : Int32} {h : AH} {z : ((Int32 × AH) ⊕ (AH))} (hf : X7_qPartTold_118 a0 x1 x4 s0 h = some z) (hk : pkX7_qPartTold_2 G X h0 Q a0 z) {lv : List (Nat × AV)} (hl : lle lv [(0, vr (some a0)), (1, vi x1), (4, vi x4)]) : V G X 6 h0 Q h 118 lv [vi s0] := by
  refine V.sub hl ?_
  unfold X7_qPartTold_118 at hf
  refine v_istore ok dX7_qPartTold_118 (by decide) ?_
  refine v_iload ok dX7_qPartTold_120 rfl ?_
  refine v_iconst ok (-1) dX7_qPartTold_122 rfl ?_
  refine v_icmp_eq ok 144 dX7_qPartTold_123 rfl hf (fun hf => ?_) (fun hf => ?_)
  ·
    exact W_X7_qPartTold_144 ok hr hd hf hk ⟨rfl, rfl, trivial⟩
  ·
    refine v_aload_n ok 0 dX7_qPartTold_126 rfl rfl ?_
    refine v_iload ok dX7_qPartTold_127 rfl ?_
    refine v_if_eq ok 137 dX7_qPartTold_129 rfl hf (fun hf => ?_) (fun hf => ?_)
    ·
      refine v_bipush ok 22 dX7_qPartTold_137 rfl ?_
      exact W_X7_qPartTold_139 ok hr hd hf hk ⟨rfl, rfl, rfl, trivial⟩
    ·
      refine v_bipush ok 21 dX7_qPartTold_132 rfl ?_
      refine v_goto ok 139 dX7_qPartTold_134 rfl ?_
      exact W_X7_qPartTold_139 ok hr hd hf hk ⟨rfl, rfl, rfl, trivial⟩
theorem W_X7_qPartTold_101 {G : GT} {X : CX} {d : Nat} {h0 : AH} {Q : State → Prop} (ok : Ok G X RX7 cX7_qPartTold 6 d h0) (hr : (cxm X).sig.returnType = none) (hd : 6 ≤ d) {a0 : Nat} {x1 : Int32} {x4 : Int32} {h : AH} {z : ((Int32 × AH) ⊕ (AH))} (hf : X7_qPartTold_101 a0 x1 x4 h = some z) (hk : pkX7_qPartTold_2 G X h0 Q a0 z) {lv : List (Nat × AV)} (hl : lle lv [(0, vr (some a0)), (1, vi x1), (4, vi x4)]) : V G X 6 h0 Q h 101 lv [] := by
  refine V.sub hl ?_
  unfold X7_qPartTold_101 at hf
  refine v_aload_n ok 0 dX7_qPartTold_101 rfl rfl ?_
  refine v_cVi ok (RX7, TX7, 117) cf_7.1 [] (F := fun a => X7_look a h) (fun a v h1 _ hv => M_X7_look ok.2.2.2.2.2.2.1 (d := 1) (Nat.le_refl _) hv) (by exact Nat.le_trans (by decide) hd) cw_X7_look q2169 q2171 qs70 dX7_qPartTold_102 [] rfl (Nat.le_of_ble_eq_true rfl) hf (fun v3 h4 hf => ?_)
  refine v_bipush ok 40 dX7_qPartTold_105 rfl ?_
  refine v_icmp_ne ok 117 dX7_qPartTold_107 rfl hf (fun hf => ?_) (fun hf => ?_)
  ·
    refine v_iconst ok (-1) dX7_qPartTold_117 rfl ?_
    exact W_X7_qPartTold_118 ok hr hd hf hk ⟨rfl, rfl, rfl, trivial⟩
  ·
    refine v_aload_n ok 0 dX7_qPartTold_110 rfl rfl ?_
    refine v_gI ok fl_X7_263 (fun _ _ _ => rfl) dX7_qPartTold_111 hf (fun v5 hf => ?_)
    refine v_goto ok 118 dX7_qPartTold_114 rfl ?_
    exact W_X7_qPartTold_118 ok hr hd hf hk ⟨rfl, rfl, rfl, trivial⟩
theorem W_X7_qPartTold_78 {G : GT} {X : CX} {d : Nat} {h0 : AH} {Q : State → Prop} (ok : Ok G X RX7 cX7_qPartTold 6 d h0) (hr : (cxm X).sig.returnType = none) (hd : 6 ≤ d) {a0 : Nat} {x1 : Int32} {h : AH} {z : ((Int32 × AH) ⊕ (AH))} (hf : X7_qPartTold_78 a0 x1 h = some z) (hk : pkX7_qPartTold_2 G X h0 Q a0 z) {lv : List (Nat × AV)} (hl : lle lv [(0, vr (some a0)), (1, vi x1)]) : V G X 6 h0 Q h 78 lv [] := by
  refine V.sub hl ?_
  unfold X7_qPartTold_78 at hf
  refine v_aload_n ok 0 dX7_qPartTold_78 rfl rfl ?_
  refine v_aload_n ok 0 dX7_qPartTold_79 rfl rfl ?_
  refine v_gR ok fl_X7_199 (by first | exact Or.inl ⟨_, rfl⟩ | exact Or.inr ⟨_, rfl⟩) dX7_qPartTold_80 hf (fun v6 hf => ?_)
  refine v_cVi ok (RX7, TX7, 117) cf_7.1 [vr v6] (F := fun a => X7_takes a v6 h) (fun a v h1 _ hv => M_X7_takes ok.2.2.2.2.2.2.1 (d := 3) (Nat.le_refl _) hv) (by exact Nat.le_trans (by decide) hd) cw_X7_takes q2181 q2183 qs73 dX7_qPartTold_83 [] rfl (Nat.le_of_ble_eq_true rfl) hf (fun v7 h8 hf => ?_)
  refine v_istore ok dX7_qPartTold_86 (by decide) ?_
  refine v_iload ok dX7_qPartTold_88 rfl ?_
  refine v_if_ne ok 101 dX7_qPartTold_90 rfl hf (fun hf => ?_) (fun hf => ?_)
  ·
    exact W_X7_qPartTold_101 ok hr hd hf hk ⟨rfl, rfl, rfl, trivial⟩
  ·
    refine v_aload_n ok 0 dX7_qPartTold_93 rfl rfl ?_
    refine v_aload_n ok 0 dX7_qPartTold_94 rfl rfl ?_
    refine v_gR ok fl_X7_202 (by first | exact Or.inl ⟨_, rfl⟩ | exact Or.inr ⟨_, rfl⟩) dX7_qPartTold_95 hf (fun v9 hf => ?_)
    refine v_cVv ok (RX7, TX7, 117) cf_7.1 [vr v9] (F := fun a => X7_asks a v9 h8) (fun a h1 _ hv => M_X7_asks ok.2.2.2.2.2.2.1 (d := 4) (Nat.le_refl _) hv) (by exact Nat.le_trans (by decide) hd) cw_X7_asks q2204 q2206 qs78 dX7_qPartTold_98 [] rfl (Nat.le_of_ble_eq_true rfl) hf (fun h10 hf => ?_)
    exact W_X7_qPartTold_101 ok hr hd hf hk ⟨rfl, rfl, rfl, trivial⟩
theorem W_X7_qPartTold_237 {G : GT} {X : CX} {d : Nat} {h0 : AH} {Q : State → Prop} (ok : Ok G X RX7 cX7_qPartTold 6 d h0) (hr : (cxm X).sig.returnType = none) (hd : 6 ≤ d) {a0 : Nat} {s0 : Option Nat} {s1 : Int32} {h : AH} {z : (AH)} (hf : X7_qPartTold_237 a0 s0 s1 h = some z) (hk : Q = QM G X h0 none z) {lv : List (Nat × AV)} (hl : lle lv [(0, vr (some a0))]) : V G X 6 h0 Q h 237 lv [vi s1, vr s0] := by
  refine V.sub hl ?_
  unfold X7_qPartTold_237 at hf
  refine v_cVv ok (RX7, TX7, 117) cf_7.1 [vi s1] (F := fun a => X7_qCode a s1 h) (fun a h1 _ hv => M_X7_qCode ok.2.2.2.2.2.2.1 (d := 1) (Nat.le_refl _) hv) (by exact Nat.le_trans (by decide) hd) cw_X7_qCode q2254 q2256 qs89 dX7_qPartTold_237 [] rfl (Nat.le_of_ble_eq_true rfl) hf (fun h11 hf => ?_)
  refine v_aload_n ok 0 dX7_qPartTold_240 rfl rfl ?_
  refine v_cVv ok (RX7, TX7, 117) cf_7.1 [] (F := fun a => X7_qEndsPart a h11) (fun a h1 _ hv => M_X7_qEndsPart ok.2.2.2.2.2.2.1 (d := 3) (Nat.le_refl _) hv) (by exact Nat.le_trans (by decide) hd) cw_X7_qEndsPart q2290 q2292 qs98 dX7_qPartTold_241 [] rfl (Nat.le_of_ble_eq_true rfl) hf (fun h12 hf => ?_)
  exact v_vret ok hr (by cases hf; exact hk) dX7_qPartTold_244
theorem W_X7_qPartTold_212 {G : GT} {X : CX} {d : Nat} {h0 : AH} {Q : State → Prop} (ok : Ok G X RX7 cX7_qPartTold 6 d h0) (hr : (cxm X).sig.returnType = none) (hd : 6 ≤ d) {a0 : Nat} {x2 : Int32} {h : AH} {z : (AH)} (hf : X7_qPartTold_212 a0 x2 h = some z) (hk : Q = QM G X h0 none z) {lv : List (Nat × AV)} (hl : lle lv [(0, vr (some a0)), (2, vi x2)]) : V G X 6 h0 Q h 212 lv [] := by
  refine V.sub hl ?_
  unfold X7_qPartTold_212 at hf
  refine v_aload_n ok 0 dX7_qPartTold_212 rfl rfl ?_
  refine v_iload_n ok 2 dX7_qPartTold_213 rfl rfl ?_
  refine v_iconst ok (-1) dX7_qPartTold_214 rfl ?_
  refine v_icmp_eq ok 225 dX7_qPartTold_215 rfl hf (fun hf => ?_) (fun hf => ?_)
  ·
    refine v_sipush ok 1000 dX7_qPartTold_225 rfl ?_
    refine v_aload_n ok 0 dX7_qPartTold_228 rfl rfl ?_
    refine v_iconst ok 0 dX7_qPartTold_229 rfl ?_
    refine v_sipush ok 9999 dX7_qPartTold_230 rfl ?_
    refine v_cVi ok (RX7, TX7, 117) cf_7.1 [vi 0, vi 9999] (F := fun a => X7_number a 0 9999 h) (fun a v h1 _ hv => M_X7_number ok.2.2.2.2.2.2.1 (d := 2) (Nat.le_refl _) hv) (by exact Nat.le_trans (by decide) hd) cw_X7_number q2208 q2210 qs79 dX7_qPartTold_233 [vi 1000, vr (some a0)] rfl (Nat.le_of_ble_eq_true rfl) hf (fun v13 h14 hf => ?_)
    refine v_iadd ok dX7_qPartTold_236 ?_
    exact W_X7_qPartTold_237 ok hr hd hf hk ⟨rfl, trivial⟩
  ·
    refine v_bipush ok 40 dX7_qPartTold_218 rfl ?_
    refine v_iload_n ok 2 dX7_qPartTold_220 rfl rfl ?_
    refine v_iadd ok dX7_qPartTold_221 ?_
    refine v_goto ok 237 dX7_qPartTold_222 rfl ?_
    exact W_X7_qPartTold_237 ok hr hd hf hk ⟨rfl, trivial⟩
theorem W_X7_qPartTold_186 {G : GT} {X : CX} {d : Nat} {h0 : AH} {Q : State → Prop} (ok : Ok G X RX7 cX7_qPartTold 6 d h0) (hr : (cxm X).sig.returnType = none) (hd : 6 ≤ d) {a0 : Nat} {h : AH} {z : (AH)} (hf : X7_qPartTold_186 a0 h = some z) (hk : Q = QM G X h0 none z) {lv : List (Nat × AV)} (hl : lle lv [(0, vr (some a0))]) : V G X 6 h0 Q h 186 lv [] := by
  refine V.sub hl ?_
  unfold X7_qPartTold_186 at hf
  refine v_aload_n ok 0 dX7_qPartTold_186 rfl rfl ?_
  refine v_gI ok fl_X7_257 (fun _ _ _ => rfl) dX7_qPartTold_187 hf (fun v15 hf => ?_)
  refine v_if_eq ok 194 dX7_qPartTold_190 rfl hf (fun hf => ?_) (fun hf => ?_)
  ·
    refine v_aload_n ok 0 dX7_qPartTold_194 rfl rfl ?_
    refine v_iconst ok 0 dX7_qPartTold_195 rfl ?_
    refine v_bipush ok 10 dX7_qPartTold_196 rfl ?_
    refine v_cVi ok (RX7, TX7, 117) cf_7.1 [vi 0, vi 10] (F := fun a => X7_qWordOf a 0 10 h) (fun a v h1 _ hv => M_X7_qWordOf ok.2.2.2.2.2.2.1 (d := 4) (Nat.le_refl _) hv) (by exact Nat.le_trans (by decide) hd) cw_X7_qWordOf q2266 q2268 qs92 dX7_qPartTold_198 [] rfl (Nat.le_of_ble_eq_true rfl) hf (fun v16 h17 hf => ?_)
    refine v_istore_n ok 2 dX7_qPartTold_201 rfl (by decide) ?_
    refine v_iload_n ok 2 dX7_qPartTold_202 rfl rfl ?_
    refine v_iconst ok (-1) dX7_qPartTold_203 rfl ?_
    refine v_icmp_eq ok 212 dX7_qPartTold_204 rfl hf (fun hf => ?_) (fun hf => ?_)
    ·
      exact W_X7_qPartTold_212 ok hr hd hf hk ⟨rfl, rfl, trivial⟩
    ·
      refine v_aload_n ok 0 dX7_qPartTold_207 rfl rfl ?_
      refine v_iload_n ok 2 dX7_qPartTold_208 rfl rfl ?_
      refine v_cVv ok (RX7, TX7, 117) cf_7.1 [vi v16] (F := fun a => X7_qAsksWord a v16 h17) (fun a h1 _ hv => M_X7_qAsksWord ok.2.2.2.2.2.2.1 (d := 5) (Nat.le_refl _) hv) (by exact Nat.le_trans (by decide) hd) cw_X7_qAsksWord q2286 q2288 qs97 dX7_qPartTold_209 [] rfl (Nat.le_of_ble_eq_true rfl) hf (fun h18 hf => ?_)
      exact W_X7_qPartTold_212 ok hr hd hf hk ⟨rfl, rfl, trivial⟩
  ·
    exact v_vret ok hr (by cases hf; exact hk) dX7_qPartTold_193
theorem W_X7_qPartTold_2b {G : GT} {X : CX} {d : Nat} {h0 : AH} {Q : State → Prop} (ok : Ok G X RX7 cX7_qPartTold 6 d h0) (hr : (cxm X).sig.returnType = none) (hd : 6 ≤ d) {a0 : Nat} {x1 : Int32} {h : AH} {z : ((Int32 × AH) ⊕ (AH))} (hf : X7_qPartTold_2b  a0 x1 h = some z) (hk : pkX7_qPartTold_2 G X h0 Q a0 z) {lv : List (Nat × AV)} (hl : lle lv [(0, vr (some a0)), (1, vi x1)]) : V G X 6 h0 Q h 2 lv [] := by
  refine V.sub hl ?_
  unfold X7_qPartTold_2b at hf
  refine v_iload_n ok 1 dX7_qPartTold_2 rfl rfl ?_
  refine v_if_eq ok 186 dX7_qPartTold_3 rfl hf (fun hf => ?_) (fun hf => ?_)
  ·
    obtain ⟨o, ho, hz⟩ := ob hf
    cases hz; exact W_X7_qPartTold_186 ok hr hd ho hk ⟨rfl, trivial⟩
  ·
    refine v_aload_n ok 0 dX7_qPartTold_6 rfl rfl ?_
    refine v_gI ok fl_X7_257 (fun _ _ _ => rfl) dX7_qPartTold_7 hf (fun v19 hf => ?_)
    refine v_if_ne ok 186 dX7_qPartTold_10 rfl hf (fun hf => ?_) (fun hf => ?_)
    ·
      obtain ⟨o, ho, hz⟩ := ob hf
      cases hz; exact W_X7_qPartTold_186 ok hr hd ho hk ⟨rfl, trivial⟩
    ·
      refine v_aload_n ok 0 dX7_qPartTold_13 rfl rfl ?_
      refine v_cVi ok (RX7, TX7, 117) cf_7.1 [] (F := fun a => X7_look a h) (fun a v h1 _ hv => M_X7_look ok.2.2.2.2.2.2.1 (d := 1) (Nat.le_refl _) hv) (by exact Nat.le_trans (by decide) hd) cw_X7_look q2169 q2171 qs70 dX7_qPartTold_14 [] rfl (Nat.le_of_ble_eq_true rfl) hf (fun v20 h21 hf => ?_)
      refine v_istore_n ok 2 dX7_qPartTold_17 rfl (by decide) ?_
      refine v_aload_n ok 0 dX7_qPartTold_18 rfl rfl ?_
      refine v_bipush ok 10 dX7_qPartTold_19 rfl ?_
      refine v_bipush ok 12 dX7_qPartTold_21 rfl ?_
      refine v_cVi ok (RX7, TX7, 117) cf_7.1 [vi 10, vi 12] (F := fun a => X7_qWordOf a 10 12 h21) (fun a v h1 _ hv => M_X7_qWordOf ok.2.2.2.2.2.2.1 (d := 4) (Nat.le_refl _) hv) (by exact Nat.le_trans (by decide) hd) cw_X7_qWordOf q2266 q2268 qs92 dX7_qPartTold_23 [] rfl (Nat.le_of_ble_eq_true rfl) hf (fun v22 h23 hf => ?_)
      refine v_istore_n ok 3 dX7_qPartTold_26 rfl (by decide) ?_
      refine v_iload_n ok 2 dX7_qPartTold_27 rfl rfl ?_
      refine v_bipush ok 40 dX7_qPartTold_28 rfl ?_
      refine v_icmp_ne ok 56 dX7_qPartTold_30 rfl hf (fun hf => ?_) (fun hf => ?_)
      ·
        refine v_aload_n ok 0 dX7_qPartTold_56 rfl rfl ?_
        refine v_aload_n ok 0 dX7_qPartTold_57 rfl rfl ?_
        refine v_gR ok fl_X7_199 (by first | exact Or.inl ⟨_, rfl⟩ | exact Or.inr ⟨_, rfl⟩) dX7_qPartTold_58 hf (fun v24 hf => ?_)
        refine v_cVi ok (RX7, TX7, 117) cf_7.1 [vr v24] (F := fun a => X7_isHere a v24 h23) (fun a v h1 _ hv => M_X7_isHere ok.2.2.2.2.2.2.1 (d := 2) (Nat.le_refl _) hv) (by exact Nat.le_trans (by decide) hd) cw_X7_isHere q2185 q2187 qs74 dX7_qPartTold_61 [] rfl (Nat.le_of_ble_eq_true rfl) hf (fun v25 h26 hf => ?_)
        refine v_if_ne ok 78 dX7_qPartTold_64 rfl hf (fun hf => ?_) (fun hf => ?_)
        ·
          exact W_X7_qPartTold_78 ok hr hd hf hk ⟨rfl, rfl, trivial⟩
        ·
          refine v_aload_n ok 0 dX7_qPartTold_67 rfl rfl ?_
          refine v_aload_n ok 0 dX7_qPartTold_68 rfl rfl ?_
          refine v_gR ok fl_X7_202 (by first | exact Or.inl ⟨_, rfl⟩ | exact Or.inr ⟨_, rfl⟩) dX7_qPartTold_69 hf (fun v27 hf => ?_)
          refine v_cVi ok (RX7, TX7, 117) cf_7.1 [vr v27] (F := fun a => X7_isHere a v27 h26) (fun a v h1 _ hv => M_X7_isHere ok.2.2.2.2.2.2.1 (d := 2) (Nat.le_refl _) hv) (by exact Nat.le_trans (by decide) hd) cw_X7_isHere q2185 q2187 qs74 dX7_qPartTold_72 [] rfl (Nat.le_of_ble_eq_true rfl) hf (fun v28 h29 hf => ?_)
          refine v_if_eq ok 153 dX7_qPartTold_75 rfl hf (fun hf => ?_) (fun hf => ?_)
          ·
            refine v_iload_n ok 3 dX7_qPartTold_153 rfl rfl ?_
            refine v_iconst ok (-1) dX7_qPartTold_154 rfl ?_
            refine v_icmp_eq ok 181 dX7_qPartTold_155 rfl hf (fun hf => ?_) (fun hf => ?_)
            ·
              refine v_iconst ok 0 dX7_qPartTold_181 rfl ?_
              refine v_istore_n ok 1 dX7_qPartTold_182 rfl (by decide) ?_
              refine v_goto ok 2 dX7_qPartTold_183 rfl ?_
              cases hf; exact hk _ ⟨rfl, rfl, trivial⟩
            ·
              refine v_aload_n ok 0 dX7_qPartTold_158 rfl rfl ?_
              refine v_bipush ok 60 dX7_qPartTold_159 rfl ?_
              refine v_iload_n ok 3 dX7_qPartTold_161 rfl rfl ?_
              refine v_iadd ok dX7_qPartTold_162 ?_
              refine v_bipush ok 10 dX7_qPartTold_163 rfl ?_
              refine v_isub ok dX7_qPartTold_165 ?_
              refine v_aload_n ok 0 dX7_qPartTold_166 rfl rfl ?_
              refine v_gI ok fl_X7_263 (fun _ _ _ => rfl) dX7_qPartTold_167 hf (fun v30 hf => ?_)
              refine v_cVv ok (RX7, TX7, 117) cf_7.1 [vi ((60 + v22) - 10), vi v30] (F := fun a => X7_qOpens a ((60 + v22) - 10) v30 h29) (fun a h1 _ hv => M_X7_qOpens ok.2.2.2.2.2.2.1 (d := 2) (Nat.le_refl _) hv) (by exact Nat.le_trans (by decide) hd) cw_X7_qOpens q2246 q2248 qs87 dX7_qPartTold_170 [] rfl (Nat.le_of_ble_eq_true rfl) hf (fun h31 hf => ?_)
              refine v_aload_n ok 0 dX7_qPartTold_173 rfl rfl ?_
              refine v_iload_n ok 3 dX7_qPartTold_174 rfl rfl ?_
              refine v_cVv ok (RX7, TX7, 117) cf_7.1 [vi v22] (F := fun a => X7_qAsksWord a v22 h31) (fun a h1 _ hv => M_X7_qAsksWord ok.2.2.2.2.2.2.1 (d := 5) (Nat.le_refl _) hv) (by exact Nat.le_trans (by decide) hd) cw_X7_qAsksWord q2286 q2288 qs97 dX7_qPartTold_175 [] rfl (Nat.le_of_ble_eq_true rfl) hf (fun h32 hf => ?_)
              refine v_goto ok 183 dX7_qPartTold_178 rfl ?_
              refine v_goto ok 2 dX7_qPartTold_183 rfl ?_
              cases hf; exact hk _ ⟨rfl, rfl, trivial⟩
          ·
            exact W_X7_qPartTold_78 ok hr hd hf hk ⟨rfl, rfl, trivial⟩
      ·
        refine v_aload_n ok 0 dX7_qPartTold_33 rfl rfl ?_
        refine v_bipush ok 20 dX7_qPartTold_34 rfl ?_
        refine v_aload_n ok 0 dX7_qPartTold_36 rfl rfl ?_
        refine v_gI ok fl_X7_263 (fun _ _ _ => rfl) dX7_qPartTold_37 hf (fun v33 hf => ?_)
        refine v_cVv ok (RX7, TX7, 117) cf_7.1 [vi 20, vi v33] (F := fun a => X7_qOpens a 20 v33 h23) (fun a h1 _ hv => M_X7_qOpens ok.2.2.2.2.2.2.1 (d := 2) (Nat.le_refl _) hv) (by exact Nat.le_trans (by decide) hd) cw_X7_qOpens q2246 q2248 qs87 dX7_qPartTold_40 [] rfl (Nat.le_of_ble_eq_true rfl) hf (fun h34 hf => ?_)
        refine v_aload_n ok 0 dX7_qPartTold_43 rfl rfl ?_
        refine v_dup ok dX7_qPartTold_44 rfl ?_
        refine v_gI ok fl_X7_263 (fun _ _ _ => rfl) dX7_qPartTold_45 hf (fun v35 hf => ?_)
        refine v_iconst ok 1 dX7_qPartTold_48 rfl ?_
        refine v_iadd ok dX7_qPartTold_49 ?_
        refine v_pI ok fl_X7_263 ⟨fun _ _ _ => rfl, rfl⟩ (FN.of cf_7.1 rfl) dX7_qPartTold_50 hf (fun h36 hf => ?_)
        refine v_goto ok 183 dX7_qPartTold_53 rfl ?_
        refine v_goto ok 2 dX7_qPartTold_183 rfl ?_
        cases hf; exact hk _ ⟨rfl, rfl, trivial⟩
theorem W_X7_qPartTold_2 {G : GT} {X : CX} {d : Nat} {h0 : AH} {Q : State → Prop} (ok : Ok G X RX7 cX7_qPartTold 6 d h0) (hr : (cxm X).sig.returnType = none) (hd : 6 ≤ d) {a0 : Nat} {x1 : Int32} {h : AH} {z : (AH)} (hf : X7_qPartTold_2  a0 x1 h = some z) (hk : Q = QM G X h0 none z) {lv : List (Nat × AV)} (hl : lle lv [(0, vr (some a0)), (1, vi x1)]) : V G X 6 h0 Q h 2 lv [] := by
  unfold X7_qPartTold_2 at hf
  exact loopC_walk (Wh := fun s : Int32 × AH => ∀ lv : List (Nat × AV), lle lv [(0, vr (some a0)), (1, vi s.1)] → V G X 6 h0 Q s.2 2 lv []) (PK := fun z => Q = QM G X h0 none z) (fun s o hf hk lv hl => W_X7_qPartTold_2b ok hr hd hf (by cases o <;> exact hk) hl) _ z hf hk lv hl
theorem W_X7_qPartTold {G : GT} {X : CX} {d : Nat} {h0 : AH} {Q : State → Prop} (ok : Ok G X RX7 cX7_qPartTold 6 d h0) (hr : (cxm X).sig.returnType = none) (hd : 6 ≤ d) {a0 : Nat} {h : AH} {z : (AH)} (hf : X7_qPartTold a0 h = some z) (hk : Q = QM G X h0 none z) {lv : List (Nat × AV)} (hl : lle lv [(0, vr (some a0))]) : V G X 6 h0 Q h 0 lv [] := by
  refine V.sub hl ?_
  unfold X7_qPartTold at hf
  refine v_iconst ok 1 dX7_qPartTold_0 rfl ?_
  refine v_istore_n ok 1 dX7_qPartTold_1 rfl (by decide) ?_
  exact W_X7_qPartTold_2 ok hr hd hf hk ⟨rfl, rfl, trivial⟩
theorem M_X7_qPartTold {G : GT} {l : Launch} (hG : Glob G) {d : Nat} (hd : 6 ≤ d) {a0 : Nat} {h : AH} {h' : AH} (hf : X7_qPartTold a0 h = some h') : MM G l yX7_qPartTold cX7_qPartTold 6 none d [vr (some a0)] h none h' := by
  refine mm_of hG (plainFor_of_name (by decide)) (Nat.le_of_ble_eq_true rfl) (fun X hX ok hr hnm => ?_)
  subst hX
  exact W_X7_qPartTold ok hr hd hf rfl ⟨rfl, trivial⟩
