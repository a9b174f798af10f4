set_option maxRecDepth 100000
theorem cw_X7_isImage : CW yX7_isImage cX7_isImage 3 (Option.some Jvm.ClassFile.FieldType.boolean) 1 := ⟨q2707, q185, ⟨by decide, by decide⟩, by decide +kernel, by decide⟩
def pkX7_isImage_49 (G : GT) (X : CX) (h0 : AH) (Q : State → Prop) (a0 : Nat) (o : ((Int32 × AH) ⊕ (Int32 × AH))) : Prop := match o with
  | .inl s => ∀ lv : List (Nat × AV), lle lv [(0, vr (some a0)), (2, vi s.1)] → V G X 3 h0 Q s.2 49 lv []
  | .inr z => Q = QM G X h0 (some (vi z.1)) z.2
theorem W_X7_isImage_49b {G : GT} {X : CX} {d : Nat} {h0 : AH} {Q : State → Prop} (ok : Ok G X RX7 cX7_isImage 3 d h0) (hr : (cxm X).sig.returnType = (Option.some Jvm.ClassFile.FieldType.boolean)) (hd : 5 ≤ d) {a0 : Nat} {x2 : Int32} {h : AH} {z : ((Int32 × AH) ⊕ (Int32 × AH))} (hf : X7_isImage_49b  a0 x2 h = some z) (hk : pkX7_isImage_49 G X h0 Q a0 z) {lv : List (Nat × AV)} (hl : lle lv [(0, vr (some a0)), (2, vi x2)]) : V G X 3 h0 Q h 49 lv [] := by
  refine V.sub hl ?_
  unfold X7_isImage_49b at hf
  refine v_iload_n ok 2 dX7_isImage_49 rfl rfl ?_
  refine v_aload_n ok 0 dX7_isImage_50 rfl rfl ?_
  refine v_cVi ok (RX7, TX7, 117) cf_7.1 [] (F := fun a => X7_boardMany a h) (fun a v h1 _ hv => M_X7_boardMany ok.2.2.2.2.2.2.1 (d := 1) (Nat.le_refl _) hv) (by exact Nat.le_trans (by decide) hd) cw_X7_boardMany q2369 q2371 qs115 dX7_isImage_51 [vi x2] rfl (Nat.le_of_ble_eq_true rfl) hf (fun v1 h2 hf => ?_)
  refine v_icmp_ge ok 78 dX7_isImage_54 rfl hf (fun hf => ?_) (fun hf => ?_)
  ·
    refine v_iconst ok 1 dX7_isImage_78 rfl ?_
    exact v_zretL ok hr (by decide) (by decide) (by cases hf; exact hk) dX7_isImage_79
  ·
    refine v_aload_n ok 0 dX7_isImage_57 rfl rfl ?_
    refine v_iconst ok 2 dX7_isImage_58 rfl ?_
    refine v_bipush ok 14 dX7_isImage_59 rfl ?_
    refine v_iload_n ok 2 dX7_isImage_61 rfl rfl ?_
    refine v_imul ok dX7_isImage_62 ?_
    refine v_iadd ok dX7_isImage_63 ?_
    refine v_cVi ok (RX7, TX7, 117) cf_7.1 [vi (2 + (14 * x2))] (F := fun a => X7_isBoardTold a (2 + (14 * x2)) h2) (fun a v h1 _ hv => M_X7_isBoardTold ok.2.2.2.2.2.2.1 (d := 4) (Nat.le_refl _) hv) (by exact Nat.le_trans (by decide) hd) cw_X7_isBoardTold q2712 q2714 qs166 dX7_isImage_64 [] rfl (Nat.le_of_ble_eq_true rfl) hf (fun v3 h4 hf => ?_)
    refine v_if_ne ok 72 dX7_isImage_67 rfl hf (fun hf => ?_) (fun hf => ?_)
    ·
      refine v_iinc ok x2 (x2 + 1) dX7_isImage_72 rfl rfl (by decide) ?_
      refine v_goto ok 49 dX7_isImage_75 rfl ?_
      cases hf; exact hk _ ⟨rfl, rfl, trivial⟩
    ·
      refine v_iconst ok 0 dX7_isImage_70 rfl ?_
      exact v_zretL ok hr (by decide) (by decide) (by cases hf; exact hk) dX7_isImage_71
theorem W_X7_isImage_49 {G : GT} {X : CX} {d : Nat} {h0 : AH} {Q : State → Prop} (ok : Ok G X RX7 cX7_isImage 3 d h0) (hr : (cxm X).sig.returnType = (Option.some Jvm.ClassFile.FieldType.boolean)) (hd : 5 ≤ d) {a0 : Nat} {x2 : Int32} {h : AH} {z : (Int32 × AH)} (hf : X7_isImage_49  a0 x2 h = some z) (hk : Q = QM G X h0 (some (vi z.1)) z.2) {lv : List (Nat × AV)} (hl : lle lv [(0, vr (some a0)), (2, vi x2)]) : V G X 3 h0 Q h 49 lv [] := by
  unfold X7_isImage_49 at hf
  exact loopC_walk (Wh := fun s : Int32 × AH => ∀ lv : List (Nat × AV), lle lv [(0, vr (some a0)), (2, vi s.1)] → V G X 3 h0 Q s.2 49 lv []) (PK := fun z => Q = QM G X h0 (some (vi z.1)) z.2) (fun s o hf hk lv hl => W_X7_isImage_49b ok hr hd hf (by cases o <;> exact hk) hl) _ z hf hk lv hl
theorem W_X7_isImage {G : GT} {X : CX} {d : Nat} {h0 : AH} {Q : State → Prop} (ok : Ok G X RX7 cX7_isImage 3 d h0) (hr : (cxm X).sig.returnType = (Option.some Jvm.ClassFile.FieldType.boolean)) (hd : 5 ≤ d) {a0 : Nat} {x1 : Int32} {h : AH} {z : (Int32 × AH)} (hf : X7_isImage a0 x1 h = some z) (hk : Q = QM G X h0 (some (vi z.1)) z.2) {lv : List (Nat × AV)} (hl : lle lv [(0, vr (some a0)), (1, vi x1)]) : V G X 3 h0 Q h 0 lv [] := by
  refine V.sub hl ?_
  unfold X7_isImage at hf
  refine v_iload_n ok 1 dX7_isImage_0 rfl rfl ?_
  refine v_iconst ok 3 dX7_isImage_1 rfl ?_
  refine v_bipush ok 14 dX7_isImage_2 rfl ?_
  refine v_aload_n ok 0 dX7_isImage_4 rfl rfl ?_
  refine v_cVi ok (RX7, TX7, 117) cf_7.1 [] (F := fun a => X7_boardMany a h) (fun a v h1 _ hv => M_X7_boardMany ok.2.2.2.2.2.2.1 (d := 1) (Nat.le_refl _) hv) (by exact Nat.le_trans (by decide) hd) cw_X7_boardMany q2369 q2371 qs115 dX7_isImage_5 [vi 14, vi 3, vi x1] rfl (Nat.le_of_ble_eq_true rfl) hf (fun v5 h6 hf => ?_)
  refine v_imul ok dX7_isImage_8 ?_
  refine v_iadd ok dX7_isImage_9 ?_
  refine v_icmp_ne ok 45 dX7_isImage_10 rfl hf (fun hf => ?_) (fun hf => ?_)
  ·
    refine v_iconst ok 0 dX7_isImage_45 rfl ?_
    exact v_zretL ok hr (by decide) (by decide) (by cases hf; exact hk) dX7_isImage_46
  ·
    refine v_aload_n ok 0 dX7_isImage_13 rfl rfl ?_
    refine v_gR ok fl_X7_7 (by first | exact Or.inl ⟨_, rfl⟩ | exact Or.inr ⟨_, rfl⟩) dX7_isImage_14 hf (fun v7 hf => ?_)
    refine v_iload_n ok 1 dX7_isImage_17 rfl rfl ?_
    refine v_iconst ok 1 dX7_isImage_18 rfl ?_
    refine v_isub ok dX7_isImage_19 ?_
    refine v_iald ok rfl dX7_isImage_20 hf (fun v8 hf => ?_)
    refine v_aload_n ok 0 dX7_isImage_21 rfl rfl ?_
    refine v_gR ok fl_X7_7 (by first | exact Or.inl ⟨_, rfl⟩ | exact Or.inr ⟨_, rfl⟩) dX7_isImage_22 hf (fun v9 hf => ?_)
    refine v_iload_n ok 1 dX7_isImage_25 rfl rfl ?_
    refine v_iconst ok 1 dX7_isImage_26 rfl ?_
    refine v_isub ok dX7_isImage_27 ?_
    refine v_cSi ok [vr v9, vi (x1 - 1)] (F := X7_checked v9 (x1 - 1) h6) (fun v h1 hv => M_X7_checked ok.2.2.2.2.2.2.1 (d := 1) (Nat.le_refl _) hv) (by exact Nat.le_trans (by decide) hd) cw_X7_checked q2693 q2694 dX7_isImage_28 [vi v8] rfl (Nat.le_of_ble_eq_true rfl) hf (fun v10 h11 hf => ?_)
    refine v_icmp_ne ok 45 dX7_isImage_31 rfl hf (fun hf => ?_) (fun hf => ?_)
    ·
      refine v_iconst ok 0 dX7_isImage_45 rfl ?_
      exact v_zretL ok hr (by decide) (by decide) (by cases hf; exact hk) dX7_isImage_46
    ·
      refine v_aload_n ok 0 dX7_isImage_34 rfl rfl ?_
      refine v_iconst ok 0 dX7_isImage_35 rfl ?_
      refine v_cVi ok (RX7, TX7, 117) cf_7.1 [vi 0] (F := fun a => X7_twoAt a 0 h11) (fun a v h1 _ hv => M_X7_twoAt ok.2.2.2.2.2.2.1 (d := 1) (Nat.le_refl _) hv) (by exact Nat.le_trans (by decide) hd) cw_X7_twoAt q2708 q2710 qs165 dX7_isImage_36 [] rfl (Nat.le_of_ble_eq_true rfl) hf (fun v12 h13 hf => ?_)
      refine v_sipush ok 999 dX7_isImage_39 rfl ?_
      refine v_icmp_le ok 47 dX7_isImage_42 rfl hf (fun hf => ?_) (fun hf => ?_)
      ·
        refine v_iconst ok 0 dX7_isImage_47 rfl ?_
        refine v_istore_n ok 2 dX7_isImage_48 rfl (by decide) ?_
        exact W_X7_isImage_49 ok hr hd hf hk ⟨rfl, rfl, trivial⟩
      ·
        refine v_iconst ok 0 dX7_isImage_45 rfl ?_
        exact v_zretL ok hr (by decide) (by decide) (by cases hf; exact hk) dX7_isImage_46
theorem M_X7_isImage {G : GT} {l : Launch} (hG : Glob G) {d : Nat} (hd : 5 ≤ d) {a0 : Nat} {x1 : Int32} {h : AH} {v : Int32} {h' : AH} (hf : X7_isImage a0 x1 h = some (v, h')) : MM G l yX7_isImage cX7_isImage 3 (Option.some Jvm.ClassFile.FieldType.boolean) d [vr (some a0), vi x1] h (some (vi v)) h' := by
  refine mm_of hG (plainFor_of_name (by decide)) (Nat.le_of_ble_eq_true rfl) (fun X hX ok hr hnm => ?_)
  subst hX
  exact W_X7_isImage ok hr hd hf rfl ⟨rfl, rfl, trivial⟩
theorem cw_X7_on : CW yX7_on cX7_on 4 (Option.some Jvm.ClassFile.FieldType.boolean) 0 := ⟨q2703, q185, ⟨by decide, by decide⟩, by decide +kernel, by decide⟩
def pkX7_on_43 (G : GT) (X : CX) (h0 : AH) (Q : State → Prop) (a0 : Nat) (o : ((Int32 × AH) ⊕ (Int32 × AH))) : Prop := match o with
  | .inl s => ∀ lv : List (Nat × AV), lle lv [(0, vr (some a0)), (2, vi s.1)] → V G X 4 h0 Q s.2 43 lv []
  | .inr z => Q = QM G X h0 (some (vi z.1)) z.2
def pkX7_on_97 (G : GT) (X : CX) (h0 : AH) (Q : State → Prop) (a0 : Nat) (x2 : Int32) (o : ((Int32 × AH) ⊕ ((Int32 × AH) ⊕ (Int32 × AH)))) : Prop := match o with
  | .inl s => ∀ lv : List (Nat × AV), lle lv [(0, vr (some a0)), (2, vi x2), (3, vi s.1)] → V G X 4 h0 Q s.2 97 lv []
  | .inr z => pkX7_on_43 G X h0 Q a0 z
theorem W_X7_on_97b {G : GT} {X : CX} {d : Nat} {h0 : AH} {Q : State → Prop} (ok : Ok G X RX7 cX7_on 4 d h0) (hr : (cxm X).sig.returnType = (Option.some Jvm.ClassFile.FieldType.boolean)) (hd : 6 ≤ d) {a0 : Nat} {x2 : Int32} {x3 : Int32} {h : AH} {z : ((Int32 × AH) ⊕ ((Int32 × AH) ⊕ (Int32 × AH)))} (hf : X7_on_97b  a0 x2 x3 h = some z) (hk : pkX7_on_97 G X h0 Q a0 x2 z) {lv : List (Nat × AV)} (hl : lle lv [(0, vr (some a0)), (2, vi x2), (3, vi x3)]) : V G X 4 h0 Q h 97 lv [] := by
  refine V.sub hl ?_
  unfold X7_on_97b at hf
  refine v_iload_n ok 3 dX7_on_97 rfl rfl ?_
  refine v_bipush ok 6 dX7_on_98 rfl ?_
  refine v_icmp_ge ok 136 dX7_on_100 rfl hf (fun hf => ?_) (fun hf => ?_)
  ·
    refine v_iinc ok x2 (x2 + 1) dX7_on_136 rfl rfl (by decide) ?_
    refine v_goto ok 43 dX7_on_139 rfl ?_
    cases hf; exact hk _ ⟨rfl, rfl, trivial⟩
  ·
    refine v_aload_n ok 0 dX7_on_103 rfl rfl ?_
    refine v_gR ok fl_X7_132 (by first | exact Or.inl ⟨_, rfl⟩ | exact Or.inr ⟨_, rfl⟩) dX7_on_104 hf (fun v1 hf => ?_)
    refine v_iconst ok 3 dX7_on_107 rfl ?_
    refine v_bipush ok 8 dX7_on_108 rfl ?_
    refine v_iload_n ok 2 dX7_on_110 rfl rfl ?_
    refine v_imul ok dX7_on_111 ?_
    refine v_iadd ok dX7_on_112 ?_
    refine v_iload_n ok 3 dX7_on_113 rfl rfl ?_
    refine v_iadd ok dX7_on_114 ?_
    refine v_aload_n ok 0 dX7_on_115 rfl rfl ?_
    refine v_iconst ok 4 dX7_on_116 rfl ?_
    refine v_bipush ok 14 dX7_on_117 rfl ?_
    refine v_iload_n ok 2 dX7_on_119 rfl rfl ?_
    refine v_imul ok dX7_on_120 ?_
    refine v_iadd ok dX7_on_121 ?_
    refine v_iconst ok 2 dX7_on_122 rfl ?_
    refine v_iload_n ok 3 dX7_on_123 rfl rfl ?_
    refine v_imul ok dX7_on_124 ?_
    refine v_iadd ok dX7_on_125 ?_
    refine v_cVi ok (RX7, TX7, 117) cf_7.1 [vi ((4 + (14 * x2)) + (2 * x3))] (F := fun a => X7_twoAt a ((4 + (14 * x2)) + (2 * x3)) h) (fun a v h1 _ hv => M_X7_twoAt ok.2.2.2.2.2.2.1 (d := 1) (Nat.le_refl _) hv) (by exact Nat.le_trans (by decide) hd) cw_X7_twoAt q2708 q2710 qs165 dX7_on_126 [vi ((3 + (8 * x2)) + x3), vr v1] rfl (Nat.le_of_ble_eq_true rfl) hf (fun v2 h3 hf => ?_)
    refine v_iast ok rfl dX7_on_129 hf (fun h4 hf => ?_)
    refine v_iinc ok x3 (x3 + 1) dX7_on_130 rfl rfl (by decide) ?_
    refine v_goto ok 97 dX7_on_133 rfl ?_
    cases hf; exact hk _ ⟨rfl, rfl, rfl, trivial⟩
theorem W_X7_on_97 {G : GT} {X : CX} {d : Nat} {h0 : AH} {Q : State → Prop} (ok : Ok G X RX7 cX7_on 4 d h0) (hr : (cxm X).sig.returnType = (Option.some Jvm.ClassFile.FieldType.boolean)) (hd : 6 ≤ d) {a0 : Nat} {x2 : Int32} {x3 : Int32} {h : AH} {z : ((Int32 × AH) ⊕ (Int32 × AH))} (hf : X7_on_97  a0 x2 x3 h = some z) (hk : pkX7_on_43 G X h0 Q a0 z) {lv : List (Nat × AV)} (hl : lle lv [(0, vr (some a0)), (2, vi x2), (3, vi x3)]) : V G X 4 h0 Q h 97 lv [] := by
  unfold X7_on_97 at hf
  exact loopC_walk (Wh := fun s : Int32 × AH => ∀ lv : List (Nat × AV), lle lv [(0, vr (some a0)), (2, vi x2), (3, vi s.1)] → V G X 4 h0 Q s.2 97 lv []) (PK := fun z => pkX7_on_43 G X h0 Q a0 z) (fun s o hf hk lv hl => W_X7_on_97b ok hr hd hf (by cases o <;> exact hk) hl) _ z hf hk lv hl
theorem W_X7_on_142 {G : GT} {X : CX} {d : Nat} {h0 : AH} {Q : State → Prop} (ok : Ok G X RX7 cX7_on 4 d h0) (hr : (cxm X).sig.returnType = (Option.some Jvm.ClassFile.FieldType.boolean)) (hd : 6 ≤ d) {a0 : Nat} {h : AH} {z : (Int32 × AH)} (hf : X7_on_142 a0 h = some z) (hk : Q = QM G X h0 (some (vi z.1)) z.2) {lv : List (Nat × AV)} (hl : lle lv [(0, vr (some a0))]) : V G X 4 h0 Q h 142 lv [] := by
  refine V.sub hl ?_
  unfold X7_on_142 at hf
  refine v_aload_n ok 0 dX7_on_142 rfl rfl ?_
  refine v_gR ok fl_X7_132 (by first | exact Or.inl ⟨_, rfl⟩ | exact Or.inr ⟨_, rfl⟩) dX7_on_143 hf (fun v5 hf => ?_)
  refine v_bipush ok 33 dX7_on_146 rfl ?_
  refine v_iconst ok 0 dX7_on_148 rfl ?_
  refine v_iast ok rfl dX7_on_149 hf (fun h6 hf => ?_)
  refine v_aload_n ok 0 dX7_on_150 rfl rfl ?_
  refine v_iconst ok 0 dX7_on_151 rfl ?_
  refine v_pI ok fl_X7_402 ⟨fun _ _ _ => rfl, rfl⟩ (FN.of cf_7.1 rfl) dX7_on_152 hf (fun h7 hf => ?_)
  refine v_iconst ok 1 dX7_on_155 rfl ?_
  exact v_zretL ok hr (by decide) (by decide) (by cases hf; exact hk) dX7_on_156
theorem W_X7_on_43b {G : GT} {X : CX} {d : Nat} {h0 : AH} {Q : State → Prop} (ok : Ok G X RX7 cX7_on 4 d h0) (hr : (cxm X).sig.returnType = (Option.some Jvm.ClassFile.FieldType.boolean)) (hd : 6 ≤ d) {a0 : Nat} {x2 : Int32} {h : AH} {z : ((Int32 × AH) ⊕ (Int32 × AH))} (hf : X7_on_43b  a0 x2 h = some z) (hk : pkX7_on_43 G X h0 Q a0 z) {lv : List (Nat × AV)} (hl : lle lv [(0, vr (some a0)), (2, vi x2)]) : V G X 4 h0 Q h 43 lv [] := by
  refine V.sub hl ?_
  unfold X7_on_43b at hf
  refine v_iload_n ok 2 dX7_on_43 rfl rfl ?_
  refine v_aload_n ok 0 dX7_on_44 rfl rfl ?_
  refine v_cVi ok (RX7, TX7, 117) cf_7.1 [] (F := fun a => X7_boardMany a h) (fun a v h1 _ hv => M_X7_boardMany ok.2.2.2.2.2.2.1 (d := 1) (Nat.le_refl _) hv) (by exact Nat.le_trans (by decide) hd) cw_X7_boardMany q2369 q2371 qs115 dX7_on_45 [vi x2] rfl (Nat.le_of_ble_eq_true rfl) hf (fun v8 h9 hf => ?_)
  refine v_icmp_ge ok 142 dX7_on_48 rfl hf (fun hf => ?_) (fun hf => ?_)
  ·
    obtain ⟨o, ho, hz⟩ := ob hf
    cases hz; exact W_X7_on_142 ok hr hd ho hk ⟨rfl, trivial⟩
  ·
    refine v_aload_n ok 0 dX7_on_51 rfl rfl ?_
    refine v_gR ok fl_X7_132 (by first | exact Or.inl ⟨_, rfl⟩ | exact Or.inr ⟨_, rfl⟩) dX7_on_52 hf (fun v10 hf => ?_)
    refine v_iconst ok 1 dX7_on_55 rfl ?_
    refine v_bipush ok 8 dX7_on_56 rfl ?_
    refine v_iload_n ok 2 dX7_on_58 rfl rfl ?_
    refine v_imul ok dX7_on_59 ?_
    refine v_iadd ok dX7_on_60 ?_
    refine v_aload_n ok 0 dX7_on_61 rfl rfl ?_
    refine v_gR ok fl_X7_7 (by first | exact Or.inl ⟨_, rfl⟩ | exact Or.inr ⟨_, rfl⟩) dX7_on_62 hf (fun v11 hf => ?_)
    refine v_iconst ok 2 dX7_on_65 rfl ?_
    refine v_bipush ok 14 dX7_on_66 rfl ?_
    refine v_iload_n ok 2 dX7_on_68 rfl rfl ?_
    refine v_imul ok dX7_on_69 ?_
    refine v_iadd ok dX7_on_70 ?_
    refine v_iald ok rfl dX7_on_71 hf (fun v12 hf => ?_)
    refine v_iast ok rfl dX7_on_72 hf (fun h13 hf => ?_)
    refine v_aload_n ok 0 dX7_on_73 rfl rfl ?_
    refine v_gR ok fl_X7_132 (by first | exact Or.inl ⟨_, rfl⟩ | exact Or.inr ⟨_, rfl⟩) dX7_on_74 hf (fun v14 hf => ?_)
    refine v_iconst ok 2 dX7_on_77 rfl ?_
    refine v_bipush ok 8 dX7_on_78 rfl ?_
    refine v_iload_n ok 2 dX7_on_80 rfl rfl ?_
    refine v_imul ok dX7_on_81 ?_
    refine v_iadd ok dX7_on_82 ?_
    refine v_aload_n ok 0 dX7_on_83 rfl rfl ?_
    refine v_gR ok fl_X7_7 (by first | exact Or.inl ⟨_, rfl⟩ | exact Or.inr ⟨_, rfl⟩) dX7_on_84 hf (fun v15 hf => ?_)
    refine v_iconst ok 3 dX7_on_87 rfl ?_
    refine v_bipush ok 14 dX7_on_88 rfl ?_
    refine v_iload_n ok 2 dX7_on_90 rfl rfl ?_
    refine v_imul ok dX7_on_91 ?_
    refine v_iadd ok dX7_on_92 ?_
    refine v_iald ok rfl dX7_on_93 hf (fun v16 hf => ?_)
    refine v_iast ok rfl dX7_on_94 hf (fun h17 hf => ?_)
    refine v_iconst ok 0 dX7_on_95 rfl ?_
    refine v_istore_n ok 3 dX7_on_96 rfl (by decide) ?_
    exact W_X7_on_97 ok hr hd hf hk ⟨rfl, rfl, rfl, trivial⟩
theorem W_X7_on_43 {G : GT} {X : CX} {d : Nat} {h0 : AH} {Q : State → Prop} (ok : Ok G X RX7 cX7_on 4 d h0) (hr : (cxm X).sig.returnType = (Option.some Jvm.ClassFile.FieldType.boolean)) (hd : 6 ≤ d) {a0 : Nat} {x2 : Int32} {h : AH} {z : (Int32 × AH)} (hf : X7_on_43  a0 x2 h = some z) (hk : Q = QM G X h0 (some (vi z.1)) z.2) {lv : List (Nat × AV)} (hl : lle lv [(0, vr (some a0)), (2, vi x2)]) : V G X 4 h0 Q h 43 lv [] := by
  unfold X7_on_43 at hf
  exact loopC_walk (Wh := fun s : Int32 × AH => ∀ lv : List (Nat × AV), lle lv [(0, vr (some a0)), (2, vi s.1)] → V G X 4 h0 Q s.2 43 lv []) (PK := fun z => Q = QM G X h0 (some (vi z.1)) z.2) (fun s o hf hk lv hl => W_X7_on_43b ok hr hd hf (by cases o <;> exact hk) hl) _ z hf hk lv hl
theorem W_X7_on {G : GT} {X : CX} {d : Nat} {h0 : AH} {Q : State → Prop} (ok : Ok G X RX7 cX7_on 4 d h0) (hr : (cxm X).sig.returnType = (Option.some Jvm.ClassFile.FieldType.boolean)) (hd : 6 ≤ d) {a0 : Nat} {h : AH} {z : (Int32 × AH)} (hf : X7_on a0 h = some z) (hk : Q = QM G X h0 (some (vi z.1)) z.2) {lv : List (Nat × AV)} (hl : lle lv [(0, vr (some a0))]) : V G X 4 h0 Q h 0 lv [] := by
  refine V.sub hl ?_
  unfold X7_on at hf
  refine v_aload_n ok 0 dX7_on_0 rfl rfl ?_
  refine v_gI ok fl_X7_254 (fun _ _ _ => rfl) dX7_on_1 hf (fun v18 hf => ?_)
  refine v_istore_n ok 1 dX7_on_4 rfl (by decide) ?_
  refine v_aload_n ok 0 dX7_on_5 rfl rfl ?_
  refine v_iconst ok 0 dX7_on_6 rfl ?_
  refine v_pI ok fl_X7_254 ⟨fun _ _ _ => rfl, rfl⟩ (FN.of cf_7.1 rfl) dX7_on_7 hf (fun h19 hf => ?_)
  refine v_aload_n ok 0 dX7_on_10 rfl rfl ?_
  refine v_iload_n ok 1 dX7_on_11 rfl rfl ?_
  refine v_cVi ok (RX7, TX7, 117) cf_7.1 [vi v18] (F := fun a => X7_isImage a v18 h19) (fun a v h1 _ hv => M_X7_isImage ok.2.2.2.2.2.2.1 (d := 5) (Nat.le_refl _) hv) (by exact Nat.le_trans (by decide) hd) cw_X7_isImage q2704 q2706 qs164 dX7_on_12 [] rfl (Nat.le_of_ble_eq_true rfl) hf (fun v20 h21 hf => ?_)
  refine v_if_ne ok 30 dX7_on_15 rfl hf (fun hf => ?_) (fun hf => ?_)
  ·
    refine v_aload_n ok 0 dX7_on_30 rfl rfl ?_
    refine v_gR ok fl_X7_132 (by first | exact Or.inl ⟨_, rfl⟩ | exact Or.inr ⟨_, rfl⟩) dX7_on_31 hf (fun v22 hf => ?_)
    refine v_iconst ok 0 dX7_on_34 rfl ?_
    refine v_aload_n ok 0 dX7_on_35 rfl rfl ?_
    refine v_iconst ok 0 dX7_on_36 rfl ?_
    refine v_cVi ok (RX7, TX7, 117) cf_7.1 [vi 0] (F := fun a => X7_twoAt a 0 h21) (fun a v h1 _ hv => M_X7_twoAt ok.2.2.2.2.2.2.1 (d := 1) (Nat.le_refl _) hv) (by exact Nat.le_trans (by decide) hd) cw_X7_twoAt q2708 q2710 qs165 dX7_on_37 [vi 0, vr v22] rfl (Nat.le_of_ble_eq_true rfl) hf (fun v23 h24 hf => ?_)
    refine v_iast ok rfl dX7_on_40 hf (fun h25 hf => ?_)
    refine v_iconst ok 0 dX7_on_41 rfl ?_
    refine v_istore_n ok 2 dX7_on_42 rfl (by decide) ?_
    exact W_X7_on_43 ok hr hd hf hk ⟨rfl, rfl, trivial⟩
  ·
    refine v_aload_n ok 0 dX7_on_18 rfl rfl ?_
    refine v_gR ok fl_X7_17 (by first | exact Or.inl ⟨_, rfl⟩ | exact Or.inr ⟨_, rfl⟩) dX7_on_19 hf (fun v26 hf => ?_)
    refine v_iconst ok 5 dX7_on_22 rfl ?_
    refine v_dup2 ok dX7_on_23 rfl rfl ?_
    refine v_iald ok rfl dX7_on_24 hf (fun v27 hf => ?_)
    refine v_iconst ok 1 dX7_on_25 rfl ?_
    refine v_iadd ok dX7_on_26 ?_
    refine v_iast ok rfl dX7_on_27 hf (fun h28 hf => ?_)
    refine v_iconst ok 0 dX7_on_28 rfl ?_
    exact v_zretL ok hr (by decide) (by decide) (by cases hf; exact hk) dX7_on_29
theorem M_X7_on {G : GT} {l : Launch} (hG : Glob G) {d : Nat} (hd : 6 ≤ d) {a0 : Nat} {h : AH} {v : Int32} {h' : AH} (hf : X7_on a0 h = some (v, h')) : MM G l yX7_on cX7_on 4 (Option.some Jvm.ClassFile.FieldType.boolean) d [vr (some a0)] h (some (vi v)) h' := by
  refine mm_of hG (plainFor_of_name (by decide)) (Nat.le_of_ble_eq_true rfl) (fun X hX ok hr hnm => ?_)
  subst hX
  exact W_X7_on ok hr hd hf rfl ⟨rfl, trivial⟩
theorem cw_X7_status : CW yX7_status cX7_status 2 (Option.some Jvm.ClassFile.FieldType.int) 1 := ⟨q2719, q185, ⟨by decide, by decide⟩, by decide +kernel, by decide⟩
theorem W_X7_status {G : GT} {X : CX} {d : Nat} {h0 : AH} {Q : State → Prop} (ok : Ok G X RX7 cX7_status 2 d h0) (hr : (cxm X).sig.returnType = (Option.some Jvm.ClassFile.FieldType.int)) (hd : 2 ≤ d) {a0 : Nat} {x1 : Int32} {h : AH} {z : (Int32 × AH)} (hf : X7_status a0 x1 h = some z) (hk : Q = QM G X h0 (some (vi z.1)) z.2) {lv : List (Nat × AV)} (hl : lle lv [(0, vr (some a0)), (1, vi x1)]) : V G X 2 h0 Q h 0 lv [] := by
  refine V.sub hl ?_
  unfold X7_status at hf
  refine v_iload_n ok 1 dX7_status_0 rfl rfl ?_
  refine v_i2l ok dX7_status_1 ?_
  refine v_lconst ok 0 dX7_status_2 rfl ?_
  refine v_ldc2 ok q2404 dX7_status_3 ?_
  refine v_cSi ok [vl (Int32.toInt64 x1), vl 0, vl 5] (F := X7_isIn (Int32.toInt64 x1) 0 5 h) (fun v h1 hv => M_X7_isIn ok.2.2.2.2.2.2.1 (d := 1) (Nat.le_refl _) hv) (by exact Nat.le_trans (by decide) hd) cw_X7_isIn q2215 q2216 dX7_status_6 [] rfl (Nat.le_of_ble_eq_true rfl) hf (fun v1 h2 hf => ?_)
  refine v_if_eq ok 21 dX7_status_9 rfl hf (fun hf => ?_) (fun hf => ?_)
  ·
    refine v_iconst ok (-1) dX7_status_21 rfl ?_
    exact v_iret ok hr (by cases hf; exact hk) dX7_status_22
  ·
    refine v_aload_n ok 0 dX7_status_12 rfl rfl ?_
    refine v_gR ok fl_X7_17 (by first | exact Or.inl ⟨_, rfl⟩ | exact Or.inr ⟨_, rfl⟩) dX7_status_13 hf (fun v3 hf => ?_)
    refine v_iload_n ok 1 dX7_status_16 rfl rfl ?_
    refine v_iald ok rfl dX7_status_17 hf (fun v4 hf => ?_)
    refine v_goto ok 22 dX7_status_18 rfl ?_
    exact v_iret ok hr (by cases hf; exact hk) dX7_status_22
theorem M_X7_status {G : GT} {l : Launch} (hG : Glob G) {d : Nat} (hd : 2 ≤ d) {a0 : Nat} {x1 : Int32} {h : AH} {v : Int32} {h' : AH} (hf : X7_status a0 x1 h = some (v, h')) : MM G l yX7_status cX7_status 2 (Option.some Jvm.ClassFile.FieldType.int) d [vr (some a0), vi x1] h (some (vi v)) h' := by
  refine mm_of hG (plainFor_of_name (by decide)) (Nat.le_of_ble_eq_true rfl) (fun X hX ok hr hnm => ?_)
  subst hX
  exact W_X7_status ok hr hd hf rfl ⟨rfl, rfl, trivial⟩
