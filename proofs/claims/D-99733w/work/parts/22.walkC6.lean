set_option maxRecDepth 100000
theorem cw_X0_twoAt : CW yX0_twoAt cX0_twoAt 2 (Option.some Jvm.ClassFile.FieldType.int) 1 := ⟨q1790, q168, ⟨by decide, by decide⟩, by decide +kernel, by decide⟩
theorem W_X0_twoAt {G : GT} {X : CX} {d : Nat} {h0 : AH} {Q : State → Prop} (ok : Ok G X RX0 cX0_twoAt 2 d h0) (hr : (cxm X).sig.returnType = (Option.some Jvm.ClassFile.FieldType.int)) (hd : 2 ≤ d) {a0 : Nat} {x1 : Int32} {h : AH} {z : (Int32 × AH)} (hf : X0_twoAt a0 x1 h = some z) (hk : Q = QM G X h0 (some (vi z.1)) z.2) {lv : List (Nat × AV)} (hl : lle lv [(0, vr (some a0)), (1, vi x1)]) : V G X 2 h0 Q h 0 lv [] := by
  refine V.sub hl ?_
  unfold X0_twoAt at hf
  refine v_aload_n ok 0 dX0_twoAt_0 rfl rfl ?_
  refine v_iload_n ok 1 dX0_twoAt_1 rfl rfl ?_
  refine v_cVi ok (RX0, TX0, 18) cf_0.1 [vi x1] (F := fun a => X0_byteAt a x1 h) (fun a v h1 _ hv => M_X0_byteAt ok.2.2.2.2.2.2.1 (d := 1) (Nat.le_refl _) hv) (by exact Nat.le_trans (by decide) hd) cw_X0_byteAt q1783 q1785 qs67 dX0_twoAt_2 [] rfl (Nat.le_of_ble_eq_true rfl) hf (fun v1 h2 hf => ?_)
  refine v_bipush ok 8 dX0_twoAt_5 rfl ?_
  refine v_ishl ok dX0_twoAt_7 ?_
  refine v_aload_n ok 0 dX0_twoAt_8 rfl rfl ?_
  refine v_iload_n ok 1 dX0_twoAt_9 rfl rfl ?_
  refine v_iconst ok 1 dX0_twoAt_10 rfl ?_
  refine v_iadd ok dX0_twoAt_11 ?_
  refine v_cVi ok (RX0, TX0, 18) cf_0.1 [vi (x1 + 1)] (F := fun a => X0_byteAt a (x1 + 1) h2) (fun a v h1 _ hv => M_X0_byteAt ok.2.2.2.2.2.2.1 (d := 1) (Nat.le_refl _) hv) (by exact Nat.le_trans (by decide) hd) cw_X0_byteAt q1783 q1785 qs67 dX0_twoAt_12 [vi (jshl v1 8)] rfl (Nat.le_of_ble_eq_true rfl) hf (fun v3 h4 hf => ?_)
  refine v_ior ok dX0_twoAt_15 ?_
  exact v_iret ok hr (by cases hf; exact hk) dX0_twoAt_16
theorem M_X0_twoAt {G : GT} {l : Launch} (hG : Glob G) {d : Nat} (hd : 2 ≤ d) {a0 : Nat} {x1 : Int32} {h : AH} {v : Int32} {h' : AH} (hf : X0_twoAt a0 x1 h = some (v, h')) : MM G l yX0_twoAt cX0_twoAt 2 (Option.some Jvm.ClassFile.FieldType.int) d [vr (some a0), vi x1] h (some (vi v)) h' := by
  refine mm_of hG (plainFor_of_name (by decide)) (Nat.le_of_ble_eq_true rfl) (fun X hX ok hr hnm => ?_)
  subst hX
  exact W_X0_twoAt ok hr hd hf rfl ⟨rfl, rfl, trivial⟩
theorem cw_X0_boardOn : CW yX0_boardOn cX0_boardOn 5 (Option.some Jvm.ClassFile.FieldType.boolean) 2 := ⟨q1794, q168, ⟨by decide, by decide⟩, by decide +kernel, by decide⟩
def pkX0_boardOn_53 (G : GT) (X : CX) (h0 : AH) (Q : State → Prop) (a0 : Nat) (x1 : Int32) (x2 : Int32) (o : ((Int32 × AH) ⊕ (Int32 × AH))) : Prop := match o with
  | .inl s => ∀ lv : List (Nat × AV), lle lv [(0, vr (some a0)), (1, vi x1), (2, vi x2), (3, vi s.1)] → V G X 5 h0 Q s.2 53 lv []
  | .inr z => Q = QM G X h0 (some (vi z.1)) z.2
theorem W_X0_boardOn_93 {G : GT} {X : CX} {d : Nat} {h0 : AH} {Q : State → Prop} (ok : Ok G X RX0 cX0_boardOn 5 d h0) (hr : (cxm X).sig.returnType = (Option.some Jvm.ClassFile.FieldType.boolean)) (hd : 9 ≤ d) {a0 : Nat} {x1 : Int32} {x2 : Int32} {x3 : Int32} {x4 : Int32} {s0 : Int32} {s1 : Int32} {h : AH} {z : ((Int32 × AH) ⊕ (Int32 × AH))} (hf : X0_boardOn_93 a0 x1 x2 x3 x4 s0 s1 h = some z) (hk : pkX0_boardOn_53 G X h0 Q a0 x1 x2 z) {lv : List (Nat × AV)} (hl : lle lv [(0, vr (some a0)), (1, vi x1), (2, vi x2), (3, vi x3), (4, vi x4)]) : V G X 5 h0 Q h 93 lv [vi s1, vi s0] := by
  refine V.sub hl ?_
  unfold X0_boardOn_93 at hf
  refine v_icmp_le ok 98 dX0_boardOn_93 rfl hf (fun hf => ?_) (fun hf => ?_)
  ·
    refine v_aload_n ok 0 dX0_boardOn_98 rfl rfl ?_
    refine v_gR ok fl_X0_73 (by first | exact Or.inl ⟨_, rfl⟩ | exact Or.inr ⟨_, rfl⟩) dX0_boardOn_99 hf (fun v1 hf => ?_)
    refine v_gRN ok fl_X0_248 (by first | exact Or.inl ⟨_, rfl⟩ | exact Or.inr ⟨_, rfl⟩) dX0_boardOn_102 hf (fun v2 hf => ?_)
    refine v_iload_n ok 1 dX0_boardOn_105 rfl rfl ?_
    refine v_aald6 ok rfl dX0_boardOn_106 hf (fun v3 hf => ?_)
    refine v_iload_n ok 3 dX0_boardOn_107 rfl rfl ?_
    refine v_iload ok dX0_boardOn_108 rfl ?_
    refine v_iast ok rfl dX0_boardOn_110 hf (fun h4 hf => ?_)
    refine v_iinc ok x3 (x3 + 1) dX0_boardOn_111 rfl rfl (by decide) ?_
    refine v_goto ok 53 dX0_boardOn_114 rfl ?_
    cases hf; exact hk _ ⟨rfl, rfl, rfl, rfl, trivial⟩
  ·
    refine v_iconst ok 0 dX0_boardOn_96 rfl ?_
    exact v_zretL ok hr (by decide) (by decide) (by cases hf; exact hk) dX0_boardOn_97
theorem W_X0_boardOn_53b {G : GT} {X : CX} {d : Nat} {h0 : AH} {Q : State → Prop} (ok : Ok G X RX0 cX0_boardOn 5 d h0) (hr : (cxm X).sig.returnType = (Option.some Jvm.ClassFile.FieldType.boolean)) (hd : 9 ≤ d) {a0 : Nat} {x1 : Int32} {x2 : Int32} {x3 : Int32} {h : AH} {z : ((Int32 × AH) ⊕ (Int32 × AH))} (hf : X0_boardOn_53b  a0 x1 x2 x3 h = some z) (hk : pkX0_boardOn_53 G X h0 Q a0 x1 x2 z) {lv : List (Nat × AV)} (hl : lle lv [(0, vr (some a0)), (1, vi x1), (2, vi x2), (3, vi x3)]) : V G X 5 h0 Q h 53 lv [] := by
  refine V.sub hl ?_
  unfold X0_boardOn_53b at hf
  refine v_iload_n ok 3 dX0_boardOn_53 rfl rfl ?_
  refine v_bipush ok 6 dX0_boardOn_54 rfl ?_
  refine v_icmp_ge ok 117 dX0_boardOn_56 rfl hf (fun hf => ?_) (fun hf => ?_)
  ·
    refine v_iconst ok 1 dX0_boardOn_117 rfl ?_
    exact v_zretL ok hr (by decide) (by decide) (by cases hf; exact hk) dX0_boardOn_118
  ·
    refine v_aload_n ok 0 dX0_boardOn_59 rfl rfl ?_
    refine v_iload_n ok 2 dX0_boardOn_60 rfl rfl ?_
    refine v_iconst ok 2 dX0_boardOn_61 rfl ?_
    refine v_iadd ok dX0_boardOn_62 ?_
    refine v_iconst ok 2 dX0_boardOn_63 rfl ?_
    refine v_iload_n ok 3 dX0_boardOn_64 rfl rfl ?_
    refine v_imul ok dX0_boardOn_65 ?_
    refine v_iadd ok dX0_boardOn_66 ?_
    refine v_cVi ok (RX0, TX0, 18) cf_0.1 [vi ((x2 + 2) + (2 * x3))] (F := fun a => X0_twoAt a ((x2 + 2) + (2 * x3)) h) (fun a v h1 _ hv => M_X0_twoAt ok.2.2.2.2.2.2.1 (d := 2) (Nat.le_refl _) hv) (by exact Nat.le_trans (by decide) hd) cw_X0_twoAt q1787 q1789 qs68 dX0_boardOn_67 [] rfl (Nat.le_of_ble_eq_true rfl) hf (fun v5 h6 hf => ?_)
    refine v_istore ok dX0_boardOn_70 (by decide) ?_
    refine v_iload ok dX0_boardOn_72 rfl ?_
    refine v_iload_n ok 3 dX0_boardOn_74 rfl rfl ?_
    refine v_aload_n ok 0 dX0_boardOn_75 rfl rfl ?_
    refine v_gR ok fl_X0_73 (by first | exact Or.inl ⟨_, rfl⟩ | exact Or.inr ⟨_, rfl⟩) dX0_boardOn_76 hf (fun v7 hf => ?_)
    refine v_iload_n ok 1 dX0_boardOn_79 rfl rfl ?_
    refine v_cVi ok (RX5, TX5, 10) cf_5.1 [vi x1] (F := fun a => X5_places a x1 h6) (fun a v h1 _ hv => M_X5_places ok.2.2.2.2.2.2.1 (d := 4) (Nat.le_refl _) hv) (by exact Nat.le_trans (by decide) hd) cw_X5_places q1384 q1305 q1306 dX0_boardOn_80 [vi x3, vi v5] rfl (Nat.le_of_ble_eq_true rfl) hf (fun v8 h9 hf => ?_)
    refine v_icmp_ge ok 92 dX0_boardOn_83 rfl hf (fun hf => ?_) (fun hf => ?_)
    ·
      refine v_iconst ok 0 dX0_boardOn_92 rfl ?_
      exact W_X0_boardOn_93 ok hr hd hf hk ⟨rfl, rfl, rfl, rfl, rfl, trivial⟩
    ·
      refine v_sipush ok 32767 dX0_boardOn_86 rfl ?_
      refine v_goto ok 93 dX0_boardOn_89 rfl ?_
      exact W_X0_boardOn_93 ok hr hd hf hk ⟨rfl, rfl, rfl, rfl, rfl, trivial⟩
theorem W_X0_boardOn_53 {G : GT} {X : CX} {d : Nat} {h0 : AH} {Q : State → Prop} (ok : Ok G X RX0 cX0_boardOn 5 d h0) (hr : (cxm X).sig.returnType = (Option.some Jvm.ClassFile.FieldType.boolean)) (hd : 9 ≤ d) {a0 : Nat} {x1 : Int32} {x2 : Int32} {x3 : Int32} {h : AH} {z : (Int32 × AH)} (hf : X0_boardOn_53  a0 x1 x2 x3 h = some z) (hk : Q = QM G X h0 (some (vi z.1)) z.2) {lv : List (Nat × AV)} (hl : lle lv [(0, vr (some a0)), (1, vi x1), (2, vi x2), (3, vi x3)]) : V G X 5 h0 Q h 53 lv [] := by
  unfold X0_boardOn_53 at hf
  exact loopC_walk (Wh := fun s : Int32 × AH => ∀ lv : List (Nat × AV), lle lv [(0, vr (some a0)), (1, vi x1), (2, vi x2), (3, vi s.1)] → V G X 5 h0 Q s.2 53 lv []) (PK := fun z => Q = QM G X h0 (some (vi z.1)) z.2) (fun s o hf hk lv hl => W_X0_boardOn_53b ok hr hd hf (by cases o <;> exact hk) hl) _ z hf hk lv hl
theorem W_X0_boardOn {G : GT} {X : CX} {d : Nat} {h0 : AH} {Q : State → Prop} (ok : Ok G X RX0 cX0_boardOn 5 d h0) (hr : (cxm X).sig.returnType = (Option.some Jvm.ClassFile.FieldType.boolean)) (hd : 9 ≤ d) {a0 : Nat} {x1 : Int32} {x2 : Int32} {h : AH} {z : (Int32 × AH)} (hf : X0_boardOn a0 x1 x2 h = some z) (hk : Q = QM G X h0 (some (vi z.1)) z.2) {lv : List (Nat × AV)} (hl : lle lv [(0, vr (some a0)), (1, vi x1), (2, vi x2)]) : V G X 5 h0 Q h 0 lv [] := by
  refine V.sub hl ?_
  unfold X0_boardOn at hf
  refine v_aload_n ok 0 dX0_boardOn_0 rfl rfl ?_
  refine v_aload_n ok 0 dX0_boardOn_1 rfl rfl ?_
  refine v_iload_n ok 2 dX0_boardOn_2 rfl rfl ?_
  refine v_cVi ok (RX0, TX0, 18) cf_0.1 [vi x2] (F := fun a => X0_byteAt a x2 h) (fun a v h1 _ hv => M_X0_byteAt ok.2.2.2.2.2.2.1 (d := 1) (Nat.le_refl _) hv) (by exact Nat.le_trans (by decide) hd) cw_X0_byteAt q1783 q1785 qs67 dX0_boardOn_3 [vr (some a0)] rfl (Nat.le_of_ble_eq_true rfl) hf (fun v10 h11 hf => ?_)
  refine v_aload_n ok 0 dX0_boardOn_6 rfl rfl ?_
  refine v_iload_n ok 2 dX0_boardOn_7 rfl rfl ?_
  refine v_iconst ok 1 dX0_boardOn_8 rfl ?_
  refine v_iadd ok dX0_boardOn_9 ?_
  refine v_cVi ok (RX0, TX0, 18) cf_0.1 [vi (x2 + 1)] (F := fun a => X0_byteAt a (x2 + 1) h11) (fun a v h1 _ hv => M_X0_byteAt ok.2.2.2.2.2.2.1 (d := 1) (Nat.le_refl _) hv) (by exact Nat.le_trans (by decide) hd) cw_X0_byteAt q1783 q1785 qs67 dX0_boardOn_10 [vi v10, vr (some a0)] rfl (Nat.le_of_ble_eq_true rfl) hf (fun v12 h13 hf => ?_)
  refine v_cVi ok (RX0, TX0, 18) cf_0.1 [vi v10, vi v12] (F := fun a => X0_canPaint a v10 v12 h13) (fun a v h1 _ hv => M_X0_canPaint ok.2.2.2.2.2.2.1 (d := 8) (Nat.le_refl _) hv) (by exact Nat.le_trans (by decide) hd) cw_X0_canPaint q1619 q1621 qs59 dX0_boardOn_13 [] rfl (Nat.le_of_ble_eq_true rfl) hf (fun v14 h15 hf => ?_)
  refine v_if_ne ok 21 dX0_boardOn_16 rfl hf (fun hf => ?_) (fun hf => ?_)
  ·
    refine v_aload_n ok 0 dX0_boardOn_21 rfl rfl ?_
    refine v_gR ok fl_X0_73 (by first | exact Or.inl ⟨_, rfl⟩ | exact Or.inr ⟨_, rfl⟩) dX0_boardOn_22 hf (fun v16 hf => ?_)
    refine v_gRN ok fl_X0_236 (by first | exact Or.inl ⟨_, rfl⟩ | exact Or.inr ⟨_, rfl⟩) dX0_boardOn_25 hf (fun v17 hf => ?_)
    refine v_iload_n ok 1 dX0_boardOn_28 rfl rfl ?_
    refine v_aload_n ok 0 dX0_boardOn_29 rfl rfl ?_
    refine v_iload_n ok 2 dX0_boardOn_30 rfl rfl ?_
    refine v_cVi ok (RX0, TX0, 18) cf_0.1 [vi x2] (F := fun a => X0_byteAt a x2 h15) (fun a v h1 _ hv => M_X0_byteAt ok.2.2.2.2.2.2.1 (d := 1) (Nat.le_refl _) hv) (by exact Nat.le_trans (by decide) hd) cw_X0_byteAt q1783 q1785 qs67 dX0_boardOn_31 [vi x1, vr v17] rfl (Nat.le_of_ble_eq_true rfl) hf (fun v18 h19 hf => ?_)
    refine v_iast ok rfl dX0_boardOn_34 hf (fun h20 hf => ?_)
    refine v_aload_n ok 0 dX0_boardOn_35 rfl rfl ?_
    refine v_gR ok fl_X0_73 (by first | exact Or.inl ⟨_, rfl⟩ | exact Or.inr ⟨_, rfl⟩) dX0_boardOn_36 hf (fun v21 hf => ?_)
    refine v_gRN ok fl_X0_239 (by first | exact Or.inl ⟨_, rfl⟩ | exact Or.inr ⟨_, rfl⟩) dX0_boardOn_39 hf (fun v22 hf => ?_)
    refine v_iload_n ok 1 dX0_boardOn_42 rfl rfl ?_
    refine v_aload_n ok 0 dX0_boardOn_43 rfl rfl ?_
    refine v_iload_n ok 2 dX0_boardOn_44 rfl rfl ?_
    refine v_iconst ok 1 dX0_boardOn_45 rfl ?_
    refine v_iadd ok dX0_boardOn_46 ?_
    refine v_cVi ok (RX0, TX0, 18) cf_0.1 [vi (x2 + 1)] (F := fun a => X0_byteAt a (x2 + 1) h20) (fun a v h1 _ hv => M_X0_byteAt ok.2.2.2.2.2.2.1 (d := 1) (Nat.le_refl _) hv) (by exact Nat.le_trans (by decide) hd) cw_X0_byteAt q1783 q1785 qs67 dX0_boardOn_47 [vi x1, vr v22] rfl (Nat.le_of_ble_eq_true rfl) hf (fun v23 h24 hf => ?_)
    refine v_iast ok rfl dX0_boardOn_50 hf (fun h25 hf => ?_)
    refine v_iconst ok 0 dX0_boardOn_51 rfl ?_
    refine v_istore_n ok 3 dX0_boardOn_52 rfl (by decide) ?_
    exact W_X0_boardOn_53 ok hr hd hf hk ⟨rfl, rfl, rfl, rfl, trivial⟩
  ·
    refine v_iconst ok 0 dX0_boardOn_19 rfl ?_
    exact v_zretL ok hr (by decide) (by decide) (by cases hf; exact hk) dX0_boardOn_20
theorem M_X0_boardOn {G : GT} {l : Launch} (hG : Glob G) {d : Nat} (hd : 9 ≤ d) {a0 : Nat} {x1 : Int32} {x2 : Int32} {h : AH} {v : Int32} {h' : AH} (hf : X0_boardOn a0 x1 x2 h = some (v, h')) : MM G l yX0_boardOn cX0_boardOn 5 (Option.some Jvm.ClassFile.FieldType.boolean) d [vr (some a0), vi x1, vi x2] h (some (vi v)) h' := by
  refine mm_of hG (plainFor_of_name (by decide)) (Nat.le_of_ble_eq_true rfl) (fun X hX ok hr hnm => ?_)
  subst hX
  exact W_X0_boardOn ok hr hd hf rfl ⟨rfl, rfl, rfl, trivial⟩
theorem cw_X0_comesOn : CW yX0_comesOn cX0_comesOn 4 (Option.some Jvm.ClassFile.FieldType.boolean) 1 := ⟨q1782, q168, ⟨by decide, by decide⟩, by decide +kernel, by decide⟩
def pkX0_comesOn_77 (G : GT) (X : CX) (h0 : AH) (Q : State → Prop) (a0 : Nat) (x2 : Int32) (o : ((Int32 × AH) ⊕ (Int32 × AH))) : Prop := match o with
  | .inl s => ∀ lv : List (Nat × AV), lle lv [(0, vr (some a0)), (2, vi x2), (3, vi s.1)] → V G X 4 h0 Q s.2 77 lv []
  | .inr z => Q = QM G X h0 (some (vi z.1)) z.2
theorem W_X0_comesOn_77b {G : GT} {X : CX} {d : Nat} {h0 : AH} {Q : State → Prop} (ok : Ok G X RX0 cX0_comesOn 4 d h0) (hr : (cxm X).sig.returnType = (Option.some Jvm.ClassFile.FieldType.boolean)) (hd : 10 ≤ d) {a0 : Nat} {x2 : Int32} {x3 : Int32} {h : AH} {z : ((Int32 × AH) ⊕ (Int32 × AH))} (hf : X0_comesOn_77b  a0 x2 x3 h = some z) (hk : pkX0_comesOn_77 G X h0 Q a0 x2 z) {lv : List (Nat × AV)} (hl : lle lv [(0, vr (some a0)), (2, vi x2), (3, vi x3)]) : V G X 4 h0 Q h 77 lv [] := by
  refine V.sub hl ?_
  unfold X0_comesOn_77b at hf
  refine v_iload_n ok 3 dX0_comesOn_77 rfl rfl ?_
  refine v_aload_n ok 0 dX0_comesOn_78 rfl rfl ?_
  refine v_cVi ok (RX0, TX0, 18) cf_0.1 [] (F := fun a => X0_boards a h) (fun a v h1 _ hv => M_X0_boards ok.2.2.2.2.2.2.1 (d := 2) (Nat.le_refl _) hv) (by exact Nat.le_trans (by decide) hd) cw_X0_boards q1333 q1293 qs34 dX0_comesOn_79 [vi x3] rfl (Nat.le_of_ble_eq_true rfl) hf (fun v1 h2 hf => ?_)
  refine v_icmp_ge ok 106 dX0_comesOn_82 rfl hf (fun hf => ?_) (fun hf => ?_)
  ·
    refine v_iconst ok 1 dX0_comesOn_106 rfl ?_
    exact v_zretL ok hr (by decide) (by decide) (by cases hf; exact hk) dX0_comesOn_107
  ·
    refine v_aload_n ok 0 dX0_comesOn_85 rfl rfl ?_
    refine v_iload_n ok 3 dX0_comesOn_86 rfl rfl ?_
    refine v_iconst ok 2 dX0_comesOn_87 rfl ?_
    refine v_iload_n ok 2 dX0_comesOn_88 rfl rfl ?_
    refine v_iload_n ok 3 dX0_comesOn_89 rfl rfl ?_
    refine v_imul ok dX0_comesOn_90 ?_
    refine v_iadd ok dX0_comesOn_91 ?_
    refine v_cVi ok (RX0, TX0, 18) cf_0.1 [vi x3, vi (2 + (x2 * x3))] (F := fun a => X0_boardOn a x3 (2 + (x2 * x3)) h2) (fun a v h1 _ hv => M_X0_boardOn ok.2.2.2.2.2.2.1 (d := 9) (Nat.le_refl _) hv) (by exact Nat.le_trans (by decide) hd) cw_X0_boardOn q1791 q1793 qs69 dX0_comesOn_92 [] rfl (Nat.le_of_ble_eq_true rfl) hf (fun v3 h4 hf => ?_)
    refine v_if_ne ok 100 dX0_comesOn_95 rfl hf (fun hf => ?_) (fun hf => ?_)
    ·
      refine v_iinc ok x3 (x3 + 1) dX0_comesOn_100 rfl rfl (by decide) ?_
      refine v_goto ok 77 dX0_comesOn_103 rfl ?_
      cases hf; exact hk _ ⟨rfl, rfl, rfl, trivial⟩
    ·
      refine v_iconst ok 0 dX0_comesOn_98 rfl ?_
      exact v_zretL ok hr (by decide) (by decide) (by cases hf; exact hk) dX0_comesOn_99
theorem W_X0_comesOn_77 {G : GT} {X : CX} {d : Nat} {h0 : AH} {Q : State → Prop} (ok : Ok G X RX0 cX0_comesOn 4 d h0) (hr : (cxm X).sig.returnType = (Option.some Jvm.ClassFile.FieldType.boolean)) (hd : 10 ≤ d) {a0 : Nat} {x2 : Int32} {x3 : Int32} {h : AH} {z : (Int32 × AH)} (hf : X0_comesOn_77  a0 x2 x3 h = some z) (hk : Q = QM G X h0 (some (vi z.1)) z.2) {lv : List (Nat × AV)} (hl : lle lv [(0, vr (some a0)), (2, vi x2), (3, vi x3)]) : V G X 4 h0 Q h 77 lv [] := by
  unfold X0_comesOn_77 at hf
  exact loopC_walk (Wh := fun s : Int32 × AH => ∀ lv : List (Nat × AV), lle lv [(0, vr (some a0)), (2, vi x2), (3, vi s.1)] → V G X 4 h0 Q s.2 77 lv []) (PK := fun z => Q = QM G X h0 (some (vi z.1)) z.2) (fun s o hf hk lv hl => W_X0_comesOn_77b ok hr hd hf (by cases o <;> exact hk) hl) _ z hf hk lv hl
theorem W_X0_comesOn {G : GT} {X : CX} {d : Nat} {h0 : AH} {Q : State → Prop} (ok : Ok G X RX0 cX0_comesOn 4 d h0) (hr : (cxm X).sig.returnType = (Option.some Jvm.ClassFile.FieldType.boolean)) (hd : 10 ≤ d) {a0 : Nat} {x1 : Int32} {h : AH} {z : (Int32 × AH)} (hf : X0_comesOn a0 x1 h = some z) (hk : Q = QM G X h0 (some (vi z.1)) z.2) {lv : List (Nat × AV)} (hl : lle lv [(0, vr (some a0)), (1, vi x1)]) : V G X 4 h0 Q h 0 lv [] := by
  refine V.sub hl ?_
  unfold X0_comesOn at hf
  refine v_bipush ok 14 dX0_comesOn_0 rfl ?_
  refine v_istore_n ok 2 dX0_comesOn_2 rfl (by decide) ?_
  refine v_iload_n ok 1 dX0_comesOn_3 rfl rfl ?_
  refine v_iconst ok 3 dX0_comesOn_4 rfl ?_
  refine v_iload_n ok 2 dX0_comesOn_5 rfl rfl ?_
  refine v_aload_n ok 0 dX0_comesOn_6 rfl rfl ?_
  refine v_cVi ok (RX0, TX0, 18) cf_0.1 [] (F := fun a => X0_boards a h) (fun a v h1 _ hv => M_X0_boards ok.2.2.2.2.2.2.1 (d := 2) (Nat.le_refl _) hv) (by exact Nat.le_trans (by decide) hd) cw_X0_boards q1333 q1293 qs34 dX0_comesOn_7 [vi 14, vi 3, vi x1] rfl (Nat.le_of_ble_eq_true rfl) hf (fun v5 h6 hf => ?_)
  refine v_imul ok dX0_comesOn_10 ?_
  refine v_iadd ok dX0_comesOn_11 ?_
  refine v_icmp_ne ok 46 dX0_comesOn_12 rfl hf (fun hf => ?_) (fun hf => ?_)
  ·
    refine v_iconst ok 0 dX0_comesOn_46 rfl ?_
    exact v_zretL ok hr (by decide) (by decide) (by cases hf; exact hk) dX0_comesOn_47
  ·
    refine v_aload_n ok 0 dX0_comesOn_15 rfl rfl ?_
    refine v_iload_n ok 1 dX0_comesOn_16 rfl rfl ?_
    refine v_iconst ok 1 dX0_comesOn_17 rfl ?_
    refine v_isub ok dX0_comesOn_18 ?_
    refine v_cVi ok (RX0, TX0, 18) cf_0.1 [vi (x1 - 1)] (F := fun a => X0_byteAt a (x1 - 1) h6) (fun a v h1 _ hv => M_X0_byteAt ok.2.2.2.2.2.2.1 (d := 1) (Nat.le_refl _) hv) (by exact Nat.le_trans (by decide) hd) cw_X0_byteAt q1783 q1785 qs67 dX0_comesOn_19 [] rfl (Nat.le_of_ble_eq_true rfl) hf (fun v7 h8 hf => ?_)
    refine v_aload_n ok 0 dX0_comesOn_22 rfl rfl ?_
    refine v_gR ok fl_X0_35 (by first | exact Or.inl ⟨_, rfl⟩ | exact Or.inr ⟨_, rfl⟩) dX0_comesOn_23 hf (fun v9 hf => ?_)
    refine v_iload_n ok 1 dX0_comesOn_26 rfl rfl ?_
    refine v_iconst ok 1 dX0_comesOn_27 rfl ?_
    refine v_isub ok dX0_comesOn_28 ?_
    refine v_cSi ok [vr v9, vi (x1 - 1)] (F := X0_check v9 (x1 - 1) h8) (fun v h1 hv => M_X0_check ok.2.2.2.2.2.2.1 (d := 1) (Nat.le_refl _) hv) (by exact Nat.le_trans (by decide) hd) cw_X0_check q1768 q1769 dX0_comesOn_29 [vi v7] rfl (Nat.le_of_ble_eq_true rfl) hf (fun v10 h11 hf => ?_)
    refine v_icmp_ne ok 46 dX0_comesOn_32 rfl hf (fun hf => ?_) (fun hf => ?_)
    ·
      refine v_iconst ok 0 dX0_comesOn_46 rfl ?_
      exact v_zretL ok hr (by decide) (by decide) (by cases hf; exact hk) dX0_comesOn_47
    ·
      refine v_aload_n ok 0 dX0_comesOn_35 rfl rfl ?_
      refine v_iconst ok 0 dX0_comesOn_36 rfl ?_
      refine v_cVi ok (RX0, TX0, 18) cf_0.1 [vi 0] (F := fun a => X0_twoAt a 0 h11) (fun a v h1 _ hv => M_X0_twoAt ok.2.2.2.2.2.2.1 (d := 2) (Nat.le_refl _) hv) (by exact Nat.le_trans (by decide) hd) cw_X0_twoAt q1787 q1789 qs68 dX0_comesOn_37 [] rfl (Nat.le_of_ble_eq_true rfl) hf (fun v12 h13 hf => ?_)
      refine v_sipush ok 999 dX0_comesOn_40 rfl ?_
      refine v_icmp_le ok 48 dX0_comesOn_43 rfl hf (fun hf => ?_) (fun hf => ?_)
      ·
        refine v_aload_n ok 0 dX0_comesOn_48 rfl rfl ?_
        refine v_gR ok fl_X0_73 (by first | exact Or.inl ⟨_, rfl⟩ | exact Or.inr ⟨_, rfl⟩) dX0_comesOn_49 hf (fun v14 hf => ?_)
        refine v_aload_n ok 0 dX0_comesOn_52 rfl rfl ?_
        refine v_gR ok fl_X0_69 (by first | exact Or.inl ⟨_, rfl⟩ | exact Or.inr ⟨_, rfl⟩) dX0_comesOn_53 hf (fun v15 hf => ?_)
        refine v_cVr ok (RX5, TX5, 10) cf_5.1 [vr v15] (F := fun a => X5_copy a v15 h13) (fun a v h1 _ hv => M_X5_copy ok.2.2.2.2.2.2.1 (d := 1) (Nat.le_refl _) hv) (by exact Nat.le_trans (by decide) hd) cw_X5_copy q1548 q1549 q1550 dX0_comesOn_56 [] rfl (Nat.le_of_ble_eq_true rfl) hf (fun v16 h17 hf => ?_)
        refine v_aload_n ok 0 dX0_comesOn_59 rfl rfl ?_
        refine v_iconst ok 0 dX0_comesOn_60 rfl ?_
        refine v_cVi ok (RX0, TX0, 18) cf_0.1 [vi 0] (F := fun a => X0_twoAt a 0 h17) (fun a v h1 _ hv => M_X0_twoAt ok.2.2.2.2.2.2.1 (d := 2) (Nat.le_refl _) hv) (by exact Nat.le_trans (by decide) hd) cw_X0_twoAt q1787 q1789 qs68 dX0_comesOn_61 [vr v16] rfl (Nat.le_of_ble_eq_true rfl) hf (fun v18 h19 hf => ?_)
        refine v_pIN ok fl_X0_218 ⟨fun _ _ _ => rfl, rfl⟩ (FNN.of cf_5.1 rfl) dX0_comesOn_64 hf (fun h20 hf => ?_)
        refine v_aload_n ok 0 dX0_comesOn_67 rfl rfl ?_
        refine v_gR ok fl_X0_73 (by first | exact Or.inl ⟨_, rfl⟩ | exact Or.inr ⟨_, rfl⟩) dX0_comesOn_68 hf (fun v21 hf => ?_)
        refine v_iconst ok 0 dX0_comesOn_71 rfl ?_
        refine v_pIN ok fl_X0_224 ⟨fun _ _ _ => rfl, rfl⟩ (FNN.of cf_5.1 rfl) dX0_comesOn_72 hf (fun h22 hf => ?_)
        refine v_iconst ok 0 dX0_comesOn_75 rfl ?_
        refine v_istore_n ok 3 dX0_comesOn_76 rfl (by decide) ?_
        exact W_X0_comesOn_77 ok hr hd hf hk ⟨rfl, rfl, rfl, trivial⟩
      ·
        refine v_iconst ok 0 dX0_comesOn_46 rfl ?_
        exact v_zretL ok hr (by decide) (by decide) (by cases hf; exact hk) dX0_comesOn_47
theorem M_X0_comesOn {G : GT} {l : Launch} (hG : Glob G) {d : Nat} (hd : 10 ≤ d) {a0 : Nat} {x1 : Int32} {h : AH} {v : Int32} {h' : AH} (hf : X0_comesOn a0 x1 h = some (v, h')) : MM G l yX0_comesOn cX0_comesOn 4 (Option.some Jvm.ClassFile.FieldType.boolean) d [vr (some a0), vi x1] h (some (vi v)) h' := by
  refine mm_of hG (plainFor_of_name (by decide)) (Nat.le_of_ble_eq_true rfl) (fun X hX ok hr hnm => ?_)
  subst hX
  exact W_X0_comesOn ok hr hd hf rfl ⟨rfl, rfl, trivial⟩
theorem cw_X0_on : CW yX0_on cX0_on 1 (Option.some Jvm.ClassFile.FieldType.boolean) 0 := ⟨q1778, q168, ⟨by decide, by decide⟩, by decide +kernel, by decide⟩
theorem W_X0_on {G : GT} {X : CX} {d : Nat} {h0 : AH} {Q : State → Prop} (ok : Ok G X RX0 cX0_on 1 d h0) (hr : (cxm X).sig.returnType = (Option.some Jvm.ClassFile.FieldType.boolean)) (hd : 11 ≤ d) {a0 : Nat} {h : AH} {z : (Int32 × AH)} (hf : X0_on a0 h = some z) (hk : Q = QM G X h0 (some (vi z.1)) z.2) {lv : List (Nat × AV)} (hl : lle lv [(0, vr (some a0))]) : V G X 1 h0 Q h 0 lv [] := by
  refine V.sub hl ?_
  unfold X0_on at hf
  refine v_aload_n ok 0 dX0_on_0 rfl rfl ?_
  refine v_aload_n ok 0 dX0_on_1 rfl rfl ?_
  refine v_cVi ok (RX0, TX0, 18) cf_0.1 [] (F := fun a => X0_taken a h) (fun a v h1 _ hv => M_X0_taken ok.2.2.2.2.2.2.1 (d := 1) (Nat.le_refl _) hv) (by exact Nat.le_trans (by decide) hd) cw_X0_taken q662 q664 qs6 dX0_on_2 [vr (some a0)] rfl (Nat.le_of_ble_eq_true rfl) hf (fun v1 h2 hf => ?_)
  refine v_cVi ok (RX0, TX0, 18) cf_0.1 [vi v1] (F := fun a => X0_comesOn a v1 h2) (fun a v h1 _ hv => M_X0_comesOn ok.2.2.2.2.2.2.1 (d := 10) (Nat.le_refl _) hv) (by exact Nat.le_trans (by decide) hd) cw_X0_comesOn q1779 q1781 qs66 dX0_on_5 [] rfl (Nat.le_of_ble_eq_true rfl) hf (fun v3 h4 hf => ?_)
  refine v_if_ne ok 25 dX0_on_8 rfl hf (fun hf => ?_) (fun hf => ?_)
  ·
    refine v_aload_n ok 0 dX0_on_25 rfl rfl ?_
    refine v_gR ok fl_X0_69 (by first | exact Or.inl ⟨_, rfl⟩ | exact Or.inr ⟨_, rfl⟩) dX0_on_26 hf (fun v5 hf => ?_)
    refine v_aload_n ok 0 dX0_on_29 rfl rfl ?_
    refine v_gR ok fl_X0_73 (by first | exact Or.inl ⟨_, rfl⟩ | exact Or.inr ⟨_, rfl⟩) dX0_on_30 hf (fun v6 hf => ?_)
    refine v_cVr ok (RX5, TX5, 10) cf_5.1 [vr v6] (F := fun a => X5_copy a v6 h4) (fun a v h1 _ hv => M_X5_copy ok.2.2.2.2.2.2.1 (d := 1) (Nat.le_refl _) hv) (by exact Nat.le_trans (by decide) hd) cw_X5_copy q1548 q1549 q1550 dX0_on_33 [] rfl (Nat.le_of_ble_eq_true rfl) hf (fun v7 h8 hf => ?_)
    refine v_pop ok dX0_on_36 rfl ?_
    refine v_aload_n ok 0 dX0_on_37 rfl rfl ?_
    refine v_iconst ok 0 dX0_on_38 rfl ?_
    refine v_pI ok fl_X0_127 ⟨fun _ _ _ => rfl, rfl⟩ (FN.of cf_0.1 rfl) dX0_on_39 hf (fun h9 hf => ?_)
    refine v_iconst ok 1 dX0_on_42 rfl ?_
    exact v_zretL ok hr (by decide) (by decide) (by cases hf; exact hk) dX0_on_43
  ·
    refine v_aload_n ok 0 dX0_on_11 rfl rfl ?_
    refine v_iconst ok 5 dX0_on_12 rfl ?_
    refine v_cVi ok (RX0, TX0, 18) cf_0.1 [vi 5] (F := fun a => X0_refuses a 5 h4) (fun a v h1 _ hv => M_X0_refuses ok.2.2.2.2.2.2.1 (d := 1) (Nat.le_refl _) hv) (by exact Nat.le_trans (by decide) hd) cw_X0_refuses q645 q647 qs4 dX0_on_13 [] rfl (Nat.le_of_ble_eq_true rfl) hf (fun v10 h11 hf => ?_)
    refine v_if_lt ok 23 dX0_on_16 rfl hf (fun hf => ?_) (fun hf => ?_)
    ·
      refine v_iconst ok 0 dX0_on_23 rfl ?_
      exact v_zretL ok hr (by decide) (by decide) (by cases hf; exact hk) dX0_on_24
    ·
      refine v_iconst ok 1 dX0_on_19 rfl ?_
      refine v_goto ok 24 dX0_on_20 rfl ?_
      exact v_zretL ok hr (by decide) (by decide) (by cases hf; exact hk) dX0_on_24
theorem M_X0_on {G : GT} {l : Launch} (hG : Glob G) {d : Nat} (hd : 11 ≤ d) {a0 : Nat} {h : AH} {v : Int32} {h' : AH} (hf : X0_on a0 h = some (v, h')) : MM G l yX0_on cX0_on 1 (Option.some Jvm.ClassFile.FieldType.boolean) d [vr (some a0)] h (some (vi v)) h' := by
  refine mm_of hG (plainFor_of_name (by decide)) (Nat.le_of_ble_eq_true rfl) (fun X hX ok hr hnm => ?_)
  subst hX
  exact W_X0_on ok hr hd hf rfl ⟨rfl, trivial⟩
theorem cw_X0_status : CW yX0_status cX0_status 2 (Option.some Jvm.ClassFile.FieldType.int) 1 := ⟨q1798, q168, ⟨by decide, by decide⟩, by decide +kernel, by decide⟩
theorem W_X0_status {G : GT} {X : CX} {d : Nat} {h0 : AH} {Q : State → Prop} (ok : Ok G X RX0 cX0_status 2 d h0) (hr : (cxm X).sig.returnType = (Option.some Jvm.ClassFile.FieldType.int)) (hd : 2 ≤ d) {a0 : Nat} {x1 : Int32} {h : AH} {z : (Int32 × AH)} (hf : X0_status a0 x1 h = some z) (hk : Q = QM G X h0 (some (vi z.1)) z.2) {lv : List (Nat × AV)} (hl : lle lv [(0, vr (some a0)), (1, vi x1)]) : V G X 2 h0 Q h 0 lv [] := by
  refine V.sub hl ?_
  unfold X0_status at hf
  refine v_iload_n ok 1 dX0_status_0 rfl rfl ?_
  refine v_iconst ok 0 dX0_status_1 rfl ?_
  refine v_iconst ok 5 dX0_status_2 rfl ?_
  refine v_cSi ok [vi x1, vi 0, vi 5] (F := X0_is x1 0 5 h) (fun v h1 hv => M_X0_is ok.2.2.2.2.2.2.1 (d := 1) (Nat.le_refl _) hv) (by exact Nat.le_trans (by decide) hd) cw_X0_is q1355 q899 dX0_status_3 [] rfl (Nat.le_of_ble_eq_true rfl) hf (fun v1 h2 hf => ?_)
  refine v_if_eq ok 18 dX0_status_6 rfl hf (fun hf => ?_) (fun hf => ?_)
  ·
    refine v_iconst ok (-1) dX0_status_18 rfl ?_
    exact v_iret ok hr (by cases hf; exact hk) dX0_status_19
  ·
    refine v_aload_n ok 0 dX0_status_9 rfl rfl ?_
    refine v_gR ok fl_X0_62 (by first | exact Or.inl ⟨_, rfl⟩ | exact Or.inr ⟨_, rfl⟩) dX0_status_10 hf (fun v3 hf => ?_)
    refine v_iload_n ok 1 dX0_status_13 rfl rfl ?_
    refine v_iald ok rfl dX0_status_14 hf (fun v4 hf => ?_)
    refine v_goto ok 19 dX0_status_15 rfl ?_
    exact v_iret ok hr (by cases hf; exact hk) dX0_status_19
theorem M_X0_status {G : GT} {l : Launch} (hG : Glob G) {d : Nat} (hd : 2 ≤ d) {a0 : Nat} {x1 : Int32} {h : AH} {v : Int32} {h' : AH} (hf : X0_status a0 x1 h = some (v, h')) : MM G l yX0_status cX0_status 2 (Option.some Jvm.ClassFile.FieldType.int) d [vr (some a0), vi x1] h (some (vi v)) h' := by
  refine mm_of hG (plainFor_of_name (by decide)) (Nat.le_of_ble_eq_true rfl) (fun X hX ok hr hnm => ?_)
  subst hX
  exact W_X0_status ok hr hd hf rfl ⟨rfl, rfl, trivial⟩
theorem cw_X12_two : CW yX12_two cX12_two 5 (Option.some Jvm.ClassFile.FieldType.long) 3 := ⟨q1523, q195, ⟨by decide, by decide⟩, by decide +kernel, by decide⟩
theorem W_X12_two_44 {G : GT} {X : CX} {d : Nat} {h0 : AH} {Q : State → Prop} (ok : Ok G X RX12 cX12_two 5 d h0) (hr : (cxm X).sig.returnType = (Option.some Jvm.ClassFile.FieldType.long)) (hd : 2 ≤ d) {x1 : Int64} {x3 : Int64} {h : AH} {z : (Int64 × AH)} (hf : X12_two_44 x1 x3 h = some z) (hk : Q = QM G X h0 (some (vl z.1)) z.2) {lv : List (Nat × AV)} (hl : lle lv [(1, vl x1), (3, vl x3)]) : V G X 5 h0 Q h 44 lv [] := by
  refine V.sub hl ?_
  unfold X12_two_44 at hf
  refine v_lload_n ok 3 dX12_two_44 rfl rfl ?_
  refine v_lconst ok 0 dX12_two_45 rfl ?_
  refine v_lcmp ok dX12_two_46 ?_
  refine v_if_ne ok 54 dX12_two_47 rfl hf (fun hf => ?_) (fun hf => ?_)
  ·
    refine v_lload_n ok 1 dX12_two_54 rfl rfl ?_
    refine v_lload_n ok 3 dX12_two_55 rfl rfl ?_
    refine v_cSl ok [vl x1, vl x3] (F := J4_floorDiv x1 x3 h) (fun v h1 hv => M_J4_floorDiv ok.2.2.2.2.2.2.1 (d := 1) (Nat.le_refl _) hv) (by exact Nat.le_trans (by decide) hd) cw_J4_floorDiv q1524 q1525 dX12_two_56 [] rfl (Nat.le_of_ble_eq_true rfl) hf (fun v1 h2 hf => ?_)
    exact v_lret ok hr (by cases hf; exact hk) dX12_two_59
  ·
    refine v_lconst ok 0 dX12_two_50 rfl ?_
    refine v_goto ok 59 dX12_two_51 rfl ?_
    exact v_lret ok hr (by cases hf; exact hk) dX12_two_59
theorem W_X12_two {G : GT} {X : CX} {d : Nat} {h0 : AH} {Q : State → Prop} (ok : Ok G X RX12 cX12_two 5 d h0) (hr : (cxm X).sig.returnType = (Option.some Jvm.ClassFile.FieldType.long)) (hd : 2 ≤ d) {x0 : Int32} {x1 : Int64} {x3 : Int64} {h : AH} {z : (Int64 × AH)} (hf : X12_two x0 x1 x3 h = some z) (hk : Q = QM G X h0 (some (vl z.1)) z.2) {lv : List (Nat × AV)} (hl : lle lv [(0, vi x0), (1, vl x1), (3, vl x3)]) : V G X 5 h0 Q h 0 lv [] := by
  refine V.sub hl ?_
  unfold X12_two at hf
  refine v_iload_n ok 0 dX12_two_0 rfl rfl ?_
  refine sw_if (v := 42) hf (fun e_ hf => ?_) (fun n3 hf => ?_)
  ·
    refine v_tableIn ok 42 40 dX12_two_1 e_ (by decide) (by decide) rfl rfl ?_
    refine v_lload_n ok 1 dX12_two_40 rfl rfl ?_
    refine v_lload_n ok 3 dX12_two_41 rfl rfl ?_
    refine v_lmul ok dX12_two_42 ?_
    exact v_lret ok hr (by cases hf; exact hk) dX12_two_43
  ·
    refine sw_if (v := 43) hf (fun e_ hf => ?_) (fun n4 hf => ?_)
    ·
      refine v_tableIn ok 43 32 dX12_two_1 e_ (by decide) (by decide) rfl rfl ?_
      refine v_lload_n ok 1 dX12_two_32 rfl rfl ?_
      refine v_lload_n ok 3 dX12_two_33 rfl rfl ?_
      refine v_ladd ok dX12_two_34 ?_
      exact v_lret ok hr (by cases hf; exact hk) dX12_two_35
    ·
      refine sw_if (v := 44) hf (fun e_ hf => ?_) (fun n5 hf => ?_)
      ·
        refine v_tableIn ok 44 44 dX12_two_1 e_ (by decide) (by decide) rfl rfl ?_
        exact W_X12_two_44 ok hr hd hf hk ⟨rfl, rfl, trivial⟩
      ·
        refine sw_if (v := 45) hf (fun e_ hf => ?_) (fun n6 hf => ?_)
        ·
          refine v_tableIn ok 45 36 dX12_two_1 e_ (by decide) (by decide) rfl rfl ?_
          refine v_lload_n ok 1 dX12_two_36 rfl rfl ?_
          refine v_lload_n ok 3 dX12_two_37 rfl rfl ?_
          refine v_lsub ok dX12_two_38 ?_
          exact v_lret ok hr (by cases hf; exact hk) dX12_two_39
        ·
          have n3 := ne_toI 42 (by decide) n3
          have n4 := ne_toI 43 (by decide) n4
          have n5 := ne_toI 44 (by decide) n5
          have n6 := ne_toI 45 (by decide) n6
          refine v_tableOut ok 44 dX12_two_1 (by omega) rfl ?_
          exact W_X12_two_44 ok hr hd hf hk ⟨rfl, rfl, trivial⟩
theorem M_X12_two {G : GT} {l : Launch} (hG : Glob G) {d : Nat} (hd : 2 ≤ d) {x0 : Int32} {x1 : Int64} {x3 : Int64} {h : AH} {v : Int64} {h' : AH} (hf : X12_two x0 x1 x3 h = some (v, h')) : MM G l yX12_two cX12_two 5 (Option.some Jvm.ClassFile.FieldType.long) d [vi x0, vl x1, vl x3] h (some (vl v)) h' := by
  refine mm_of hG (plainFor_of_name (by decide)) (Nat.le_of_ble_eq_true rfl) (fun X hX ok hr hnm => ?_)
  subst hX
  exact W_X12_two ok hr hd hf rfl ⟨rfl, rfl, rfl, trivial⟩
theorem cw_X12_at : CW yX12_at cX12_at 5 (Option.some Jvm.ClassFile.FieldType.long) 1 := ⟨q1436, q195, ⟨by decide, by decide⟩, by decide +kernel, by decide⟩
def pkX12_at_21 (G : GT) (X : CX) (h0 : AH) (Q : State → Prop) (a0 : Nat) (x1 : Option Nat) (o : ((Int64 × Int32 × AH) ⊕ (Int64 × AH))) : Prop := match o with
  | .inl s => ∀ lv : List (Nat × AV), lle lv [(0, vr (some a0)), (1, vr x1), (2, vl s.1), (4, vi s.2.1)] → V G X 5 h0 Q s.2.2 21 lv []
  | .inr z => Q = QM G X h0 (some (vl z.1)) z.2
theorem W_X12_at_21b {G : GT} {X : CX} {d : Nat} {h0 : AH} {Q : State → Prop} (ok : Ok G X RX12 cX12_at 5 d h0) (hr : (cxm X).sig.returnType = (Option.some Jvm.ClassFile.FieldType.long)) {va : VaT} {e : Nat} (hva : DVA G X.2.1 e va) (hd : e + 5 ≤ d) {a0 : Nat} {x1 : Option Nat} {x2 : Int64} {x4 : Int32} {h : AH} {z : ((Int64 × Int32 × AH) ⊕ (Int64 × AH))} (hf : X12_at_21b  va a0 x1 x2 x4 h = some z) (hk : pkX12_at_21 G X h0 Q a0 x1 z) {lv : List (Nat × AV)} (hl : lle lv [(0, vr (some a0)), (1, vr x1), (2, vl x2), (4, vi x4)]) : V G X 5 h0 Q h 21 lv [] := by
  refine V.sub hl ?_
  unfold X12_at_21b at hf
  refine v_iload ok dX12_at_21 rfl ?_
  refine v_aload_n ok 0 dX12_at_23 rfl rfl ?_
  refine v_gR ok fl_X12_12 (by first | exact Or.inl ⟨_, rfl⟩ | exact Or.inr ⟨_, rfl⟩) dX12_at_24 hf (fun v1 hf => ?_)
  refine v_cFi ok (RJ2, TJ2, 3) cf_23.1 [] (F := fun a => J2_size a h) (fun a v h1 _ hv => M_J2_size ok.2.2.2.2.2.2.1 (d := 1) (Nat.le_refl _) hv) (by omega) cw_J2_size q1510 q925 cwf_J2_size dX12_at_27 [vi x4] rfl (Nat.le_of_ble_eq_true rfl) hf (fun v2 h3 hf => ?_)
  refine v_icmp_ge ok 76 dX12_at_32 rfl hf (fun hf => ?_) (fun hf => ?_)
  ·
    refine v_lload_n ok 2 dX12_at_76 rfl rfl ?_
    exact v_lret ok hr (by cases hf; exact hk) dX12_at_77
  ·
    refine v_aload_n ok 0 dX12_at_35 rfl rfl ?_
    refine v_gR ok fl_X12_21 (by first | exact Or.inl ⟨_, rfl⟩ | exact Or.inr ⟨_, rfl⟩) dX12_at_36 hf (fun v4 hf => ?_)
    refine v_iload ok dX12_at_39 rfl ?_
    refine v_cVi ok (RJ15, TJ15, 4) cf_25.1 [vi x4] (F := fun a => J15_charAt a x4 h3) (fun a v h1 _ hv => M_J15_charAt ok.2.2.2.2.2.2.1 (d := 4) (Nat.le_refl _) hv) (by omega) cw_J15_charAt q1511 q1512 q1513 dX12_at_41 [] rfl (Nat.le_of_ble_eq_true rfl) hf (fun v5 h6 hf => ?_)
    refine v_lload_n ok 2 dX12_at_44 rfl rfl ?_
    refine v_aload_n ok 0 dX12_at_45 rfl rfl ?_
    refine v_gR ok fl_X12_12 (by first | exact Or.inl ⟨_, rfl⟩ | exact Or.inr ⟨_, rfl⟩) dX12_at_46 hf (fun v7 hf => ?_)
    refine v_iload ok dX12_at_49 rfl ?_
    refine v_cFr ok (RJ2, TJ2, 3) cf_23.1 [vi x4] (F := fun a => J2_get a x4 h6) (fun a v h1 _ hv => M_J2_get ok.2.2.2.2.2.2.1 (d := 3) (Nat.le_refl _) hv) (by omega) cw_J2_get q1438 q907 cwf_J2_get dX12_at_51 [vl x2, vi v5] rfl (Nat.le_of_ble_eq_true rfl) hf (fun v8 h9 hf => ?_)
    refine v_cast_ ok ck_TurnedBoards_Value q1439 dX12_at_56 hf (fun hf => ?_)
    refine v_aload_n ok 1 dX12_at_59 rfl rfl ?_
    refine v_dva ok hva (by omega) q1440 dX12_at_60 (Nat.le_of_ble_eq_true rfl) hf (fun v10 h11 hf => ?_)
    refine v_cSl ok [vi v5, vl x2, vl v10] (F := X12_two v5 x2 v10 h11) (fun v h1 hv => M_X12_two ok.2.2.2.2.2.2.1 (d := 2) (Nat.le_refl _) hv) (by omega) cw_X12_two q1521 q1522 dX12_at_63 [] rfl (Nat.le_of_ble_eq_true rfl) hf (fun v12 h13 hf => ?_)
    refine v_cSNl ok [vl v12] (F := X0_held v12 h13) (fun v h1 hv => M_X0_held ok.2.2.2.2.2.2.1 (d := 2) (Nat.le_refl _) hv) (by omega) cw_X0_held q1527 q1424 dX12_at_66 [] rfl (Nat.le_of_ble_eq_true rfl) hf (fun v14 h15 hf => ?_)
    refine v_lstore_n ok 2 dX12_at_69 rfl (by decide) ?_
    refine v_iinc ok x4 (x4 + 1) dX12_at_70 rfl rfl (by decide) ?_
    refine v_goto ok 21 dX12_at_73 rfl ?_
    cases hf; exact hk _ ⟨rfl, rfl, rfl, rfl, trivial⟩
theorem W_X12_at_21 {G : GT} {X : CX} {d : Nat} {h0 : AH} {Q : State → Prop} (ok : Ok G X RX12 cX12_at 5 d h0) (hr : (cxm X).sig.returnType = (Option.some Jvm.ClassFile.FieldType.long)) {va : VaT} {e : Nat} (hva : DVA G X.2.1 e va) (hd : e + 5 ≤ d) {a0 : Nat} {x1 : Option Nat} {x2 : Int64} {x4 : Int32} {h : AH} {z : (Int64 × AH)} (hf : X12_at_21  va a0 x1 x2 x4 h = some z) (hk : Q = QM G X h0 (some (vl z.1)) z.2) {lv : List (Nat × AV)} (hl : lle lv [(0, vr (some a0)), (1, vr x1), (2, vl x2), (4, vi x4)]) : V G X 5 h0 Q h 21 lv [] := by
  unfold X12_at_21 at hf
  exact loopC_walk (Wh := fun s : Int64 × Int32 × AH => ∀ lv : List (Nat × AV), lle lv [(0, vr (some a0)), (1, vr x1), (2, vl s.1), (4, vi s.2.1)] → V G X 5 h0 Q s.2.2 21 lv []) (PK := fun z => Q = QM G X h0 (some (vl z.1)) z.2) (fun s o hf hk lv hl => W_X12_at_21b ok hr hva hd hf (by cases o <;> exact hk) hl) _ z hf hk lv hl
theorem W_X12_at {G : GT} {X : CX} {d : Nat} {h0 : AH} {Q : State → Prop} (ok : Ok G X RX12 cX12_at 5 d h0) (hr : (cxm X).sig.returnType = (Option.some Jvm.ClassFile.FieldType.long)) {va : VaT} {e : Nat} (hva : DVA G X.2.1 e va) (hd : e + 5 ≤ d) {a0 : Nat} {x1 : Option Nat} {h : AH} {z : (Int64 × AH)} (hf : X12_at va a0 x1 h = some z) (hk : Q = QM G X h0 (some (vl z.1)) z.2) {lv : List (Nat × AV)} (hl : lle lv [(0, vr (some a0)), (1, vr x1)]) : V G X 5 h0 Q h 0 lv [] := by
  refine V.sub hl ?_
  unfold X12_at at hf
  refine v_aload_n ok 0 dX12_at_0 rfl rfl ?_
  refine v_gR ok fl_X12_12 (by first | exact Or.inl ⟨_, rfl⟩ | exact Or.inr ⟨_, rfl⟩) dX12_at_1 hf (fun v16 hf => ?_)
  refine v_iconst ok 0 dX12_at_4 rfl ?_
  refine v_cFr ok (RJ2, TJ2, 3) cf_23.1 [vi 0] (F := fun a => J2_get a 0 h) (fun a v h1 _ hv => M_J2_get ok.2.2.2.2.2.2.1 (d := 3) (Nat.le_refl _) hv) (by omega) cw_J2_get q1438 q907 cwf_J2_get dX12_at_5 [] rfl (Nat.le_of_ble_eq_true rfl) hf (fun v17 h18 hf => ?_)
  refine v_cast_ ok ck_TurnedBoards_Value q1439 dX12_at_10 hf (fun hf => ?_)
  refine v_aload_n ok 1 dX12_at_13 rfl rfl ?_
  refine v_dva ok hva (by omega) q1440 dX12_at_14 (Nat.le_of_ble_eq_true rfl) hf (fun v19 h20 hf => ?_)
  refine v_lstore_n ok 2 dX12_at_17 rfl (by decide) ?_
  refine v_iconst ok 1 dX12_at_18 rfl ?_
  refine v_istore ok dX12_at_19 (by decide) ?_
  exact W_X12_at_21 ok hr hva hd hf hk ⟨rfl, rfl, rfl, rfl, trivial⟩
theorem M_X12_at {G : GT} {l : Launch} (hG : Glob G) {va : VaT} {e : Nat} (hva : DVA G l e va) {d : Nat} (hd : e + 5 ≤ d) {a0 : Nat} {x1 : Option Nat} {h : AH} {v : Int64} {h' : AH} (hf : X12_at va a0 x1 h = some (v, h')) : MM G l yX12_at cX12_at 5 (Option.some Jvm.ClassFile.FieldType.long) d [vr (some a0), vr x1] h (some (vl v)) h' := by
  refine mm_of hG (plainFor_of_name (by decide)) (Nat.le_of_ble_eq_true rfl) (fun X hX ok hr hnm => ?_)
  subst hX
  exact W_X12_at ok hr hva hd hf rfl ⟨rfl, rfl, trivial⟩
theorem cw_X13_init : CW yX13_init cX13_init 4 none 3 := ⟨q1096, q198, ⟨by decide, by decide⟩, by decide +kernel, by decide⟩
theorem W_X13_init {G : GT} {X : CX} {d : Nat} {h0 : AH} {Q : State → Prop} (ok : Ok G X RX13 cX13_init 4 d h0) (hr : (cxm X).sig.returnType = none) (hd : 2 ≤ d) (hnm : (cxm X).name = "<init>") {a0 : Nat} {x1 : Int32} {x2 : Option Nat} {x3 : Option Nat} {h : AH} {z : (AH)} (hf : X13_init a0 x1 x2 x3 h = some z) (hk : Q = QM G X h0 none z) {lv : List (Nat × AV)} (hl : lle lv [(0, vr (some a0)), (1, vi x1), (2, vr x2), (3, vr x3)]) : V G X 4 h0 Q h 0 lv [] := by
  refine V.sub hl ?_
  unfold X13_init at hf
  refine v_aload_n ok 0 dX13_init_0 rfl rfl ?_
  refine v_cINv ok [] rfl (F := fun a => X11_init a h) (fun a h1 _ hv => M_X11_init ok.2.2.2.2.2.2.1 (d := 1) (Nat.le_refl _) hv) (by exact Nat.le_trans (by decide) hd) cw_X11_init q1097 q1037 dX13_init_1 [] rfl (Nat.le_of_ble_eq_true rfl) hf (fun h1 hf => ?_)
  refine v_aload_n ok 0 dX13_init_4 rfl rfl ?_
  refine v_iload_n ok 1 dX13_init_5 rfl rfl ?_
  refine v_pZ ok fl_X13_7 ⟨fun _ _ _ => rfl, by first | exact Or.inl rfl | exact Or.inr rfl⟩ (FN.ini cf_13.1 rfl hnm rfl) dX13_init_6 hf (fun h2 hf => ?_)
  refine v_aload_n ok 0 dX13_init_9 rfl rfl ?_
  refine v_aload_n ok 2 dX13_init_10 rfl rfl ?_
  refine v_pR ok fl_X13_13 (by first | exact Or.inl ⟨_, rfl⟩ | exact Or.inr ⟨_, rfl⟩) (FN.ini cf_13.1 rfl hnm rfl) dX13_init_11 hf (fun h3 hf => ?_)
  refine v_aload_n ok 0 dX13_init_14 rfl rfl ?_
  refine v_aload_n ok 3 dX13_init_15 rfl rfl ?_
  refine v_pR ok fl_X13_17 (by first | exact Or.inl ⟨_, rfl⟩ | exact Or.inr ⟨_, rfl⟩) (FN.ini cf_13.1 rfl hnm rfl) dX13_init_16 hf (fun h4 hf => ?_)
  exact v_vret ok hr (by cases hf; exact hk) dX13_init_19
theorem M_X13_init {G : GT} {l : Launch} (hG : Glob G) {d : Nat} (hd : 2 ≤ d) {a0 : Nat} {x1 : Int32} {x2 : Option Nat} {x3 : Option Nat} {h : AH} {h' : AH} (hf : X13_init a0 x1 x2 x3 h = some h') : MM G l yX13_init cX13_init 4 none d [vr (some a0), vi x1, vr x2, vr x3] h none h' := by
  refine mm_of hG (plainFor_of_name (by decide)) (Nat.le_of_ble_eq_true rfl) (fun X hX ok hr hnm => ?_)
  subst hX
  exact W_X13_init ok hr hd hnm hf rfl ⟨rfl, rfl, rfl, rfl, trivial⟩
theorem cw_X13_at : CW yX13_at cX13_at 6 (Option.some Jvm.ClassFile.FieldType.long) 1 := ⟨q1447, q198, ⟨by decide, by decide⟩, by decide +kernel, by decide⟩
theorem W_X13_at_35 {G : GT} {X : CX} {d : Nat} {h0 : AH} {Q : State → Prop} (ok : Ok G X RX13 cX13_at 6 d h0) (hr : (cxm X).sig.returnType = (Option.some Jvm.ClassFile.FieldType.long)) {va : VaT} {e : Nat} (hva : DVA G X.2.1 e va) (hd : e + 1 ≤ d) {x2 : Int64} {x4 : Int64} {s0 : Int32} {s1 : Int32} {h : AH} {z : (Int64 × AH)} (hf : X13_at_35 va x2 x4 s0 s1 h = some z) (hk : Q = QM G X h0 (some (vl z.1)) z.2) {lv : List (Nat × AV)} (hl : lle lv [(2, vl x2), (4, vl x4)]) : V G X 6 h0 Q h 35 lv [vi s1, vi s0] := by
  refine V.sub hl ?_
  unfold X13_at_35 at hf
  refine v_icmp_ne ok 42 dX13_at_35 rfl hf (fun hf => ?_) (fun hf => ?_)
  ·
    refine v_lload ok dX13_at_42 rfl ?_
    exact v_lret ok hr (by cases hf; exact hk) dX13_at_44
  ·
    refine v_lload_n ok 2 dX13_at_38 rfl rfl ?_
    refine v_goto ok 44 dX13_at_39 rfl ?_
    exact v_lret ok hr (by cases hf; exact hk) dX13_at_44
theorem W_X13_at {G : GT} {X : CX} {d : Nat} {h0 : AH} {Q : State → Prop} (ok : Ok G X RX13 cX13_at 6 d h0) (hr : (cxm X).sig.returnType = (Option.some Jvm.ClassFile.FieldType.long)) {va : VaT} {e : Nat} (hva : DVA G X.2.1 e va) (hd : e + 1 ≤ d) {a0 : Nat} {x1 : Option Nat} {h : AH} {z : (Int64 × AH)} (hf : X13_at va a0 x1 h = some z) (hk : Q = QM G X h0 (some (vl z.1)) z.2) {lv : List (Nat × AV)} (hl : lle lv [(0, vr (some a0)), (1, vr x1)]) : V G X 6 h0 Q h 0 lv [] := by
  refine V.sub hl ?_
  unfold X13_at at hf
  refine v_aload_n ok 0 dX13_at_0 rfl rfl ?_
  refine v_gR ok fl_X13_13 (by first | exact Or.inl ⟨_, rfl⟩ | exact Or.inr ⟨_, rfl⟩) dX13_at_1 hf (fun v1 hf => ?_)
  refine v_aload_n ok 1 dX13_at_4 rfl rfl ?_
  refine v_dva ok hva (by omega) q1448 dX13_at_5 (Nat.le_of_ble_eq_true rfl) hf (fun v2 h3 hf => ?_)
  refine v_lstore_n ok 2 dX13_at_8 rfl (by decide) ?_
  refine v_aload_n ok 0 dX13_at_9 rfl rfl ?_
  refine v_gR ok fl_X13_17 (by first | exact Or.inl ⟨_, rfl⟩ | exact Or.inr ⟨_, rfl⟩) dX13_at_10 hf (fun v4 hf => ?_)
  refine v_aload_n ok 1 dX13_at_13 rfl rfl ?_
  refine v_dva ok hva (by omega) q1448 dX13_at_14 (Nat.le_of_ble_eq_true rfl) hf (fun v5 h6 hf => ?_)
  refine v_lstore ok dX13_at_17 (by decide) ?_
  refine v_aload_n ok 0 dX13_at_19 rfl rfl ?_
  refine v_gI ok fl_X13_7 (fun _ _ _ => rfl) dX13_at_20 hf (fun v7 hf => ?_)
  refine v_lload_n ok 2 dX13_at_23 rfl rfl ?_
  refine v_lload ok dX13_at_24 rfl ?_
  refine v_lcmp ok dX13_at_26 ?_
  refine v_if_le ok 34 dX13_at_27 rfl hf (fun hf => ?_) (fun hf => ?_)
  ·
    refine v_iconst ok 0 dX13_at_34 rfl ?_
    exact W_X13_at_35 ok hr hva hd hf hk ⟨rfl, rfl, trivial⟩
  ·
    refine v_iconst ok 1 dX13_at_30 rfl ?_
    refine v_goto ok 35 dX13_at_31 rfl ?_
    exact W_X13_at_35 ok hr hva hd hf hk ⟨rfl, rfl, trivial⟩
theorem M_X13_at {G : GT} {l : Launch} (hG : Glob G) {va : VaT} {e : Nat} (hva : DVA G l e va) {d : Nat} (hd : e + 1 ≤ d) {a0 : Nat} {x1 : Option Nat} {h : AH} {v : Int64} {h' : AH} (hf : X13_at va a0 x1 h = some (v, h')) : MM G l yX13_at cX13_at 6 (Option.some Jvm.ClassFile.FieldType.long) d [vr (some a0), vr x1] h (some (vl v)) h' := by
  refine mm_of hG (plainFor_of_name (by decide)) (Nat.le_of_ble_eq_true rfl) (fun X hX ok hr hnm => ?_)
  subst hX
  exact W_X13_at ok hr hva hd hf rfl ⟨rfl, rfl, trivial⟩
theorem cw_X14_init : CW yX14_init cX14_init 3 none 1 := ⟨q1112, q199, ⟨by decide, by decide⟩, by decide +kernel, by decide⟩
theorem W_X14_init {G : GT} {X : CX} {d : Nat} {h0 : AH} {Q : State → Prop} (ok : Ok G X RX14 cX14_init 3 d h0) (hr : (cxm X).sig.returnType = none) (hd : 2 ≤ d) (hnm : (cxm X).name = "<init>") {a0 : Nat} {x1 : Int64} {h : AH} {z : (AH)} (hf : X14_init a0 x1 h = some z) (hk : Q = QM G X h0 none z) {lv : List (Nat × AV)} (hl : lle lv [(0, vr (some a0)), (1, vl x1)]) : V G X 3 h0 Q h 0 lv [] := by
  refine V.sub hl ?_
  unfold X14_init at hf
  refine v_aload_n ok 0 dX14_init_0 rfl rfl ?_
  refine v_cINv ok [] rfl (F := fun a => X11_init a h) (fun a h1 _ hv => M_X11_init ok.2.2.2.2.2.2.1 (d := 1) (Nat.le_refl _) hv) (by exact Nat.le_trans (by decide) hd) cw_X11_init q1113 q1037 dX14_init_1 [] rfl (Nat.le_of_ble_eq_true rfl) hf (fun h1 hf => ?_)
  refine v_aload_n ok 0 dX14_init_4 rfl rfl ?_
  refine v_lload_n ok 1 dX14_init_5 rfl rfl ?_
  refine v_pL ok fl_X14_7 rfl (FN.ini cf_14.1 rfl hnm rfl) dX14_init_6 hf (fun h2 hf => ?_)
  exact v_vret ok hr (by cases hf; exact hk) dX14_init_9
theorem M_X14_init {G : GT} {l : Launch} (hG : Glob G) {d : Nat} (hd : 2 ≤ d) {a0 : Nat} {x1 : Int64} {h : AH} {h' : AH} (hf : X14_init a0 x1 h = some h') : MM G l yX14_init cX14_init 3 none d [vr (some a0), vl x1] h none h' := by
  refine mm_of hG (plainFor_of_name (by decide)) (Nat.le_of_ble_eq_true rfl) (fun X hX ok hr hnm => ?_)
  subst hX
  exact W_X14_init ok hr hd hnm hf rfl ⟨rfl, rfl, trivial⟩
theorem cw_X14_at : CW yX14_at cX14_at 2 (Option.some Jvm.ClassFile.FieldType.long) 1 := ⟨q1442, q199, ⟨by decide, by decide⟩, by decide +kernel, by decide⟩
theorem W_X14_at {G : GT} {X : CX} {d : Nat} {h0 : AH} {Q : State → Prop} (ok : Ok G X RX14 cX14_at 2 d h0) (hr : (cxm X).sig.returnType = (Option.some Jvm.ClassFile.FieldType.long)) (hd : 1 ≤ d) {a0 : Nat} {x1 : Option Nat} {h : AH} {z : (Int64 × AH)} (hf : X14_at a0 x1 h = some z) (hk : Q = QM G X h0 (some (vl z.1)) z.2) {lv : List (Nat × AV)} (hl : lle lv [(0, vr (some a0)), (1, vr x1)]) : V G X 2 h0 Q h 0 lv [] := by
  refine V.sub hl ?_
  unfold X14_at at hf
  refine v_aload_n ok 0 dX14_at_0 rfl rfl ?_
  refine v_gL ok fl_X14_7 rfl dX14_at_1 hf (fun v1 hf => ?_)
  exact v_lret ok hr (by cases hf; exact hk) dX14_at_4
theorem M_X14_at {G : GT} {l : Launch} (hG : Glob G) {d : Nat} (hd : 1 ≤ d) {a0 : Nat} {x1 : Option Nat} {h : AH} {v : Int64} {h' : AH} (hf : X14_at a0 x1 h = some (v, h')) : MM G l yX14_at cX14_at 2 (Option.some Jvm.ClassFile.FieldType.long) d [vr (some a0), vr x1] h (some (vl v)) h' := by
  refine mm_of hG (plainFor_of_name (by decide)) (Nat.le_of_ble_eq_true rfl) (fun X hX ok hr hnm => ?_)
  subst hX
  exact W_X14_at ok hr hd hf rfl ⟨rfl, rfl, trivial⟩
theorem cw_X15_init : CW yX15_init cX15_init 2 none 1 := ⟨q1127, q200, ⟨by decide, by decide⟩, by decide +kernel, by decide⟩
theorem W_X15_init {G : GT} {X : CX} {d : Nat} {h0 : AH} {Q : State → Prop} (ok : Ok G X RX15 cX15_init 2 d h0) (hr : (cxm X).sig.returnType = none) (hd : 2 ≤ d) (hnm : (cxm X).name = "<init>") {a0 : Nat} {x1 : Int32} {h : AH} {z : (AH)} (hf : X15_init a0 x1 h = some z) (hk : Q = QM G X h0 none z) {lv : List (Nat × AV)} (hl : lle lv [(0, vr (some a0)), (1, vi x1)]) : V G X 2 h0 Q h 0 lv [] := by
  refine V.sub hl ?_
  unfold X15_init at hf
  refine v_aload_n ok 0 dX15_init_0 rfl rfl ?_
  refine v_cINv ok [] rfl (F := fun a => X11_init a h) (fun a h1 _ hv => M_X11_init ok.2.2.2.2.2.2.1 (d := 1) (Nat.le_refl _) hv) (by exact Nat.le_trans (by decide) hd) cw_X11_init q1128 q1037 dX15_init_1 [] rfl (Nat.le_of_ble_eq_true rfl) hf (fun h1 hf => ?_)
  refine v_aload_n ok 0 dX15_init_4 rfl rfl ?_
  refine v_iload_n ok 1 dX15_init_5 rfl rfl ?_
  refine v_pI ok fl_X15_7 ⟨fun _ _ _ => rfl, rfl⟩ (FN.ini cf_15.1 rfl hnm rfl) dX15_init_6 hf (fun h2 hf => ?_)
  exact v_vret ok hr (by cases hf; exact hk) dX15_init_9
theorem M_X15_init {G : GT} {l : Launch} (hG : Glob G) {d : Nat} (hd : 2 ≤ d) {a0 : Nat} {x1 : Int32} {h : AH} {h' : AH} (hf : X15_init a0 x1 h = some h') : MM G l yX15_init cX15_init 2 none d [vr (some a0), vi x1] h none h' := by
  refine mm_of hG (plainFor_of_name (by decide)) (Nat.le_of_ble_eq_true rfl) (fun X hX ok hr hnm => ?_)
  subst hX
  exact W_X15_init ok hr hd hnm hf rfl ⟨rfl, rfl, trivial⟩
theorem cw_X15_at : CW yX15_at cX15_at 2 (Option.some Jvm.ClassFile.FieldType.long) 1 := ⟨q1422, q200, ⟨by decide, by decide⟩, by decide +kernel, by decide⟩
theorem W_X15_at {G : GT} {X : CX} {d : Nat} {h0 : AH} {Q : State → Prop} (ok : Ok G X RX15 cX15_at 2 d h0) (hr : (cxm X).sig.returnType = (Option.some Jvm.ClassFile.FieldType.long)) (hd : 3 ≤ d) {a0 : Nat} {x1 : Option Nat} {h : AH} {z : (Int64 × AH)} (hf : X15_at a0 x1 h = some z) (hk : Q = QM G X h0 (some (vl z.1)) z.2) {lv : List (Nat × AV)} (hl : lle lv [(0, vr (some a0)), (1, vr x1)]) : V G X 2 h0 Q h 0 lv [] := by
  refine V.sub hl ?_
  unfold X15_at at hf
  refine v_aload_n ok 1 dX15_at_0 rfl rfl ?_
  refine v_gRN ok fl_X15_13 (by first | exact Or.inl ⟨_, rfl⟩ | exact Or.inr ⟨_, rfl⟩) dX15_at_1 hf (fun v1 hf => ?_)
  refine v_aload_n ok 0 dX15_at_4 rfl rfl ?_
  refine v_gI ok fl_X15_7 (fun _ _ _ => rfl) dX15_at_5 hf (fun v2 hf => ?_)
  refine v_lald ok rfl dX15_at_8 hf (fun v3 hf => ?_)
  refine v_cSNl ok [vl v3] (F := X0_held v3 h) (fun v h1 hv => M_X0_held ok.2.2.2.2.2.2.1 (d := 2) (Nat.le_refl _) hv) (by exact Nat.le_trans (by decide) hd) cw_X0_held q1423 q1424 dX15_at_9 [] rfl (Nat.le_of_ble_eq_true rfl) hf (fun v4 h5 hf => ?_)
  exact v_lret ok hr (by cases hf; exact hk) dX15_at_12
theorem M_X15_at {G : GT} {l : Launch} (hG : Glob G) {d : Nat} (hd : 3 ≤ d) {a0 : Nat} {x1 : Option Nat} {h : AH} {v : Int64} {h' : AH} (hf : X15_at a0 x1 h = some (v, h')) : MM G l yX15_at cX15_at 2 (Option.some Jvm.ClassFile.FieldType.long) d [vr (some a0), vr x1] h (some (vl v)) h' := by
  refine mm_of hG (plainFor_of_name (by decide)) (Nat.le_of_ble_eq_true rfl) (fun X hX ok hr hnm => ?_)
  subst hX
  exact W_X15_at ok hr hd hf rfl ⟨rfl, rfl, trivial⟩
theorem cw_X16_init : CW yX16_init cX16_init 4 none 3 := ⟨q1143, q201, ⟨by decide, by decide⟩, by decide +kernel, by decide⟩
theorem W_X16_init {G : GT} {X : CX} {d : Nat} {h0 : AH} {Q : State → Prop} (ok : Ok G X RX16 cX16_init 4 d h0) (hr : (cxm X).sig.returnType = none) (hd : 2 ≤ d) (hnm : (cxm X).name = "<init>") {a0 : Nat} {x1 : Option Nat} {x2 : Int32} {x3 : Option Nat} {h : AH} {z : (AH)} (hf : X16_init a0 x1 x2 x3 h = some z) (hk : Q = QM G X h0 none z) {lv : List (Nat × AV)} (hl : lle lv [(0, vr (some a0)), (1, vr x1), (2, vi x2), (3, vr x3)]) : V G X 4 h0 Q h 0 lv [] := by
  refine V.sub hl ?_
  unfold X16_init at hf
  refine v_aload_n ok 0 dX16_init_0 rfl rfl ?_
  refine v_aload_n ok 1 dX16_init_1 rfl rfl ?_
  refine v_pR ok fl_X16_1 (by first | exact Or.inl ⟨_, rfl⟩ | exact Or.inr ⟨_, rfl⟩) (FN.ini cf_16.1 rfl hnm rfl) dX16_init_2 hf (fun h1 hf => ?_)
  refine v_aload_n ok 0 dX16_init_5 rfl rfl ?_
  refine v_cINv ok [] rfl (F := fun a => X11_init a h1) (fun a h1 _ hv => M_X11_init ok.2.2.2.2.2.2.1 (d := 1) (Nat.le_refl _) hv) (by exact Nat.le_trans (by decide) hd) cw_X11_init q1144 q1037 dX16_init_6 [] rfl (Nat.le_of_ble_eq_true rfl) hf (fun h2 hf => ?_)
  refine v_aload_n ok 0 dX16_init_9 rfl rfl ?_
  refine v_iload_n ok 2 dX16_init_10 rfl rfl ?_
  refine v_pI ok fl_X16_13 ⟨fun _ _ _ => rfl, rfl⟩ (FN.ini cf_16.1 rfl hnm rfl) dX16_init_11 hf (fun h3 hf => ?_)
  refine v_aload_n ok 0 dX16_init_14 rfl rfl ?_
  refine v_aload_n ok 3 dX16_init_15 rfl rfl ?_
  refine v_pR ok fl_X16_17 (by first | exact Or.inl ⟨_, rfl⟩ | exact Or.inr ⟨_, rfl⟩) (FN.ini cf_16.1 rfl hnm rfl) dX16_init_16 hf (fun h4 hf => ?_)
  exact v_vret ok hr (by cases hf; exact hk) dX16_init_19
theorem M_X16_init {G : GT} {l : Launch} (hG : Glob G) {d : Nat} (hd : 2 ≤ d) {a0 : Nat} {x1 : Option Nat} {x2 : Int32} {x3 : Option Nat} {h : AH} {h' : AH} (hf : X16_init a0 x1 x2 x3 h = some h') : MM G l yX16_init cX16_init 4 none d [vr (some a0), vr x1, vi x2, vr x3] h none h' := by
  refine mm_of hG (plainFor_of_name (by decide)) (Nat.le_of_ble_eq_true rfl) (fun X hX ok hr hnm => ?_)
  subst hX
  exact W_X16_init ok hr hd hnm hf rfl ⟨rfl, rfl, rfl, rfl, trivial⟩
theorem cw_X16_at : CW yX16_at cX16_at 2 (Option.some Jvm.ClassFile.FieldType.long) 1 := ⟨q1444, q201, ⟨by decide, by decide⟩, by decide +kernel, by decide⟩
theorem W_X16_at {G : GT} {X : CX} {d : Nat} {h0 : AH} {Q : State → Prop} (ok : Ok G X RX16 cX16_at 2 d h0) (hr : (cxm X).sig.returnType = (Option.some Jvm.ClassFile.FieldType.long)) {va : VaT} {e : Nat} (hva : DVA G X.2.1 e va) (hd : e + 14 ≤ d) {a0 : Nat} {x1 : Option Nat} {h : AH} {z : (Int64 × AH)} (hf : X16_at va a0 x1 h = some z) (hk : Q = QM G X h0 (some (vl z.1)) z.2) {lv : List (Nat × AV)} (hl : lle lv [(0, vr (some a0)), (1, vr x1)]) : V G X 2 h0 Q h 0 lv [] := by
  refine V.sub hl ?_
  unfold X16_at at hf
  refine v_aload_n ok 0 dX16_at_0 rfl rfl ?_
  refine v_gR ok fl_X16_1 (by first | exact Or.inl ⟨_, rfl⟩ | exact Or.inr ⟨_, rfl⟩) dX16_at_1 hf (fun v1 hf => ?_)
  refine v_aload_n ok 0 dX16_at_4 rfl rfl ?_
  refine v_gI ok fl_X16_13 (fun _ _ _ => rfl) dX16_at_5 hf (fun v2 hf => ?_)
  refine v_aload_n ok 0 dX16_at_8 rfl rfl ?_
  refine v_gR ok fl_X16_17 (by first | exact Or.inl ⟨_, rfl⟩ | exact Or.inr ⟨_, rfl⟩) dX16_at_9 hf (fun v3 hf => ?_)
  refine v_aload_n ok 1 dX16_at_12 rfl rfl ?_
  refine v_dva ok hva (by omega) q1445 dX16_at_13 (Nat.le_of_ble_eq_true rfl) hf (fun v4 h5 hf => ?_)
  refine v_cVNl ok (RX0, TX0, 18) cf_0.1 [vi v2, vl v4] (F := fun a => X0_looked va a v2 v4 h5) (fun a v h1 _ hv => M_X0_looked ok.2.2.2.2.2.2.1 hva (d := e + 13) (Nat.le_refl _) hv) (by omega) cw_X0_looked q1449 q1451 qs43 dX16_at_16 [] rfl (Nat.le_of_ble_eq_true rfl) hf (fun v6 h7 hf => ?_)
  refine v_cSNl ok [vl v6] (F := X0_held v6 h7) (fun v h1 hv => M_X0_held ok.2.2.2.2.2.2.1 (d := 2) (Nat.le_refl _) hv) (by omega) cw_X0_held q1508 q1424 dX16_at_19 [] rfl (Nat.le_of_ble_eq_true rfl) hf (fun v8 h9 hf => ?_)
  exact v_lret ok hr (by cases hf; exact hk) dX16_at_22
theorem M_X16_at {G : GT} {l : Launch} (hG : Glob G) {va : VaT} {e : Nat} (hva : DVA G l e va) {d : Nat} (hd : e + 14 ≤ d) {a0 : Nat} {x1 : Option Nat} {h : AH} {v : Int64} {h' : AH} (hf : X16_at va a0 x1 h = some (v, h')) : MM G l yX16_at cX16_at 2 (Option.some Jvm.ClassFile.FieldType.long) d [vr (some a0), vr x1] h (some (vl v)) h' := by
  refine mm_of hG (plainFor_of_name (by decide)) (Nat.le_of_ble_eq_true rfl) (fun X hX ok hr hnm => ?_)
  subst hX
  exact W_X16_at ok hr hva hd hf rfl ⟨rfl, rfl, trivial⟩
theorem cw_X18_holds : CW yX18_holds cX18_holds 3 (Option.some Jvm.ClassFile.FieldType.boolean) 1 := ⟨q1595, q203, ⟨by decide, by decide⟩, by decide +kernel, by decide⟩
def pkX18_holds_2 (G : GT) (X : CX) (h0 : AH) (Q : State → Prop) (a0 : Nat) (x1 : Option Nat) (o : ((Int32 × AH) ⊕ (Int32 × AH))) : Prop := match o with
  | .inl s => ∀ lv : List (Nat × AV), lle lv [(0, vr (some a0)), (1, vr x1), (2, vi s.1)] → V G X 3 h0 Q s.2 2 lv []
  | .inr z => Q = QM G X h0 (some (vi z.1)) z.2
theorem W_X18_holds_39 {G : GT} {X : CX} {d : Nat} {h0 : AH} {Q : State → Prop} (ok : Ok G X RX18 cX18_holds 3 d h0) (hr : (cxm X).sig.returnType = (Option.some Jvm.ClassFile.FieldType.boolean)) {th : ThT} {e : Nat} (hth : DTH G X.2.1 e th) (hd : e + 4 ≤ d) {a0 : Nat} {h : AH} {z : (Int32 × AH)} (hf : X18_holds_39 th a0 h = some z) (hk : Q = QM G X h0 (some (vi z.1)) z.2) {lv : List (Nat × AV)} (hl : lle lv [(0, vr (some a0))]) : V G X 3 h0 Q h 39 lv [] := by
  refine V.sub hl ?_
  unfold X18_holds_39 at hf
  refine v_aload_n ok 0 dX18_holds_39 rfl rfl ?_
  refine v_gI ok fl_X18_18 (fun _ _ _ => rfl) dX18_holds_40 hf (fun v1 hf => ?_)
  refine v_if_ne ok 50 dX18_holds_43 rfl hf (fun hf => ?_) (fun hf => ?_)
  ·
    refine v_iconst ok 0 dX18_holds_50 rfl ?_
    exact v_zretL ok hr (by decide) (by decide) (by cases hf; exact hk) dX18_holds_51
  ·
    refine v_iconst ok 1 dX18_holds_46 rfl ?_
    refine v_goto ok 51 dX18_holds_47 rfl ?_
    exact v_zretL ok hr (by decide) (by decide) (by cases hf; exact hk) dX18_holds_51
theorem W_X18_holds_58 {G : GT} {X : CX} {d : Nat} {h0 : AH} {Q : State → Prop} (ok : Ok G X RX18 cX18_holds 3 d h0) (hr : (cxm X).sig.returnType = (Option.some Jvm.ClassFile.FieldType.boolean)) {th : ThT} {e : Nat} (hth : DTH G X.2.1 e th) (hd : e + 4 ≤ d) {a0 : Nat} {h : AH} {z : (Int32 × AH)} (hf : X18_holds_58 th a0 h = some z) (hk : Q = QM G X h0 (some (vi z.1)) z.2) {lv : List (Nat × AV)} (hl : lle lv [(0, vr (some a0))]) : V G X 3 h0 Q h 58 lv [] := by
  refine V.sub hl ?_
  unfold X18_holds_58 at hf
  refine v_aload_n ok 0 dX18_holds_58 rfl rfl ?_
  refine v_gI ok fl_X18_18 (fun _ _ _ => rfl) dX18_holds_59 hf (fun v2 hf => ?_)
  exact v_zret ok hr (by decide) hf (fun hf => by cases hf; exact hk) dX18_holds_62
theorem W_X18_holds_2b {G : GT} {X : CX} {d : Nat} {h0 : AH} {Q : State → Prop} (ok : Ok G X RX18 cX18_holds 3 d h0) (hr : (cxm X).sig.returnType = (Option.some Jvm.ClassFile.FieldType.boolean)) {th : ThT} {e : Nat} (hth : DTH G X.2.1 e th) (hd : e + 4 ≤ d) {a0 : Nat} {x1 : Option Nat} {x2 : Int32} {h : AH} {z : ((Int32 × AH) ⊕ (Int32 × AH))} (hf : X18_holds_2b  th a0 x1 x2 h = some z) (hk : pkX18_holds_2 G X h0 Q a0 x1 z) {lv : List (Nat × AV)} (hl : lle lv [(0, vr (some a0)), (1, vr x1), (2, vi x2)]) : V G X 3 h0 Q h 2 lv [] := by
  refine V.sub hl ?_
  unfold X18_holds_2b at hf
  refine v_iload_n ok 2 dX18_holds_2 rfl rfl ?_
  refine v_aload_n ok 0 dX18_holds_3 rfl rfl ?_
  refine v_gR ok fl_X18_12 (by first | exact Or.inl ⟨_, rfl⟩ | exact Or.inr ⟨_, rfl⟩) dX18_holds_4 hf (fun v5 hf => ?_)
  refine v_cFi ok (RJ2, TJ2, 3) cf_23.1 [] (F := fun a => J2_size a h) (fun a v h1 _ hv => M_J2_size ok.2.2.2.2.2.2.1 (d := 1) (Nat.le_refl _) hv) (by omega) cw_J2_size q1597 q925 cwf_J2_size dX18_holds_7 [vi x2] rfl (Nat.le_of_ble_eq_true rfl) hf (fun v6 h7 hf => ?_)
  refine v_icmp_ge ok 58 dX18_holds_12 rfl hf (fun hf => ?_) (fun hf => ?_)
  ·
    obtain ⟨o, ho, hz⟩ := ob hf
    cases hz; exact W_X18_holds_58 ok hr hth hd ho hk ⟨rfl, trivial⟩
  ·
    refine v_aload_n ok 0 dX18_holds_15 rfl rfl ?_
    refine v_gR ok fl_X18_12 (by first | exact Or.inl ⟨_, rfl⟩ | exact Or.inr ⟨_, rfl⟩) dX18_holds_16 hf (fun v8 hf => ?_)
    refine v_iload_n ok 2 dX18_holds_19 rfl rfl ?_
    refine v_cFr ok (RJ2, TJ2, 3) cf_23.1 [vi x2] (F := fun a => J2_get a x2 h7) (fun a v h1 _ hv => M_J2_get ok.2.2.2.2.2.2.1 (d := 3) (Nat.le_refl _) hv) (by omega) cw_J2_get q1599 q907 cwf_J2_get dX18_holds_20 [] rfl (Nat.le_of_ble_eq_true rfl) hf (fun v9 h10 hf => ?_)
    refine v_cast_ ok ck_TurnedBoards_Test q1600 dX18_holds_25 hf (fun hf => ?_)
    refine v_aload_n ok 1 dX18_holds_28 rfl rfl ?_
    refine v_dth ok hth (by omega) q1601 dX18_holds_29 (Nat.le_of_ble_eq_true rfl) hf (fun v11 h12 hf => ?_)
    refine v_aload_n ok 0 dX18_holds_32 rfl rfl ?_
    refine v_gI ok fl_X18_18 (fun _ _ _ => rfl) dX18_holds_33 hf (fun v13 hf => ?_)
    refine v_icmp_eq ok 52 dX18_holds_36 rfl hf (fun hf => ?_) (fun hf => ?_)
    ·
      refine v_iinc ok x2 (x2 + 1) dX18_holds_52 rfl rfl (by decide) ?_
      refine v_goto ok 2 dX18_holds_55 rfl ?_
      cases hf; exact hk _ ⟨rfl, rfl, rfl, trivial⟩
    ·
      obtain ⟨o, ho, hz⟩ := ob hf
      cases hz; exact W_X18_holds_39 ok hr hth hd ho hk ⟨rfl, trivial⟩
theorem W_X18_holds_2 {G : GT} {X : CX} {d : Nat} {h0 : AH} {Q : State → Prop} (ok : Ok G X RX18 cX18_holds 3 d h0) (hr : (cxm X).sig.returnType = (Option.some Jvm.ClassFile.FieldType.boolean)) {th : ThT} {e : Nat} (hth : DTH G X.2.1 e th) (hd : e + 4 ≤ d) {a0 : Nat} {x1 : Option Nat} {x2 : Int32} {h : AH} {z : (Int32 × AH)} (hf : X18_holds_2  th a0 x1 x2 h = some z) (hk : Q = QM G X h0 (some (vi z.1)) z.2) {lv : List (Nat × AV)} (hl : lle lv [(0, vr (some a0)), (1, vr x1), (2, vi x2)]) : V G X 3 h0 Q h 2 lv [] := by
  unfold X18_holds_2 at hf
  exact loopC_walk (Wh := fun s : Int32 × AH => ∀ lv : List (Nat × AV), lle lv [(0, vr (some a0)), (1, vr x1), (2, vi s.1)] → V G X 3 h0 Q s.2 2 lv []) (PK := fun z => Q = QM G X h0 (some (vi z.1)) z.2) (fun s o hf hk lv hl => W_X18_holds_2b ok hr hth hd hf (by cases o <;> exact hk) hl) _ z hf hk lv hl
theorem W_X18_holds {G : GT} {X : CX} {d : Nat} {h0 : AH} {Q : State → Prop} (ok : Ok G X RX18 cX18_holds 3 d h0) (hr : (cxm X).sig.returnType = (Option.some Jvm.ClassFile.FieldType.boolean)) {th : ThT} {e : Nat} (hth : DTH G X.2.1 e th) (hd : e + 4 ≤ d) {a0 : Nat} {x1 : Option Nat} {h : AH} {z : (Int32 × AH)} (hf : X18_holds th a0 x1 h = some z) (hk : Q = QM G X h0 (some (vi z.1)) z.2) {lv : List (Nat × AV)} (hl : lle lv [(0, vr (some a0)), (1, vr x1)]) : V G X 3 h0 Q h 0 lv [] := by
  refine V.sub hl ?_
  unfold X18_holds at hf
  refine v_iconst ok 0 dX18_holds_0 rfl ?_
  refine v_istore_n ok 2 dX18_holds_1 rfl (by decide) ?_
  exact W_X18_holds_2 ok hr hth hd hf hk ⟨rfl, rfl, rfl, trivial⟩
theorem M_X18_holds {G : GT} {l : Launch} (hG : Glob G) {th : ThT} {e : Nat} (hth : DTH G l e th) {d : Nat} (hd : e + 4 ≤ d) {a0 : Nat} {x1 : Option Nat} {h : AH} {v : Int32} {h' : AH} (hf : X18_holds th a0 x1 h = some (v, h')) : MM G l yX18_holds cX18_holds 3 (Option.some Jvm.ClassFile.FieldType.boolean) d [vr (some a0), vr x1] h (some (vi v)) h' := by
  refine mm_of hG (plainFor_of_name (by decide)) (Nat.le_of_ble_eq_true rfl) (fun X hX ok hr hnm => ?_)
  subst hX
  exact W_X18_holds ok hr hth hd hf rfl ⟨rfl, rfl, trivial⟩
theorem cw_X19_init : CW yX19_init cX19_init 2 none 1 := ⟨q1255, q204, ⟨by decide, by decide⟩, by decide +kernel, by decide⟩
theorem W_X19_init {G : GT} {X : CX} {d : Nat} {h0 : AH} {Q : State → Prop} (ok : Ok G X RX19 cX19_init 2 d h0) (hr : (cxm X).sig.returnType = none) (hd : 2 ≤ d) (hnm : (cxm X).name = "<init>") {a0 : Nat} {x1 : Option Nat} {h : AH} {z : (AH)} (hf : X19_init a0 x1 h = some z) (hk : Q = QM G X h0 none z) {lv : List (Nat × AV)} (hl : lle lv [(0, vr (some a0)), (1, vr x1)]) : V G X 2 h0 Q h 0 lv [] := by
  refine V.sub hl ?_
  unfold X19_init at hf
  refine v_aload_n ok 0 dX19_init_0 rfl rfl ?_
  refine v_cINv ok [] rfl (F := fun a => X17_init a h) (fun a h1 _ hv => M_X17_init ok.2.2.2.2.2.2.1 (d := 1) (Nat.le_refl _) hv) (by exact Nat.le_trans (by decide) hd) cw_X17_init q1256 q1225 dX19_init_1 [] rfl (Nat.le_of_ble_eq_true rfl) hf (fun h1 hf => ?_)
  refine v_aload_n ok 0 dX19_init_4 rfl rfl ?_
  refine v_aload_n ok 1 dX19_init_5 rfl rfl ?_
  refine v_pR ok fl_X19_7 (by first | exact Or.inl ⟨_, rfl⟩ | exact Or.inr ⟨_, rfl⟩) (FN.ini cf_19.1 rfl hnm rfl) dX19_init_6 hf (fun h2 hf => ?_)
  exact v_vret ok hr (by cases hf; exact hk) dX19_init_9
theorem M_X19_init {G : GT} {l : Launch} (hG : Glob G) {d : Nat} (hd : 2 ≤ d) {a0 : Nat} {x1 : Option Nat} {h : AH} {h' : AH} (hf : X19_init a0 x1 h = some h') : MM G l yX19_init cX19_init 2 none d [vr (some a0), vr x1] h none h' := by
  refine mm_of hG (plainFor_of_name (by decide)) (Nat.le_of_ble_eq_true rfl) (fun X hX ok hr hnm => ?_)
  subst hX
  exact W_X19_init ok hr hd hnm hf rfl ⟨rfl, rfl, trivial⟩
theorem cw_X19_holds : CW yX19_holds cX19_holds 2 (Option.some Jvm.ClassFile.FieldType.boolean) 1 := ⟨q1603, q204, ⟨by decide, by decide⟩, by decide +kernel, by decide⟩
theorem W_X19_holds {G : GT} {X : CX} {d : Nat} {h0 : AH} {Q : State → Prop} (ok : Ok G X RX19 cX19_holds 2 d h0) (hr : (cxm X).sig.returnType = (Option.some Jvm.ClassFile.FieldType.boolean)) {th : ThT} {e : Nat} (hth : DTH G X.2.1 e th) (hd : e + 1 ≤ d) {a0 : Nat} {x1 : Option Nat} {h : AH} {z : (Int32 × AH)} (hf : X19_holds th a0 x1 h = some z) (hk : Q = QM G X h0 (some (vi z.1)) z.2) {lv : List (Nat × AV)} (hl : lle lv [(0, vr (some a0)), (1, vr x1)]) : V G X 2 h0 Q h 0 lv [] := by
  refine V.sub hl ?_
  unfold X19_holds at hf
  refine v_aload_n ok 0 dX19_holds_0 rfl rfl ?_
  refine v_gR ok fl_X19_7 (by first | exact Or.inl ⟨_, rfl⟩ | exact Or.inr ⟨_, rfl⟩) dX19_holds_1 hf (fun v1 hf => ?_)
  refine v_aload_n ok 1 dX19_holds_4 rfl rfl ?_
  refine v_dth ok hth (by omega) q1604 dX19_holds_5 (Nat.le_of_ble_eq_true rfl) hf (fun v2 h3 hf => ?_)
  refine v_if_ne ok 15 dX19_holds_8 rfl hf (fun hf => ?_) (fun hf => ?_)
  ·
    refine v_iconst ok 0 dX19_holds_15 rfl ?_
    exact v_zretL ok hr (by decide) (by decide) (by cases hf; exact hk) dX19_holds_16
  ·
    refine v_iconst ok 1 dX19_holds_11 rfl ?_
    refine v_goto ok 16 dX19_holds_12 rfl ?_
    exact v_zretL ok hr (by decide) (by decide) (by cases hf; exact hk) dX19_holds_16
theorem M_X19_holds {G : GT} {l : Launch} (hG : Glob G) {th : ThT} {e : Nat} (hth : DTH G l e th) {d : Nat} (hd : e + 1 ≤ d) {a0 : Nat} {x1 : Option Nat} {h : AH} {v : Int32} {h' : AH} (hf : X19_holds th a0 x1 h = some (v, h')) : MM G l yX19_holds cX19_holds 2 (Option.some Jvm.ClassFile.FieldType.boolean) d [vr (some a0), vr x1] h (some (vi v)) h' := by
  refine mm_of hG (plainFor_of_name (by decide)) (Nat.le_of_ble_eq_true rfl) (fun X hX ok hr hnm => ?_)
  subst hX
  exact W_X19_holds ok hr hth hd hf rfl ⟨rfl, rfl, trivial⟩
theorem cw_X20_init : CW yX20_init cX20_init 1 none 0 := ⟨q1266, q205, ⟨by decide, by decide⟩, by decide +kernel, by decide⟩
theorem W_X20_init {G : GT} {X : CX} {d : Nat} {h0 : AH} {Q : State → Prop} (ok : Ok G X RX20 cX20_init 1 d h0) (hr : (cxm X).sig.returnType = none) (hd : 2 ≤ d) (hnm : (cxm X).name = "<init>") {a0 : Nat} {h : AH} {z : (AH)} (hf : X20_init a0 h = some z) (hk : Q = QM G X h0 none z) {lv : List (Nat × AV)} (hl : lle lv [(0, vr (some a0))]) : V G X 1 h0 Q h 0 lv [] := by
  refine V.sub hl ?_
  unfold X20_init at hf
  refine v_aload_n ok 0 dX20_init_0 rfl rfl ?_
  refine v_cINv ok [] rfl (F := fun a => X17_init a h) (fun a h1 _ hv => M_X17_init ok.2.2.2.2.2.2.1 (d := 1) (Nat.le_refl _) hv) (by exact Nat.le_trans (by decide) hd) cw_X17_init q1267 q1225 dX20_init_1 [] rfl (Nat.le_of_ble_eq_true rfl) hf (fun h1 hf => ?_)
  exact v_vret ok hr (by cases hf; exact hk) dX20_init_4
theorem M_X20_init {G : GT} {l : Launch} (hG : Glob G) {d : Nat} (hd : 2 ≤ d) {a0 : Nat} {h : AH} {h' : AH} (hf : X20_init a0 h = some h') : MM G l yX20_init cX20_init 1 none d [vr (some a0)] h none h' := by
  refine mm_of hG (plainFor_of_name (by decide)) (Nat.le_of_ble_eq_true rfl) (fun X hX ok hr hnm => ?_)
  subst hX
  exact W_X20_init ok hr hd hnm hf rfl ⟨rfl, trivial⟩
theorem cw_X21_init : CW yX21_init cX21_init 4 none 3 := ⟨q1273, q206, ⟨by decide, by decide⟩, by decide +kernel, by decide⟩
theorem W_X21_init {G : GT} {X : CX} {d : Nat} {h0 : AH} {Q : State → Prop} (ok : Ok G X RX21 cX21_init 4 d h0) (hr : (cxm X).sig.returnType = none) (hd : 2 ≤ d) (hnm : (cxm X).name = "<init>") {a0 : Nat} {x1 : Option Nat} {x2 : Int32} {x3 : Option Nat} {h : AH} {z : (AH)} (hf : X21_init a0 x1 x2 x3 h = some z) (hk : Q = QM G X h0 none z) {lv : List (Nat × AV)} (hl : lle lv [(0, vr (some a0)), (1, vr x1), (2, vi x2), (3, vr x3)]) : V G X 4 h0 Q h 0 lv [] := by
  refine V.sub hl ?_
  unfold X21_init at hf
  refine v_aload_n ok 0 dX21_init_0 rfl rfl ?_
  refine v_cINv ok [] rfl (F := fun a => X17_init a h) (fun a h1 _ hv => M_X17_init ok.2.2.2.2.2.2.1 (d := 1) (Nat.le_refl _) hv) (by exact Nat.le_trans (by decide) hd) cw_X17_init q1274 q1225 dX21_init_1 [] rfl (Nat.le_of_ble_eq_true rfl) hf (fun h1 hf => ?_)
  refine v_aload_n ok 0 dX21_init_4 rfl rfl ?_
  refine v_aload_n ok 1 dX21_init_5 rfl rfl ?_
  refine v_pR ok fl_X21_7 (by first | exact Or.inl ⟨_, rfl⟩ | exact Or.inr ⟨_, rfl⟩) (FN.ini cf_21.1 rfl hnm rfl) dX21_init_6 hf (fun h2 hf => ?_)
  refine v_aload_n ok 0 dX21_init_9 rfl rfl ?_
  refine v_iload_n ok 2 dX21_init_10 rfl rfl ?_
  refine v_pI ok fl_X21_13 ⟨fun _ _ _ => rfl, rfl⟩ (FN.ini cf_21.1 rfl hnm rfl) dX21_init_11 hf (fun h3 hf => ?_)
  refine v_aload_n ok 0 dX21_init_14 rfl rfl ?_
  refine v_aload_n ok 3 dX21_init_15 rfl rfl ?_
  refine v_pR ok fl_X21_17 (by first | exact Or.inl ⟨_, rfl⟩ | exact Or.inr ⟨_, rfl⟩) (FN.ini cf_21.1 rfl hnm rfl) dX21_init_16 hf (fun h4 hf => ?_)
  exact v_vret ok hr (by cases hf; exact hk) dX21_init_19
theorem M_X21_init {G : GT} {l : Launch} (hG : Glob G) {d : Nat} (hd : 2 ≤ d) {a0 : Nat} {x1 : Option Nat} {x2 : Int32} {x3 : Option Nat} {h : AH} {h' : AH} (hf : X21_init a0 x1 x2 x3 h = some h') : MM G l yX21_init cX21_init 4 none d [vr (some a0), vr x1, vi x2, vr x3] h none h' := by
  refine mm_of hG (plainFor_of_name (by decide)) (Nat.le_of_ble_eq_true rfl) (fun X hX ok hr hnm => ?_)
  subst hX
  exact W_X21_init ok hr hd hnm hf rfl ⟨rfl, rfl, rfl, rfl, trivial⟩
theorem cw_X20_holds : CW yX20_holds cX20_holds 2 (Option.some Jvm.ClassFile.FieldType.boolean) 1 := ⟨q1592, q205, ⟨by decide, by decide⟩, by decide +kernel, by decide⟩
theorem W_X20_holds {G : GT} {X : CX} {d : Nat} {h0 : AH} {Q : State → Prop} (ok : Ok G X RX20 cX20_holds 2 d h0) (hr : (cxm X).sig.returnType = (Option.some Jvm.ClassFile.FieldType.boolean)) (hd : 1 ≤ d) {a0 : Nat} {x1 : Option Nat} {h : AH} {z : (Int32 × AH)} (hf : X20_holds a0 x1 h = some z) (hk : Q = QM G X h0 (some (vi z.1)) z.2) {lv : List (Nat × AV)} (hl : lle lv [(0, vr (some a0)), (1, vr x1)]) : V G X 2 h0 Q h 0 lv [] := by
  refine V.sub hl ?_
  unfold X20_holds at hf
  refine v_iconst ok 1 dX20_holds_0 rfl ?_
  exact v_zretL ok hr (by decide) (by decide) (by cases hf; exact hk) dX20_holds_1
theorem M_X20_holds {G : GT} {l : Launch} (hG : Glob G) {d : Nat} (hd : 1 ≤ d) {a0 : Nat} {x1 : Option Nat} {h : AH} {v : Int32} {h' : AH} (hf : X20_holds a0 x1 h = some (v, h')) : MM G l yX20_holds cX20_holds 2 (Option.some Jvm.ClassFile.FieldType.boolean) d [vr (some a0), vr x1] h (some (vi v)) h' := by
  refine mm_of hG (plainFor_of_name (by decide)) (Nat.le_of_ble_eq_true rfl) (fun X hX ok hr hnm => ?_)
  subst hX
  exact W_X20_holds ok hr hd hf rfl ⟨rfl, rfl, trivial⟩
theorem cw_X21_holds : CW yX21_holds cX21_holds 6 (Option.some Jvm.ClassFile.FieldType.boolean) 1 := ⟨q1606, q206, ⟨by decide, by decide⟩, by decide +kernel, by decide⟩
theorem W_X21_holds {G : GT} {X : CX} {d : Nat} {h0 : AH} {Q : State → Prop} (ok : Ok G X RX21 cX21_holds 6 d h0) (hr : (cxm X).sig.returnType = (Option.some Jvm.ClassFile.FieldType.boolean)) {va : VaT} {e : Nat} (hva : DVA G X.2.1 e va) (hd : e + 1 ≤ d) {a0 : Nat} {x1 : Option Nat} {h : AH} {z : (Int32 × AH)} (hf : X21_holds va a0 x1 h = some z) (hk : Q = QM G X h0 (some (vi z.1)) z.2) {lv : List (Nat × AV)} (hl : lle lv [(0, vr (some a0)), (1, vr x1)]) : V G X 6 h0 Q h 0 lv [] := by
  refine V.sub hl ?_
  unfold X21_holds at hf
  refine v_aload_n ok 0 dX21_holds_0 rfl rfl ?_
  refine v_gR ok fl_X21_7 (by first | exact Or.inl ⟨_, rfl⟩ | exact Or.inr ⟨_, rfl⟩) dX21_holds_1 hf (fun v1 hf => ?_)
  refine v_aload_n ok 1 dX21_holds_4 rfl rfl ?_
  refine v_dva ok hva (by omega) q1607 dX21_holds_5 (Nat.le_of_ble_eq_true rfl) hf (fun v2 h3 hf => ?_)
  refine v_lstore_n ok 2 dX21_holds_8 rfl (by decide) ?_
  refine v_aload_n ok 0 dX21_holds_9 rfl rfl ?_
  refine v_gR ok fl_X21_17 (by first | exact Or.inl ⟨_, rfl⟩ | exact Or.inr ⟨_, rfl⟩) dX21_holds_10 hf (fun v4 hf => ?_)
  refine v_aload_n ok 1 dX21_holds_13 rfl rfl ?_
  refine v_dva ok hva (by omega) q1607 dX21_holds_14 (Nat.le_of_ble_eq_true rfl) hf (fun v5 h6 hf => ?_)
  refine v_lstore ok dX21_holds_17 (by decide) ?_
  refine v_aload_n ok 0 dX21_holds_19 rfl rfl ?_
  refine v_gI ok fl_X21_13 (fun _ _ _ => rfl) dX21_holds_20 hf (fun v7 hf => ?_)
  refine v_bipush ok 60 dX21_holds_23 rfl ?_
  refine v_icmp_ne ok 43 dX21_holds_25 rfl hf (fun hf => ?_) (fun hf => ?_)
  ·
    refine v_aload_n ok 0 dX21_holds_43 rfl rfl ?_
    refine v_gI ok fl_X21_13 (fun _ _ _ => rfl) dX21_holds_44 hf (fun v8 hf => ?_)
    refine v_bipush ok 62 dX21_holds_47 rfl ?_
    refine v_icmp_ne ok 67 dX21_holds_49 rfl hf (fun hf => ?_) (fun hf => ?_)
    ·
      refine v_lload_n ok 2 dX21_holds_67 rfl rfl ?_
      refine v_lload ok dX21_holds_68 rfl ?_
      refine v_lcmp ok dX21_holds_70 ?_
      refine v_if_ne ok 78 dX21_holds_71 rfl hf (fun hf => ?_) (fun hf => ?_)
      ·
        refine v_iconst ok 0 dX21_holds_78 rfl ?_
        exact v_zretL ok hr (by decide) (by decide) (by cases hf; exact hk) dX21_holds_79
      ·
        refine v_iconst ok 1 dX21_holds_74 rfl ?_
        refine v_goto ok 79 dX21_holds_75 rfl ?_
        exact v_zretL ok hr (by decide) (by decide) (by cases hf; exact hk) dX21_holds_79
    ·
      refine v_lload_n ok 2 dX21_holds_52 rfl rfl ?_
      refine v_lload ok dX21_holds_53 rfl ?_
      refine v_lcmp ok dX21_holds_55 ?_
      refine v_if_le ok 63 dX21_holds_56 rfl hf (fun hf => ?_) (fun hf => ?_)
      ·
        refine v_iconst ok 0 dX21_holds_63 rfl ?_
        refine v_goto ok 79 dX21_holds_64 rfl ?_
        exact v_zretL ok hr (by decide) (by decide) (by cases hf; exact hk) dX21_holds_79
      ·
        refine v_iconst ok 1 dX21_holds_59 rfl ?_
        refine v_goto ok 79 dX21_holds_60 rfl ?_
        exact v_zretL ok hr (by decide) (by decide) (by cases hf; exact hk) dX21_holds_79
  ·
    refine v_lload_n ok 2 dX21_holds_28 rfl rfl ?_
    refine v_lload ok dX21_holds_29 rfl ?_
    refine v_lcmp ok dX21_holds_31 ?_
    refine v_if_ge ok 39 dX21_holds_32 rfl hf (fun hf => ?_) (fun hf => ?_)
    ·
      refine v_iconst ok 0 dX21_holds_39 rfl ?_
      refine v_goto ok 79 dX21_holds_40 rfl ?_
      exact v_zretL ok hr (by decide) (by decide) (by cases hf; exact hk) dX21_holds_79
    ·
      refine v_iconst ok 1 dX21_holds_35 rfl ?_
      refine v_goto ok 79 dX21_holds_36 rfl ?_
      exact v_zretL ok hr (by decide) (by decide) (by cases hf; exact hk) dX21_holds_79
theorem M_X21_holds {G : GT} {l : Launch} (hG : Glob G) {va : VaT} {e : Nat} (hva : DVA G l e va) {d : Nat} (hd : e + 1 ≤ d) {a0 : Nat} {x1 : Option Nat} {h : AH} {v : Int32} {h' : AH} (hf : X21_holds va a0 x1 h = some (v, h')) : MM G l yX21_holds cX21_holds 6 (Option.some Jvm.ClassFile.FieldType.boolean) d [vr (some a0), vr x1] h (some (vi v)) h' := by
  refine mm_of hG (plainFor_of_name (by decide)) (Nat.le_of_ble_eq_true rfl) (fun X hX ok hr hnm => ?_)
  subst hX
  exact W_X21_holds ok hr hva hd hf rfl ⟨rfl, rfl, trivial⟩
