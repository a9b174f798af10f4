set_option maxRecDepth 100000
theorem cw_X5_near : CW yX5_near cX5_near 6 (Option.some Jvm.ClassFile.FieldType.int) 2 := ⟨q1586, q183, ⟨by decide, by decide⟩, by decide +kernel, by decide⟩
theorem W_X5_near_83 {G : GT} {X : CX} {d : Nat} {h0 : AH} {Q : State → Prop} (ok : Ok G X RX5 cX5_near 6 d h0) (hr : (cxm X).sig.returnType = (Option.some Jvm.ClassFile.FieldType.int)) (hd : 2 ≤ d) {x1 : Int32} {x2 : Int32} {x4 : Int32} {s0 : Int32} {s1 : Int32} {h : AH} {z : (Int32 × AH)} (hf : X5_near_83 x1 x2 x4 s0 s1 h = some z) (hk : Q = QM G X h0 (some (vi z.1)) z.2) {lv : List (Nat × AV)} (hl : lle lv [(1, vi x1), (2, vi x2), (4, vi x4)]) : V G X 6 h0 Q h 83 lv [vi s1, vi s0] := by
  refine V.sub hl ?_
  unfold X5_near_83 at hf
  refine v_iadd ok dX5_near_83 ?_
  refine v_istore ok dX5_near_84 (by decide) ?_
  refine v_iload ok dX5_near_86 rfl ?_
  refine v_iload ok dX5_near_88 rfl ?_
  refine v_iconst ok 2 dX5_near_90 rfl ?_
  refine v_icmp_ge ok 108 dX5_near_91 rfl hf (fun hf => ?_) (fun hf => ?_)
  ·
    refine v_iconst ok 0 dX5_near_108 rfl ?_
    refine v_iadd ok dX5_near_109 ?_
    refine v_istore ok dX5_near_110 (by decide) ?_
    refine v_iload ok dX5_near_112 rfl ?_
    exact v_iret ok hr (by cases hf; exact hk) dX5_near_114
  ·
    refine v_iload_n ok 1 dX5_near_94 rfl rfl ?_
    refine v_iload_n ok 2 dX5_near_95 rfl rfl ?_
    refine v_iconst ok 1 dX5_near_96 rfl ?_
    refine v_iadd ok dX5_near_97 ?_
    refine v_cSNi ok [vi x1, vi (x2 + 1)] (F := X0_has x1 (x2 + 1) h) (fun v h1 hv => M_X0_has ok.2.2.2.2.2.2.1 (d := 1) (Nat.le_refl _) hv) (by exact Nat.le_trans (by decide) hd) cw_X0_has q1578 q1121 dX5_near_98 [vi (s0 + s1)] rfl (Nat.le_of_ble_eq_true rfl) hf (fun v1 h2 hf => ?_)
    refine v_if_eq ok 108 dX5_near_101 rfl hf (fun hf => ?_) (fun hf => ?_)
    ·
      refine v_iconst ok 0 dX5_near_108 rfl ?_
      refine v_iadd ok dX5_near_109 ?_
      refine v_istore ok dX5_near_110 (by decide) ?_
      refine v_iload ok dX5_near_112 rfl ?_
      exact v_iret ok hr (by cases hf; exact hk) dX5_near_114
    ·
      refine v_iconst ok 1 dX5_near_104 rfl ?_
      refine v_goto ok 109 dX5_near_105 rfl ?_
      refine v_iadd ok dX5_near_109 ?_
      refine v_istore ok dX5_near_110 (by decide) ?_
      refine v_iload ok dX5_near_112 rfl ?_
      exact v_iret ok hr (by cases hf; exact hk) dX5_near_114
theorem W_X5_near_82 {G : GT} {X : CX} {d : Nat} {h0 : AH} {Q : State → Prop} (ok : Ok G X RX5 cX5_near 6 d h0) (hr : (cxm X).sig.returnType = (Option.some Jvm.ClassFile.FieldType.int)) (hd : 2 ≤ d) {x1 : Int32} {x2 : Int32} {x4 : Int32} {s0 : Int32} {h : AH} {z : (Int32 × AH)} (hf : X5_near_82 x1 x2 x4 s0 h = some z) (hk : Q = QM G X h0 (some (vi z.1)) z.2) {lv : List (Nat × AV)} (hl : lle lv [(1, vi x1), (2, vi x2), (4, vi x4)]) : V G X 6 h0 Q h 82 lv [vi s0] := by
  refine V.sub hl ?_
  unfold X5_near_82 at hf
  refine v_iconst ok 0 dX5_near_82 rfl ?_
  exact W_X5_near_83 ok hr hd hf hk ⟨rfl, rfl, rfl, trivial⟩
theorem W_X5_near_58 {G : GT} {X : CX} {d : Nat} {h0 : AH} {Q : State → Prop} (ok : Ok G X RX5 cX5_near 6 d h0) (hr : (cxm X).sig.returnType = (Option.some Jvm.ClassFile.FieldType.int)) (hd : 2 ≤ d) {x1 : Int32} {x2 : Int32} {x4 : Int32} {s0 : Int32} {s1 : Int32} {h : AH} {z : (Int32 × AH)} (hf : X5_near_58 x1 x2 x4 s0 s1 h = some z) (hk : Q = QM G X h0 (some (vi z.1)) z.2) {lv : List (Nat × AV)} (hl : lle lv [(1, vi x1), (2, vi x2), (4, vi x4)]) : V G X 6 h0 Q h 58 lv [vi s1, vi s0] := by
  refine V.sub hl ?_
  unfold X5_near_58 at hf
  refine v_iadd ok dX5_near_58 ?_
  refine v_istore ok dX5_near_59 (by decide) ?_
  refine v_iload ok dX5_near_61 rfl ?_
  refine v_iload ok dX5_near_63 rfl ?_
  refine v_if_le ok 82 dX5_near_65 rfl hf (fun hf => ?_) (fun hf => ?_)
  ·
    exact W_X5_near_82 ok hr hd hf hk ⟨rfl, rfl, rfl, trivial⟩
  ·
    refine v_iload_n ok 1 dX5_near_68 rfl rfl ?_
    refine v_iload_n ok 2 dX5_near_69 rfl rfl ?_
    refine v_iconst ok 1 dX5_near_70 rfl ?_
    refine v_isub ok dX5_near_71 ?_
    refine v_cSNi ok [vi x1, vi (x2 - 1)] (F := X0_has x1 (x2 - 1) h) (fun v h1 hv => M_X0_has ok.2.2.2.2.2.2.1 (d := 1) (Nat.le_refl _) hv) (by exact Nat.le_trans (by decide) hd) cw_X0_has q1578 q1121 dX5_near_72 [vi (s0 + s1)] rfl (Nat.le_of_ble_eq_true rfl) hf (fun v3 h4 hf => ?_)
    refine v_if_eq ok 82 dX5_near_75 rfl hf (fun hf => ?_) (fun hf => ?_)
    ·
      exact W_X5_near_82 ok hr hd hf hk ⟨rfl, rfl, rfl, trivial⟩
    ·
      refine v_iconst ok 1 dX5_near_78 rfl ?_
      refine v_goto ok 83 dX5_near_79 rfl ?_
      exact W_X5_near_83 ok hr hd hf hk ⟨rfl, rfl, rfl, trivial⟩
theorem W_X5_near_57 {G : GT} {X : CX} {d : Nat} {h0 : AH} {Q : State → Prop} (ok : Ok G X RX5 cX5_near 6 d h0) (hr : (cxm X).sig.returnType = (Option.some Jvm.ClassFile.FieldType.int)) (hd : 2 ≤ d) {x1 : Int32} {x2 : Int32} {x4 : Int32} {s0 : Int32} {h : AH} {z : (Int32 × AH)} (hf : X5_near_57 x1 x2 x4 s0 h = some z) (hk : Q = QM G X h0 (some (vi z.1)) z.2) {lv : List (Nat × AV)} (hl : lle lv [(1, vi x1), (2, vi x2), (4, vi x4)]) : V G X 6 h0 Q h 57 lv [vi s0] := by
  refine V.sub hl ?_
  unfold X5_near_57 at hf
  refine v_iconst ok 0 dX5_near_57 rfl ?_
  exact W_X5_near_58 ok hr hd hf hk ⟨rfl, rfl, rfl, trivial⟩
theorem W_X5_near_33 {G : GT} {X : CX} {d : Nat} {h0 : AH} {Q : State → Prop} (ok : Ok G X RX5 cX5_near 6 d h0) (hr : (cxm X).sig.returnType = (Option.some Jvm.ClassFile.FieldType.int)) (hd : 2 ≤ d) {x1 : Int32} {x2 : Int32} {x3 : Int32} {x4 : Int32} {s0 : Int32} {s1 : Int32} {h : AH} {z : (Int32 × AH)} (hf : X5_near_33 x1 x2 x3 x4 s0 s1 h = some z) (hk : Q = QM G X h0 (some (vi z.1)) z.2) {lv : List (Nat × AV)} (hl : lle lv [(1, vi x1), (2, vi x2), (3, vi x3), (4, vi x4)]) : V G X 6 h0 Q h 33 lv [vi s1, vi s0] := by
  refine V.sub hl ?_
  unfold X5_near_33 at hf
  refine v_iadd ok dX5_near_33 ?_
  refine v_istore ok dX5_near_34 (by decide) ?_
  refine v_iload ok dX5_near_36 rfl ?_
  refine v_iload_n ok 3 dX5_near_38 rfl rfl ?_
  refine v_iconst ok 4 dX5_near_39 rfl ?_
  refine v_icmp_ge ok 57 dX5_near_40 rfl hf (fun hf => ?_) (fun hf => ?_)
  ·
    exact W_X5_near_57 ok hr hd hf hk ⟨rfl, rfl, rfl, trivial⟩
  ·
    refine v_iload_n ok 1 dX5_near_43 rfl rfl ?_
    refine v_iload_n ok 2 dX5_near_44 rfl rfl ?_
    refine v_iconst ok 3 dX5_near_45 rfl ?_
    refine v_iadd ok dX5_near_46 ?_
    refine v_cSNi ok [vi x1, vi (x2 + 3)] (F := X0_has x1 (x2 + 3) h) (fun v h1 hv => M_X0_has ok.2.2.2.2.2.2.1 (d := 1) (Nat.le_refl _) hv) (by exact Nat.le_trans (by decide) hd) cw_X0_has q1578 q1121 dX5_near_47 [vi (s0 + s1)] rfl (Nat.le_of_ble_eq_true rfl) hf (fun v5 h6 hf => ?_)
    refine v_if_eq ok 57 dX5_near_50 rfl hf (fun hf => ?_) (fun hf => ?_)
    ·
      exact W_X5_near_57 ok hr hd hf hk ⟨rfl, rfl, rfl, trivial⟩
    ·
      refine v_iconst ok 1 dX5_near_53 rfl ?_
      refine v_goto ok 58 dX5_near_54 rfl ?_
      exact W_X5_near_58 ok hr hd hf hk ⟨rfl, rfl, rfl, trivial⟩
theorem W_X5_near_32 {G : GT} {X : CX} {d : Nat} {h0 : AH} {Q : State → Prop} (ok : Ok G X RX5 cX5_near 6 d h0) (hr : (cxm X).sig.returnType = (Option.some Jvm.ClassFile.FieldType.int)) (hd : 2 ≤ d) {x1 : Int32} {x2 : Int32} {x3 : Int32} {x4 : Int32} {s0 : Int32} {h : AH} {z : (Int32 × AH)} (hf : X5_near_32 x1 x2 x3 x4 s0 h = some z) (hk : Q = QM G X h0 (some (vi z.1)) z.2) {lv : List (Nat × AV)} (hl : lle lv [(1, vi x1), (2, vi x2), (3, vi x3), (4, vi x4)]) : V G X 6 h0 Q h 32 lv [vi s0] := by
  refine V.sub hl ?_
  unfold X5_near_32 at hf
  refine v_iconst ok 0 dX5_near_32 rfl ?_
  exact W_X5_near_33 ok hr hd hf hk ⟨rfl, rfl, rfl, rfl, trivial⟩
theorem W_X5_near {G : GT} {X : CX} {d : Nat} {h0 : AH} {Q : State → Prop} (ok : Ok G X RX5 cX5_near 6 d h0) (hr : (cxm X).sig.returnType = (Option.some Jvm.ClassFile.FieldType.int)) (hd : 2 ≤ d) {a0 : Nat} {x1 : Int32} {x2 : Int32} {h : AH} {z : (Int32 × AH)} (hf : X5_near a0 x1 x2 h = some z) (hk : Q = QM G X h0 (some (vi z.1)) z.2) {lv : List (Nat × AV)} (hl : lle lv [(0, vr (some a0)), (1, vi x1), (2, vi x2)]) : V G X 6 h0 Q h 0 lv [] := by
  refine V.sub hl ?_
  unfold X5_near at hf
  refine v_iload_n ok 2 dX5_near_0 rfl rfl ?_
  refine v_iconst ok 3 dX5_near_1 rfl ?_
  refine v_idiv ok dX5_near_2 hf (fun hf => ?_)
  refine v_istore_n ok 3 dX5_near_3 rfl (by decide) ?_
  refine v_iload_n ok 2 dX5_near_4 rfl rfl ?_
  refine v_iconst ok 3 dX5_near_5 rfl ?_
  refine v_irem ok dX5_near_6 hf (fun hf => ?_)
  refine v_istore ok dX5_near_7 (by decide) ?_
  refine v_iconst ok 0 dX5_near_9 rfl ?_
  refine v_istore ok dX5_near_10 (by decide) ?_
  refine v_iload ok dX5_near_12 rfl ?_
  refine v_iload_n ok 3 dX5_near_14 rfl rfl ?_
  refine v_if_le ok 32 dX5_near_15 rfl hf (fun hf => ?_) (fun hf => ?_)
  ·
    exact W_X5_near_32 ok hr hd hf hk ⟨rfl, rfl, rfl, rfl, trivial⟩
  ·
    refine v_iload_n ok 1 dX5_near_18 rfl rfl ?_
    refine v_iload_n ok 2 dX5_near_19 rfl rfl ?_
    refine v_iconst ok 3 dX5_near_20 rfl ?_
    refine v_isub ok dX5_near_21 ?_
    refine v_cSNi ok [vi x1, vi (x2 - 3)] (F := X0_has x1 (x2 - 3) h) (fun v h1 hv => M_X0_has ok.2.2.2.2.2.2.1 (d := 1) (Nat.le_refl _) hv) (by exact Nat.le_trans (by decide) hd) cw_X0_has q1578 q1121 dX5_near_22 [vi 0] rfl (Nat.le_of_ble_eq_true rfl) hf (fun v7 h8 hf => ?_)
    refine v_if_eq ok 32 dX5_near_25 rfl hf (fun hf => ?_) (fun hf => ?_)
    ·
      exact W_X5_near_32 ok hr hd hf hk ⟨rfl, rfl, rfl, rfl, trivial⟩
    ·
      refine v_iconst ok 1 dX5_near_28 rfl ?_
      refine v_goto ok 33 dX5_near_29 rfl ?_
      exact W_X5_near_33 ok hr hd hf hk ⟨rfl, rfl, rfl, rfl, trivial⟩
theorem M_X5_near {G : GT} {l : Launch} (hG : Glob G) {d : Nat} (hd : 2 ≤ d) {a0 : Nat} {x1 : Int32} {x2 : Int32} {h : AH} {v : Int32} {h' : AH} (hf : X5_near a0 x1 x2 h = some (v, h')) : MM G l yX5_near cX5_near 6 (Option.some Jvm.ClassFile.FieldType.int) d [vr (some a0), vi x1, vi x2] h (some (vi v)) h' := by
  refine mm_of hG (plainFor_of_name (by decide)) (Nat.le_of_ble_eq_true rfl) (fun X hX ok hr hnm => ?_)
  subst hX
  exact W_X5_near ok hr hd hf rfl ⟨rfl, rfl, rfl, trivial⟩
theorem cw_X5_rainedOn : CW yX5_rainedOn cX5_rainedOn 5 (Option.some Jvm.ClassFile.FieldType.int) 2 := ⟨q1582, q183, ⟨by decide, by decide⟩, by decide +kernel, by decide⟩
def pkX5_rainedOn_5 (G : GT) (X : CX) (h0 : AH) (Q : State → Prop) (a0 : Nat) (x1 : Int32) (x2 : Int32) (o : ((Int32 × Int32 × AH) ⊕ (Int32 × AH))) : Prop := match o with
  | .inl s => ∀ lv : List (Nat × AV), lle lv [(0, vr (some a0)), (1, vi x1), (2, vi x2), (3, vi s.1), (4, vi s.2.1)] → V G X 5 h0 Q s.2.2 5 lv []
  | .inr z => Q = QM G X h0 (some (vi z.1)) z.2
theorem W_X5_rainedOn_5b {G : GT} {X : CX} {d : Nat} {h0 : AH} {Q : State → Prop} (ok : Ok G X RX5 cX5_rainedOn 5 d h0) (hr : (cxm X).sig.returnType = (Option.some Jvm.ClassFile.FieldType.int)) {th : ThT} {e : Nat} (hth : DTH G X.2.1 e th) (hd : e + 3 ≤ d) {a0 : Nat} {x1 : Int32} {x2 : Int32} {x3 : Int32} {x4 : Int32} {h : AH} {z : ((Int32 × Int32 × AH) ⊕ (Int32 × AH))} (hf : X5_rainedOn_5b  th a0 x1 x2 x3 x4 h = some z) (hk : pkX5_rainedOn_5 G X h0 Q a0 x1 x2 z) {lv : List (Nat × AV)} (hl : lle lv [(0, vr (some a0)), (1, vi x1), (2, vi x2), (3, vi x3), (4, vi x4)]) : V G X 5 h0 Q h 5 lv [] := by
  refine V.sub hl ?_
  unfold X5_rainedOn_5b at hf
  refine v_iload ok dX5_rainedOn_5 rfl ?_
  refine v_bipush ok 15 dX5_rainedOn_7 rfl ?_
  refine v_icmp_ge ok 162 dX5_rainedOn_9 rfl hf (fun hf => ?_) (fun hf => ?_)
  ·
    refine v_iload_n ok 3 dX5_rainedOn_162 rfl rfl ?_
    exact v_iret ok hr (by cases hf; exact hk) dX5_rainedOn_163
  ·
    refine v_aload_n ok 0 dX5_rainedOn_12 rfl rfl ?_
    refine v_gR ok fl_X5_3 (by first | exact Or.inl ⟨_, rfl⟩ | exact Or.inr ⟨_, rfl⟩) dX5_rainedOn_13 hf (fun v1 hf => ?_)
    refine v_gRN ok fl_X5_44 (by first | exact Or.inl ⟨_, rfl⟩ | exact Or.inr ⟨_, rfl⟩) dX5_rainedOn_16 hf (fun v2 hf => ?_)
    refine v_gRN ok fl_X5_106 (by first | exact Or.inl ⟨_, rfl⟩ | exact Or.inr ⟨_, rfl⟩) dX5_rainedOn_19 hf (fun v3 hf => ?_)
    refine v_ifnull ok 162 dX5_rainedOn_22 rfl hf (fun hf => ?_) (fun hf => ?_)
    ·
      refine v_iload_n ok 3 dX5_rainedOn_162 rfl rfl ?_
      exact v_iret ok hr (by cases hf; exact hk) dX5_rainedOn_163
    ·
      refine v_iload_n ok 1 dX5_rainedOn_25 rfl rfl ?_
      refine v_iload ok dX5_rainedOn_26 rfl ?_
      refine v_cSNi ok [vi x1, vi x4] (F := X0_has x1 x4 h) (fun v h1 hv => M_X0_has ok.2.2.2.2.2.2.1 (d := 1) (Nat.le_refl _) hv) (by omega) cw_X0_has q1578 q1121 dX5_rainedOn_28 [] rfl (Nat.le_of_ble_eq_true rfl) hf (fun v4 h5 hf => ?_)
      refine v_if_ne ok 37 dX5_rainedOn_31 rfl hf (fun hf => ?_) (fun hf => ?_)
      ·
        refine v_aload_n ok 0 dX5_rainedOn_37 rfl rfl ?_
        refine v_gR ok fl_X5_3 (by first | exact Or.inl ⟨_, rfl⟩ | exact Or.inr ⟨_, rfl⟩) dX5_rainedOn_38 hf (fun v6 hf => ?_)
        refine v_gRN ok fl_X5_110 (by first | exact Or.inl ⟨_, rfl⟩ | exact Or.inr ⟨_, rfl⟩) dX5_rainedOn_41 hf (fun v7 hf => ?_)
        refine v_gRN ok fl_X5_114 (by first | exact Or.inl ⟨_, rfl⟩ | exact Or.inr ⟨_, rfl⟩) dX5_rainedOn_44 hf (fun v8 hf => ?_)
        refine v_iconst ok 3 dX5_rainedOn_47 rfl ?_
        refine v_iload ok dX5_rainedOn_48 rfl ?_
        refine v_iconst ok 3 dX5_rainedOn_50 rfl ?_
        refine v_irem ok dX5_rainedOn_51 hf (fun hf => ?_)
        refine v_i2l ok dX5_rainedOn_52 ?_
        refine v_last ok rfl dX5_rainedOn_53 hf (fun h9 hf => ?_)
        refine v_aload_n ok 0 dX5_rainedOn_54 rfl rfl ?_
        refine v_gR ok fl_X5_3 (by first | exact Or.inl ⟨_, rfl⟩ | exact Or.inr ⟨_, rfl⟩) dX5_rainedOn_55 hf (fun v10 hf => ?_)
        refine v_gRN ok fl_X5_110 (by first | exact Or.inl ⟨_, rfl⟩ | exact Or.inr ⟨_, rfl⟩) dX5_rainedOn_58 hf (fun v11 hf => ?_)
        refine v_gRN ok fl_X5_114 (by first | exact Or.inl ⟨_, rfl⟩ | exact Or.inr ⟨_, rfl⟩) dX5_rainedOn_61 hf (fun v12 hf => ?_)
        refine v_iconst ok 4 dX5_rainedOn_64 rfl ?_
        refine v_iload ok dX5_rainedOn_65 rfl ?_
        refine v_iconst ok 3 dX5_rainedOn_67 rfl ?_
        refine v_idiv ok dX5_rainedOn_68 hf (fun hf => ?_)
        refine v_i2l ok dX5_rainedOn_69 ?_
        refine v_last ok rfl dX5_rainedOn_70 hf (fun h13 hf => ?_)
        refine v_aload_n ok 0 dX5_rainedOn_71 rfl rfl ?_
        refine v_gR ok fl_X5_3 (by first | exact Or.inl ⟨_, rfl⟩ | exact Or.inr ⟨_, rfl⟩) dX5_rainedOn_72 hf (fun v14 hf => ?_)
        refine v_gRN ok fl_X5_110 (by first | exact Or.inl ⟨_, rfl⟩ | exact Or.inr ⟨_, rfl⟩) dX5_rainedOn_75 hf (fun v15 hf => ?_)
        refine v_gRN ok fl_X5_114 (by first | exact Or.inl ⟨_, rfl⟩ | exact Or.inr ⟨_, rfl⟩) dX5_rainedOn_78 hf (fun v16 hf => ?_)
        refine v_iconst ok 5 dX5_rainedOn_81 rfl ?_
        refine v_iload_n ok 2 dX5_rainedOn_82 rfl rfl ?_
        refine v_i2l ok dX5_rainedOn_83 ?_
        refine v_last ok rfl dX5_rainedOn_84 hf (fun h17 hf => ?_)
        refine v_aload_n ok 0 dX5_rainedOn_85 rfl rfl ?_
        refine v_gR ok fl_X5_3 (by first | exact Or.inl ⟨_, rfl⟩ | exact Or.inr ⟨_, rfl⟩) dX5_rainedOn_86 hf (fun v18 hf => ?_)
        refine v_gRN ok fl_X5_110 (by first | exact Or.inl ⟨_, rfl⟩ | exact Or.inr ⟨_, rfl⟩) dX5_rainedOn_89 hf (fun v19 hf => ?_)
        refine v_gRN ok fl_X5_114 (by first | exact Or.inl ⟨_, rfl⟩ | exact Or.inr ⟨_, rfl⟩) dX5_rainedOn_92 hf (fun v20 hf => ?_)
        refine v_bipush ok 6 dX5_rainedOn_95 rfl ?_
        refine v_aload_n ok 0 dX5_rainedOn_97 rfl rfl ?_
        refine v_iload_n ok 1 dX5_rainedOn_98 rfl rfl ?_
        refine v_iload ok dX5_rainedOn_99 rfl ?_
        refine v_cVi ok (RX5, TX5, 10) cf_5.1 [vi x1, vi x4] (F := fun a => X5_near a x1 x4 h17) (fun a v h1 _ hv => M_X5_near ok.2.2.2.2.2.2.1 (d := 2) (Nat.le_refl _) hv) (by omega) cw_X5_near q1583 q1585 qs57 dX5_rainedOn_101 [vi 6, vr v20] rfl (Nat.le_of_ble_eq_true rfl) hf (fun v21 h22 hf => ?_)
        refine v_i2l ok dX5_rainedOn_104 ?_
        refine v_last ok rfl dX5_rainedOn_105 hf (fun h23 hf => ?_)
        refine v_aload_n ok 0 dX5_rainedOn_106 rfl rfl ?_
        refine v_gR ok fl_X5_3 (by first | exact Or.inl ⟨_, rfl⟩ | exact Or.inr ⟨_, rfl⟩) dX5_rainedOn_107 hf (fun v24 hf => ?_)
        refine v_gRN ok fl_X5_110 (by first | exact Or.inl ⟨_, rfl⟩ | exact Or.inr ⟨_, rfl⟩) dX5_rainedOn_110 hf (fun v25 hf => ?_)
        refine v_gRN ok fl_X5_114 (by first | exact Or.inl ⟨_, rfl⟩ | exact Or.inr ⟨_, rfl⟩) dX5_rainedOn_113 hf (fun v26 hf => ?_)
        refine v_bipush ok 7 dX5_rainedOn_116 rfl ?_
        refine v_aload_n ok 0 dX5_rainedOn_118 rfl rfl ?_
        refine v_gI ok fl_X5_33 (fun _ _ _ => rfl) dX5_rainedOn_119 hf (fun v27 hf => ?_)
        refine v_i2l ok dX5_rainedOn_122 ?_
        refine v_last ok rfl dX5_rainedOn_123 hf (fun h28 hf => ?_)
        refine v_aload_n ok 0 dX5_rainedOn_124 rfl rfl ?_
        refine v_gR ok fl_X5_3 (by first | exact Or.inl ⟨_, rfl⟩ | exact Or.inr ⟨_, rfl⟩) dX5_rainedOn_125 hf (fun v29 hf => ?_)
        refine v_gRN ok fl_X5_44 (by first | exact Or.inl ⟨_, rfl⟩ | exact Or.inr ⟨_, rfl⟩) dX5_rainedOn_128 hf (fun v30 hf => ?_)
        refine v_gRN ok fl_X5_106 (by first | exact Or.inl ⟨_, rfl⟩ | exact Or.inr ⟨_, rfl⟩) dX5_rainedOn_131 hf (fun v31 hf => ?_)
        refine v_aload_n ok 0 dX5_rainedOn_134 rfl rfl ?_
        refine v_gR ok fl_X5_3 (by first | exact Or.inl ⟨_, rfl⟩ | exact Or.inr ⟨_, rfl⟩) dX5_rainedOn_135 hf (fun v32 hf => ?_)
        refine v_gRN ok fl_X5_110 (by first | exact Or.inl ⟨_, rfl⟩ | exact Or.inr ⟨_, rfl⟩) dX5_rainedOn_138 hf (fun v33 hf => ?_)
        refine v_dth ok hth (by omega) q1587 dX5_rainedOn_141 (Nat.le_of_ble_eq_true rfl) hf (fun v34 h35 hf => ?_)
        refine v_if_eq ok 156 dX5_rainedOn_144 rfl hf (fun hf => ?_) (fun hf => ?_)
        ·
          refine v_iinc ok x4 (x4 + 1) dX5_rainedOn_156 rfl rfl (by decide) ?_
          refine v_goto ok 5 dX5_rainedOn_159 rfl ?_
          cases hf; exact hk _ ⟨rfl, rfl, rfl, rfl, rfl, trivial⟩
        ·
          refine v_iload_n ok 3 dX5_rainedOn_147 rfl rfl ?_
          refine v_iconst ok 1 dX5_rainedOn_148 rfl ?_
          refine v_iload ok dX5_rainedOn_149 rfl ?_
          refine v_ishl ok dX5_rainedOn_151 ?_
          refine v_iconst ok (-1) dX5_rainedOn_152 rfl ?_
          refine v_ixor ok dX5_rainedOn_153 ?_
          refine v_iand ok dX5_rainedOn_154 ?_
          refine v_istore_n ok 3 dX5_rainedOn_155 rfl (by decide) ?_
          refine v_iinc ok x4 (x4 + 1) dX5_rainedOn_156 rfl rfl (by decide) ?_
          refine v_goto ok 5 dX5_rainedOn_159 rfl ?_
          cases hf; exact hk _ ⟨rfl, rfl, rfl, rfl, rfl, trivial⟩
      ·
        refine v_goto ok 156 dX5_rainedOn_34 rfl ?_
        refine v_iinc ok x4 (x4 + 1) dX5_rainedOn_156 rfl rfl (by decide) ?_
        refine v_goto ok 5 dX5_rainedOn_159 rfl ?_
        cases hf; exact hk _ ⟨rfl, rfl, rfl, rfl, rfl, trivial⟩
theorem W_X5_rainedOn_5 {G : GT} {X : CX} {d : Nat} {h0 : AH} {Q : State → Prop} (ok : Ok G X RX5 cX5_rainedOn 5 d h0) (hr : (cxm X).sig.returnType = (Option.some Jvm.ClassFile.FieldType.int)) {th : ThT} {e : Nat} (hth : DTH G X.2.1 e th) (hd : e + 3 ≤ d) {a0 : Nat} {x1 : Int32} {x2 : Int32} {x3 : Int32} {x4 : Int32} {h : AH} {z : (Int32 × AH)} (hf : X5_rainedOn_5  th a0 x1 x2 x3 x4 h = some z) (hk : Q = QM G X h0 (some (vi z.1)) z.2) {lv : List (Nat × AV)} (hl : lle lv [(0, vr (some a0)), (1, vi x1), (2, vi x2), (3, vi x3), (4, vi x4)]) : V G X 5 h0 Q h 5 lv [] := by
  unfold X5_rainedOn_5 at hf
  exact loopC_walk (Wh := fun s : Int32 × Int32 × AH => ∀ lv : List (Nat × AV), lle lv [(0, vr (some a0)), (1, vi x1), (2, vi x2), (3, vi s.1), (4, vi s.2.1)] → V G X 5 h0 Q s.2.2 5 lv []) (PK := fun z => Q = QM G X h0 (some (vi z.1)) z.2) (fun s o hf hk lv hl => W_X5_rainedOn_5b ok hr hth hd hf (by cases o <;> exact hk) hl) _ z hf hk lv hl
theorem W_X5_rainedOn {G : GT} {X : CX} {d : Nat} {h0 : AH} {Q : State → Prop} (ok : Ok G X RX5 cX5_rainedOn 5 d h0) (hr : (cxm X).sig.returnType = (Option.some Jvm.ClassFile.FieldType.int)) {th : ThT} {e : Nat} (hth : DTH G X.2.1 e th) (hd : e + 3 ≤ d) {a0 : Nat} {x1 : Int32} {x2 : Int32} {h : AH} {z : (Int32 × AH)} (hf : X5_rainedOn th a0 x1 x2 h = some z) (hk : Q = QM G X h0 (some (vi z.1)) z.2) {lv : List (Nat × AV)} (hl : lle lv [(0, vr (some a0)), (1, vi x1), (2, vi x2)]) : V G X 5 h0 Q h 0 lv [] := by
  refine V.sub hl ?_
  unfold X5_rainedOn at hf
  refine v_iload_n ok 1 dX5_rainedOn_0 rfl rfl ?_
  refine v_istore_n ok 3 dX5_rainedOn_1 rfl (by decide) ?_
  refine v_iconst ok 0 dX5_rainedOn_2 rfl ?_
  refine v_istore ok dX5_rainedOn_3 (by decide) ?_
  exact W_X5_rainedOn_5 ok hr hth hd hf hk ⟨rfl, rfl, rfl, rfl, rfl, trivial⟩
theorem M_X5_rainedOn {G : GT} {l : Launch} (hG : Glob G) {th : ThT} {e : Nat} (hth : DTH G l e th) {d : Nat} (hd : e + 3 ≤ d) {a0 : Nat} {x1 : Int32} {x2 : Int32} {h : AH} {v : Int32} {h' : AH} (hf : X5_rainedOn th a0 x1 x2 h = some (v, h')) : MM G l yX5_rainedOn cX5_rainedOn 5 (Option.some Jvm.ClassFile.FieldType.int) d [vr (some a0), vi x1, vi x2] h (some (vi v)) h' := by
  refine mm_of hG (plainFor_of_name (by decide)) (Nat.le_of_ble_eq_true rfl) (fun X hX ok hr hnm => ?_)
  subst hX
  exact W_X5_rainedOn ok hr hth hd hf rfl ⟨rfl, rfl, rfl, trivial⟩
theorem cw_X5_tells : CW yX5_tells cX5_tells 4 none 1 := ⟨q1613, q183, ⟨by decide, by decide⟩, by decide +kernel, by decide⟩
def pkX5_tells_66 (G : GT) (X : CX) (h0 : AH) (Q : State → Prop) (a0 : Nat) (x1 : Int32) (o : ((Int32 × Int32 × AH) ⊕ (AH))) : Prop := match o with
  | .inl s => ∀ lv : List (Nat × AV), lle lv [(0, vr (some a0)), (1, vi x1), (2, vi s.1), (3, vi s.2.1)] → V G X 4 h0 Q s.2.2 66 lv []
  | .inr z => Q = QM G X h0 none z
def pkX5_tells_18 (G : GT) (X : CX) (h0 : AH) (Q : State → Prop) (a0 : Nat) (x1 : Int32) (x2 : Option Nat) (o : ((Int32 × AH) ⊕ (AH))) : Prop := match o with
  | .inl s => ∀ lv : List (Nat × AV), lle lv [(0, vr (some a0)), (1, vi x1), (2, vr x2), (3, vi s.1)] → V G X 4 h0 Q s.2 18 lv []
  | .inr z => Q = QM G X h0 none z
theorem W_X5_tells_99 {G : GT} {X : CX} {d : Nat} {h0 : AH} {Q : State → Prop} (ok : Ok G X RX5 cX5_tells 4 d h0) (hr : (cxm X).sig.returnType = none) {va : VaT} {e : Nat} (hva : DVA G X.2.1 e va) (hd : e + 7 ≤ d) {a0 : Nat} {x1 : Int32} {x2 : Int32} {h : AH} {z : (AH)} (hf : X5_tells_99 va a0 x1 x2 h = some z) (hk : Q = QM G X h0 none z) {lv : List (Nat × AV)} (hl : lle lv [(0, vr (some a0)), (1, vi x1), (2, vi x2)]) : V G X 4 h0 Q h 99 lv [] := by
  refine V.sub hl ?_
  unfold X5_tells_99 at hf
  refine v_aload_n ok 0 dX5_tells_99 rfl rfl ?_
  refine v_gR ok fl_X5_27 (by first | exact Or.inl ⟨_, rfl⟩ | exact Or.inr ⟨_, rfl⟩) dX5_tells_100 hf (fun v1 hf => ?_)
  refine v_aload_n ok 0 dX5_tells_103 rfl rfl ?_
  refine v_gI ok fl_X5_37 (fun _ _ _ => rfl) dX5_tells_104 hf (fun v2 hf => ?_)
  refine v_aald6 ok rfl dX5_tells_107 hf (fun v3 hf => ?_)
  refine v_iconst ok 0 dX5_tells_108 rfl ?_
  refine v_aload_n ok 0 dX5_tells_109 rfl rfl ?_
  refine v_gI ok fl_X5_33 (fun _ _ _ => rfl) dX5_tells_110 hf (fun v4 hf => ?_)
  refine v_iast ok rfl dX5_tells_113 hf (fun h5 hf => ?_)
  refine v_aload_n ok 0 dX5_tells_114 rfl rfl ?_
  refine v_gR ok fl_X5_27 (by first | exact Or.inl ⟨_, rfl⟩ | exact Or.inr ⟨_, rfl⟩) dX5_tells_115 hf (fun v6 hf => ?_)
  refine v_aload_n ok 0 dX5_tells_118 rfl rfl ?_
  refine v_gI ok fl_X5_37 (fun _ _ _ => rfl) dX5_tells_119 hf (fun v7 hf => ?_)
  refine v_aald6 ok rfl dX5_tells_122 hf (fun v8 hf => ?_)
  refine v_iconst ok 1 dX5_tells_123 rfl ?_
  refine v_iload_n ok 1 dX5_tells_124 rfl rfl ?_
  refine v_iast ok rfl dX5_tells_125 hf (fun h9 hf => ?_)
  refine v_aload_n ok 0 dX5_tells_126 rfl rfl ?_
  refine v_gR ok fl_X5_27 (by first | exact Or.inl ⟨_, rfl⟩ | exact Or.inr ⟨_, rfl⟩) dX5_tells_127 hf (fun v10 hf => ?_)
  refine v_aload_n ok 0 dX5_tells_130 rfl rfl ?_
  refine v_gI ok fl_X5_37 (fun _ _ _ => rfl) dX5_tells_131 hf (fun v11 hf => ?_)
  refine v_aald6 ok rfl dX5_tells_134 hf (fun v12 hf => ?_)
  refine v_iconst ok 2 dX5_tells_135 rfl ?_
  refine v_iload_n ok 2 dX5_tells_136 rfl rfl ?_
  refine v_iast ok rfl dX5_tells_137 hf (fun h13 hf => ?_)
  refine v_aload_n ok 0 dX5_tells_138 rfl rfl ?_
  refine v_dup ok dX5_tells_139 rfl ?_
  refine v_gI ok fl_X5_37 (fun _ _ _ => rfl) dX5_tells_140 hf (fun v14 hf => ?_)
  refine v_iconst ok 1 dX5_tells_143 rfl ?_
  refine v_iadd ok dX5_tells_144 ?_
  refine v_pI ok fl_X5_37 ⟨fun _ _ _ => rfl, rfl⟩ (FN.of cf_5.1 rfl) dX5_tells_145 hf (fun h15 hf => ?_)
  exact v_vret ok hr (by cases hf; exact hk) dX5_tells_148
theorem W_X5_tells_66b {G : GT} {X : CX} {d : Nat} {h0 : AH} {Q : State → Prop} (ok : Ok G X RX5 cX5_tells 4 d h0) (hr : (cxm X).sig.returnType = none) {va : VaT} {e : Nat} (hva : DVA G X.2.1 e va) (hd : e + 7 ≤ d) {a0 : Nat} {x1 : Int32} {x2 : Int32} {x3 : Int32} {h : AH} {z : ((Int32 × Int32 × AH) ⊕ (AH))} (hf : X5_tells_66b  va a0 x1 x2 x3 h = some z) (hk : pkX5_tells_66 G X h0 Q a0 x1 z) {lv : List (Nat × AV)} (hl : lle lv [(0, vr (some a0)), (1, vi x1), (2, vi x2), (3, vi x3)]) : V G X 4 h0 Q h 66 lv [] := by
  refine V.sub hl ?_
  unfold X5_tells_66b at hf
  refine v_iload_n ok 3 dX5_tells_66 rfl rfl ?_
  refine v_aload_n ok 0 dX5_tells_67 rfl rfl ?_
  refine v_iload_n ok 1 dX5_tells_68 rfl rfl ?_
  refine v_cVi ok (RX5, TX5, 10) cf_5.1 [vi x1] (F := fun a => X5_places a x1 h) (fun a v h1 _ hv => M_X5_places ok.2.2.2.2.2.2.1 (d := 4) (Nat.le_refl _) hv) (by omega) cw_X5_places q1304 q1305 q1306 dX5_tells_69 [vi x3] rfl (Nat.le_of_ble_eq_true rfl) hf (fun v16 h17 hf => ?_)
  refine v_icmp_ge ok 99 dX5_tells_72 rfl hf (fun hf => ?_) (fun hf => ?_)
  ·
    obtain ⟨o, ho, hz⟩ := ob hf
    cases hz; exact W_X5_tells_99 ok hr hva hd ho hk ⟨rfl, rfl, rfl, trivial⟩
  ·
    refine v_iload_n ok 2 dX5_tells_75 rfl rfl ?_
    refine v_aload_n ok 0 dX5_tells_76 rfl rfl ?_
    refine v_iload_n ok 1 dX5_tells_77 rfl rfl ?_
    refine v_iconst ok 0 dX5_tells_78 rfl ?_
    refine v_iload_n ok 3 dX5_tells_79 rfl rfl ?_
    refine v_cVi ok (RX5, TX5, 10) cf_5.1 [vi x1, vi 0, vi x3] (F := fun a => X5_says va a x1 0 x3 h17) (fun a v h1 _ hv => M_X5_says ok.2.2.2.2.2.2.1 hva (d := e + 6) (Nat.le_refl _) hv) (by omega) cw_X5_says q1560 q1561 q1562 dX5_tells_80 [vi x2] rfl (Nat.le_of_ble_eq_true rfl) hf (fun v18 h19 hf => ?_)
    refine v_if_ne ok 90 dX5_tells_83 rfl hf (fun hf => ?_) (fun hf => ?_)
    ·
      refine v_iconst ok 0 dX5_tells_90 rfl ?_
      refine v_iadd ok dX5_tells_91 ?_
      refine v_istore_n ok 2 dX5_tells_92 rfl (by decide) ?_
      refine v_iinc ok x3 (x3 + 1) dX5_tells_93 rfl rfl (by decide) ?_
      refine v_goto ok 66 dX5_tells_96 rfl ?_
      cases hf; exact hk _ ⟨rfl, rfl, rfl, rfl, trivial⟩
    ·
      refine v_iconst ok 1 dX5_tells_86 rfl ?_
      refine v_goto ok 91 dX5_tells_87 rfl ?_
      refine v_iadd ok dX5_tells_91 ?_
      refine v_istore_n ok 2 dX5_tells_92 rfl (by decide) ?_
      refine v_iinc ok x3 (x3 + 1) dX5_tells_93 rfl rfl (by decide) ?_
      refine v_goto ok 66 dX5_tells_96 rfl ?_
      cases hf; exact hk _ ⟨rfl, rfl, rfl, rfl, trivial⟩
theorem W_X5_tells_66 {G : GT} {X : CX} {d : Nat} {h0 : AH} {Q : State → Prop} (ok : Ok G X RX5 cX5_tells 4 d h0) (hr : (cxm X).sig.returnType = none) {va : VaT} {e : Nat} (hva : DVA G X.2.1 e va) (hd : e + 7 ≤ d) {a0 : Nat} {x1 : Int32} {x2 : Int32} {x3 : Int32} {h : AH} {z : (AH)} (hf : X5_tells_66  va a0 x1 x2 x3 h = some z) (hk : Q = QM G X h0 none z) {lv : List (Nat × AV)} (hl : lle lv [(0, vr (some a0)), (1, vi x1), (2, vi x2), (3, vi x3)]) : V G X 4 h0 Q h 66 lv [] := by
  unfold X5_tells_66 at hf
  exact loopC_walk (Wh := fun s : Int32 × Int32 × AH => ∀ lv : List (Nat × AV), lle lv [(0, vr (some a0)), (1, vi x1), (2, vi s.1), (3, vi s.2.1)] → V G X 4 h0 Q s.2.2 66 lv []) (PK := fun z => Q = QM G X h0 none z) (fun s o hf hk lv hl => W_X5_tells_66b ok hr hva hd hf (by cases o <;> exact hk) hl) _ z hf hk lv hl
theorem W_X5_tells_44 {G : GT} {X : CX} {d : Nat} {h0 : AH} {Q : State → Prop} (ok : Ok G X RX5 cX5_tells 4 d h0) (hr : (cxm X).sig.returnType = none) {va : VaT} {e : Nat} (hva : DVA G X.2.1 e va) (hd : e + 7 ≤ d) {a0 : Nat} {x1 : Int32} {x2 : Option Nat} {h : AH} {z : (AH)} (hf : X5_tells_44 va a0 x1 x2 h = some z) (hk : Q = QM G X h0 none z) {lv : List (Nat × AV)} (hl : lle lv [(0, vr (some a0)), (1, vi x1), (2, vr x2)]) : V G X 4 h0 Q h 44 lv [] := by
  refine V.sub hl ?_
  unfold X5_tells_44 at hf
  refine v_aload_n ok 0 dX5_tells_44 rfl rfl ?_
  refine v_gR ok fl_X5_27 (by first | exact Or.inl ⟨_, rfl⟩ | exact Or.inr ⟨_, rfl⟩) dX5_tells_45 hf (fun v20 hf => ?_)
  refine v_bipush ok 39 dX5_tells_48 rfl ?_
  refine v_aload_n ok 2 dX5_tells_50 rfl rfl ?_
  refine v_aast ok (t := 106) (by decide) (by decide) ck__I dX5_tells_51 hf (fun h21 hf => ?_)
  refine v_aload_n ok 0 dX5_tells_52 rfl rfl ?_
  refine v_dup ok dX5_tells_53 rfl ?_
  refine v_gI ok fl_X5_37 (fun _ _ _ => rfl) dX5_tells_54 hf (fun v22 hf => ?_)
  refine v_iconst ok 1 dX5_tells_57 rfl ?_
  refine v_isub ok dX5_tells_58 ?_
  refine v_pI ok fl_X5_37 ⟨fun _ _ _ => rfl, rfl⟩ (FN.of cf_5.1 rfl) dX5_tells_59 hf (fun h23 hf => ?_)
  refine v_iconst ok 0 dX5_tells_62 rfl ?_
  refine v_istore_n ok 2 dX5_tells_63 rfl (by decide) ?_
  refine v_iconst ok 0 dX5_tells_64 rfl ?_
  refine v_istore_n ok 3 dX5_tells_65 rfl (by decide) ?_
  exact W_X5_tells_66 ok hr hva hd hf hk ⟨rfl, rfl, rfl, rfl, trivial⟩
theorem W_X5_tells_18b {G : GT} {X : CX} {d : Nat} {h0 : AH} {Q : State → Prop} (ok : Ok G X RX5 cX5_tells 4 d h0) (hr : (cxm X).sig.returnType = none) {va : VaT} {e : Nat} (hva : DVA G X.2.1 e va) (hd : e + 7 ≤ d) {a0 : Nat} {x1 : Int32} {x2 : Option Nat} {x3 : Int32} {h : AH} {z : ((Int32 × AH) ⊕ (AH))} (hf : X5_tells_18b  va a0 x1 x2 x3 h = some z) (hk : pkX5_tells_18 G X h0 Q a0 x1 x2 z) {lv : List (Nat × AV)} (hl : lle lv [(0, vr (some a0)), (1, vi x1), (2, vr x2), (3, vi x3)]) : V G X 4 h0 Q h 18 lv [] := by
  refine V.sub hl ?_
  unfold X5_tells_18b at hf
  refine v_iload_n ok 3 dX5_tells_18 rfl rfl ?_
  refine v_bipush ok 40 dX5_tells_19 rfl ?_
  refine v_icmp_ge ok 44 dX5_tells_21 rfl hf (fun hf => ?_) (fun hf => ?_)
  ·
    obtain ⟨o, ho, hz⟩ := ob hf
    cases hz; exact W_X5_tells_44 ok hr hva hd ho hk ⟨rfl, rfl, rfl, trivial⟩
  ·
    refine v_aload_n ok 0 dX5_tells_24 rfl rfl ?_
    refine v_gR ok fl_X5_27 (by first | exact Or.inl ⟨_, rfl⟩ | exact Or.inr ⟨_, rfl⟩) dX5_tells_25 hf (fun v24 hf => ?_)
    refine v_iload_n ok 3 dX5_tells_28 rfl rfl ?_
    refine v_iconst ok 1 dX5_tells_29 rfl ?_
    refine v_isub ok dX5_tells_30 ?_
    refine v_aload_n ok 0 dX5_tells_31 rfl rfl ?_
    refine v_gR ok fl_X5_27 (by first | exact Or.inl ⟨_, rfl⟩ | exact Or.inr ⟨_, rfl⟩) dX5_tells_32 hf (fun v25 hf => ?_)
    refine v_iload_n ok 3 dX5_tells_35 rfl rfl ?_
    refine v_aald6 ok rfl dX5_tells_36 hf (fun v26 hf => ?_)
    refine v_aast ok (t := 106) (by decide) (by decide) ck__I dX5_tells_37 hf (fun h27 hf => ?_)
    refine v_iinc ok x3 (x3 + 1) dX5_tells_38 rfl rfl (by decide) ?_
    refine v_goto ok 18 dX5_tells_41 rfl ?_
    cases hf; exact hk _ ⟨rfl, rfl, rfl, rfl, trivial⟩
theorem W_X5_tells_18 {G : GT} {X : CX} {d : Nat} {h0 : AH} {Q : State → Prop} (ok : Ok G X RX5 cX5_tells 4 d h0) (hr : (cxm X).sig.returnType = none) {va : VaT} {e : Nat} (hva : DVA G X.2.1 e va) (hd : e + 7 ≤ d) {a0 : Nat} {x1 : Int32} {x2 : Option Nat} {x3 : Int32} {h : AH} {z : (AH)} (hf : X5_tells_18  va a0 x1 x2 x3 h = some z) (hk : Q = QM G X h0 none z) {lv : List (Nat × AV)} (hl : lle lv [(0, vr (some a0)), (1, vi x1), (2, vr x2), (3, vi x3)]) : V G X 4 h0 Q h 18 lv [] := by
  unfold X5_tells_18 at hf
  exact loopC_walk (Wh := fun s : Int32 × AH => ∀ lv : List (Nat × AV), lle lv [(0, vr (some a0)), (1, vi x1), (2, vr x2), (3, vi s.1)] → V G X 4 h0 Q s.2 18 lv []) (PK := fun z => Q = QM G X h0 none z) (fun s o hf hk lv hl => W_X5_tells_18b ok hr hva hd hf (by cases o <;> exact hk) hl) _ z hf hk lv hl
theorem W_X5_tells {G : GT} {X : CX} {d : Nat} {h0 : AH} {Q : State → Prop} (ok : Ok G X RX5 cX5_tells 4 d h0) (hr : (cxm X).sig.returnType = none) {va : VaT} {e : Nat} (hva : DVA G X.2.1 e va) (hd : e + 7 ≤ d) {a0 : Nat} {x1 : Int32} {h : AH} {z : (AH)} (hf : X5_tells va a0 x1 h = some z) (hk : Q = QM G X h0 none z) {lv : List (Nat × AV)} (hl : lle lv [(0, vr (some a0)), (1, vi x1)]) : V G X 4 h0 Q h 0 lv [] := by
  refine V.sub hl ?_
  unfold X5_tells at hf
  refine v_aload_n ok 0 dX5_tells_0 rfl rfl ?_
  refine v_gI ok fl_X5_37 (fun _ _ _ => rfl) dX5_tells_1 hf (fun v28 hf => ?_)
  refine v_bipush ok 40 dX5_tells_4 rfl ?_
  refine v_icmp_ne ok 62 dX5_tells_6 rfl hf (fun hf => ?_) (fun hf => ?_)
  ·
    refine v_iconst ok 0 dX5_tells_62 rfl ?_
    refine v_istore_n ok 2 dX5_tells_63 rfl (by decide) ?_
    refine v_iconst ok 0 dX5_tells_64 rfl ?_
    refine v_istore_n ok 3 dX5_tells_65 rfl (by decide) ?_
    exact W_X5_tells_66 ok hr hva hd hf hk ⟨rfl, rfl, rfl, rfl, trivial⟩
  ·
    refine v_aload_n ok 0 dX5_tells_9 rfl rfl ?_
    refine v_gR ok fl_X5_27 (by first | exact Or.inl ⟨_, rfl⟩ | exact Or.inr ⟨_, rfl⟩) dX5_tells_10 hf (fun v29 hf => ?_)
    refine v_iconst ok 0 dX5_tells_13 rfl ?_
    refine v_aald6 ok rfl dX5_tells_14 hf (fun v30 hf => ?_)
    refine v_astore_n ok 2 dX5_tells_15 rfl (by decide) ?_
    refine v_iconst ok 1 dX5_tells_16 rfl ?_
    refine v_istore_n ok 3 dX5_tells_17 rfl (by decide) ?_
    exact W_X5_tells_18 ok hr hva hd hf hk ⟨rfl, rfl, rfl, rfl, trivial⟩
theorem M_X5_tells {G : GT} {l : Launch} (hG : Glob G) {va : VaT} {e : Nat} (hva : DVA G l e va) {d : Nat} (hd : e + 7 ≤ d) {a0 : Nat} {x1 : Int32} {h : AH} {h' : AH} (hf : X5_tells va a0 x1 h = some h') : MM G l yX5_tells cX5_tells 4 none d [vr (some a0), vi x1] h none h' := by
  refine mm_of hG (plainFor_of_name (by decide)) (Nat.le_of_ble_eq_true rfl) (fun X hX ok hr hnm => ?_)
  subst hX
  exact W_X5_tells ok hr hva hd hf rfl ⟨rfl, rfl, trivial⟩
theorem cw_X5_passes : CW yX5_passes cX5_passes 6 none 1 := ⟨q1559, q183, ⟨by decide, by decide⟩, by decide +kernel, by decide⟩
def pkX5_passes_61 (G : GT) (X : CX) (h0 : AH) (Q : State → Prop) (a0 : Nat) (o : ((Int32 × AH) ⊕ (AH))) : Prop := match o with
  | .inl s => ∀ lv : List (Nat × AV), lle lv [(0, vr (some a0)), (2, vi s.1)] → V G X 6 h0 Q s.2 61 lv []
  | .inr z => Q = QM G X h0 none z
def pkX5_passes_2 (G : GT) (X : CX) (h0 : AH) (Q : State → Prop) (a0 : Nat) (x1 : Int32) (o : ((Int32 × AH) ⊕ (AH))) : Prop := match o with
  | .inl s => ∀ lv : List (Nat × AV), lle lv [(0, vr (some a0)), (1, vi x1), (2, vi s.1)] → V G X 6 h0 Q s.2 2 lv []
  | .inr z => Q = QM G X h0 none z
def pkX5_passes_15 (G : GT) (X : CX) (h0 : AH) (Q : State → Prop) (a0 : Nat) (x1 : Int32) (x2 : Int32) (o : ((Int32 × AH) ⊕ ((Int32 × AH) ⊕ (AH)))) : Prop := match o with
  | .inl s => ∀ lv : List (Nat × AV), lle lv [(0, vr (some a0)), (1, vi x1), (2, vi x2), (3, vi s.1)] → V G X 6 h0 Q s.2 15 lv []
  | .inr z => pkX5_passes_2 G X h0 Q a0 x1 z
def pkX5_passes_77 (G : GT) (X : CX) (h0 : AH) (Q : State → Prop) (a0 : Nat) (x2 : Int32) (o : ((Int32 × Int32 × AH) ⊕ ((Int32 × AH) ⊕ (AH)))) : Prop := match o with
  | .inl s => ∀ lv : List (Nat × AV), lle lv [(0, vr (some a0)), (2, vi x2), (3, vi s.1), (4, vi s.2.1)] → V G X 6 h0 Q s.2.2 77 lv []
  | .inr z => pkX5_passes_61 G X h0 Q a0 z
theorem W_X5_passes_15b {G : GT} {X : CX} {d : Nat} {h0 : AH} {Q : State → Prop} (ok : Ok G X RX5 cX5_passes 6 d h0) (hr : (cxm X).sig.returnType = none) {va : VaT} {th : ThT} {e : Nat} (hva : DVA G X.2.1 e va) (hth : DTH G X.2.1 e th) (hd : e + 8 ≤ d) {a0 : Nat} {x1 : Int32} {x2 : Int32} {x3 : Int32} {h : AH} {z : ((Int32 × AH) ⊕ ((Int32 × AH) ⊕ (AH)))} (hf : X5_passes_15b  va th a0 x1 x2 x3 h = some z) (hk : pkX5_passes_15 G X h0 Q a0 x1 x2 z) {lv : List (Nat × AV)} (hl : lle lv [(0, vr (some a0)), (1, vi x1), (2, vi x2), (3, vi x3)]) : V G X 6 h0 Q h 15 lv [] := by
  refine V.sub hl ?_
  unfold X5_passes_15b at hf
  refine v_iload_n ok 3 dX5_passes_15 rfl rfl ?_
  refine v_aload_n ok 0 dX5_passes_16 rfl rfl ?_
  refine v_iload_n ok 2 dX5_passes_17 rfl rfl ?_
  refine v_cVi ok (RX5, TX5, 10) cf_5.1 [vi x2] (F := fun a => X5_places a x2 h) (fun a v h1 _ hv => M_X5_places ok.2.2.2.2.2.2.1 (d := 4) (Nat.le_refl _) hv) (by omega) cw_X5_places q1304 q1305 q1306 dX5_passes_18 [vi x3] rfl (Nat.le_of_ble_eq_true rfl) hf (fun v1 h2 hf => ?_)
  refine v_icmp_ge ok 45 dX5_passes_21 rfl hf (fun hf => ?_) (fun hf => ?_)
  ·
    refine v_iinc ok x2 (x2 + 1) dX5_passes_45 rfl rfl (by decide) ?_
    refine v_goto ok 2 dX5_passes_48 rfl ?_
    cases hf; exact hk _ ⟨rfl, rfl, rfl, trivial⟩
  ·
    refine v_aload_n ok 0 dX5_passes_24 rfl rfl ?_
    refine v_gR ok fl_X5_30 (by first | exact Or.inl ⟨_, rfl⟩ | exact Or.inr ⟨_, rfl⟩) dX5_passes_25 hf (fun v3 hf => ?_)
    refine v_iload_n ok 2 dX5_passes_28 rfl rfl ?_
    refine v_aald6 ok rfl dX5_passes_29 hf (fun v4 hf => ?_)
    refine v_iload_n ok 3 dX5_passes_30 rfl rfl ?_
    refine v_aload_n ok 0 dX5_passes_31 rfl rfl ?_
    refine v_iload_n ok 2 dX5_passes_32 rfl rfl ?_
    refine v_iconst ok 0 dX5_passes_33 rfl ?_
    refine v_iload_n ok 3 dX5_passes_34 rfl rfl ?_
    refine v_cVi ok (RX5, TX5, 10) cf_5.1 [vi x2, vi 0, vi x3] (F := fun a => X5_says va a x2 0 x3 h2) (fun a v h1 _ hv => M_X5_says ok.2.2.2.2.2.2.1 hva (d := e + 6) (Nat.le_refl _) hv) (by omega) cw_X5_says q1560 q1561 q1562 dX5_passes_35 [vi x3, vr v4] rfl (Nat.le_of_ble_eq_true rfl) hf (fun v5 h6 hf => ?_)
    refine v_iast ok rfl dX5_passes_38 hf (fun h7 hf => ?_)
    refine v_iinc ok x3 (x3 + 1) dX5_passes_39 rfl rfl (by decide) ?_
    refine v_goto ok 15 dX5_passes_42 rfl ?_
    cases hf; exact hk _ ⟨rfl, rfl, rfl, rfl, trivial⟩
theorem W_X5_passes_15 {G : GT} {X : CX} {d : Nat} {h0 : AH} {Q : State → Prop} (ok : Ok G X RX5 cX5_passes 6 d h0) (hr : (cxm X).sig.returnType = none) {va : VaT} {th : ThT} {e : Nat} (hva : DVA G X.2.1 e va) (hth : DTH G X.2.1 e th) (hd : e + 8 ≤ d) {a0 : Nat} {x1 : Int32} {x2 : Int32} {x3 : Int32} {h : AH} {z : ((Int32 × AH) ⊕ (AH))} (hf : X5_passes_15  va th a0 x1 x2 x3 h = some z) (hk : pkX5_passes_2 G X h0 Q a0 x1 z) {lv : List (Nat × AV)} (hl : lle lv [(0, vr (some a0)), (1, vi x1), (2, vi x2), (3, vi x3)]) : V G X 6 h0 Q h 15 lv [] := by
  unfold X5_passes_15 at hf
  exact loopC_walk (Wh := fun s : Int32 × AH => ∀ lv : List (Nat × AV), lle lv [(0, vr (some a0)), (1, vi x1), (2, vi x2), (3, vi s.1)] → V G X 6 h0 Q s.2 15 lv []) (PK := fun z => pkX5_passes_2 G X h0 Q a0 x1 z) (fun s o hf hk lv hl => W_X5_passes_15b ok hr hva hth hd hf (by cases o <;> exact hk) hl) _ z hf hk lv hl
theorem W_X5_passes_177 {G : GT} {X : CX} {d : Nat} {h0 : AH} {Q : State → Prop} (ok : Ok G X RX5 cX5_passes 6 d h0) (hr : (cxm X).sig.returnType = none) {va : VaT} {th : ThT} {e : Nat} (hva : DVA G X.2.1 e va) (hth : DTH G X.2.1 e th) (hd : e + 8 ≤ d) {a0 : Nat} {x2 : Int32} {x3 : Int32} {h : AH} {z : ((Int32 × AH) ⊕ (AH))} (hf : X5_passes_177 va th a0 x2 x3 h = some z) (hk : pkX5_passes_61 G X h0 Q a0 z) {lv : List (Nat × AV)} (hl : lle lv [(0, vr (some a0)), (2, vi x2), (3, vi x3)]) : V G X 6 h0 Q h 177 lv [] := by
  refine V.sub hl ?_
  unfold X5_passes_177 at hf
  refine v_iload_n ok 3 dX5_passes_177 rfl rfl ?_
  refine v_if_ne ok 186 dX5_passes_178 rfl hf (fun hf => ?_) (fun hf => ?_)
  ·
    refine v_iinc ok x2 (x2 + 1) dX5_passes_186 rfl rfl (by decide) ?_
    refine v_goto ok 61 dX5_passes_189 rfl ?_
    cases hf; exact hk _ ⟨rfl, rfl, trivial⟩
  ·
    refine v_aload_n ok 0 dX5_passes_181 rfl rfl ?_
    refine v_iload_n ok 2 dX5_passes_182 rfl rfl ?_
    refine v_cVv ok (RX5, TX5, 10) cf_5.1 [vi x2] (F := fun a => X5_tells va a x2 h) (fun a h1 _ hv => M_X5_tells ok.2.2.2.2.2.2.1 hva (d := e + 7) (Nat.le_refl _) hv) (by omega) cw_X5_tells q1610 q1612 qs58 dX5_passes_183 [] rfl (Nat.le_of_ble_eq_true rfl) hf (fun h8 hf => ?_)
    refine v_iinc ok x2 (x2 + 1) dX5_passes_186 rfl rfl (by decide) ?_
    refine v_goto ok 61 dX5_passes_189 rfl ?_
    cases hf; exact hk _ ⟨rfl, rfl, trivial⟩
theorem W_X5_passes_77b {G : GT} {X : CX} {d : Nat} {h0 : AH} {Q : State → Prop} (ok : Ok G X RX5 cX5_passes 6 d h0) (hr : (cxm X).sig.returnType = none) {va : VaT} {th : ThT} {e : Nat} (hva : DVA G X.2.1 e va) (hth : DTH G X.2.1 e th) (hd : e + 8 ≤ d) {a0 : Nat} {x2 : Int32} {x3 : Int32} {x4 : Int32} {h : AH} {z : ((Int32 × Int32 × AH) ⊕ ((Int32 × AH) ⊕ (AH)))} (hf : X5_passes_77b  va th a0 x2 x3 x4 h = some z) (hk : pkX5_passes_77 G X h0 Q a0 x2 z) {lv : List (Nat × AV)} (hl : lle lv [(0, vr (some a0)), (2, vi x2), (3, vi x3), (4, vi x4)]) : V G X 6 h0 Q h 77 lv [] := by
  refine V.sub hl ?_
  unfold X5_passes_77b at hf
  refine v_iload ok dX5_passes_77 rfl ?_
  refine v_aload_n ok 0 dX5_passes_79 rfl rfl ?_
  refine v_iload_n ok 2 dX5_passes_80 rfl rfl ?_
  refine v_cVi ok (RX5, TX5, 10) cf_5.1 [vi x2] (F := fun a => X5_places a x2 h) (fun a v h1 _ hv => M_X5_places ok.2.2.2.2.2.2.1 (d := 4) (Nat.le_refl _) hv) (by omega) cw_X5_places q1304 q1305 q1306 dX5_passes_81 [vi x4] rfl (Nat.le_of_ble_eq_true rfl) hf (fun v9 h10 hf => ?_)
  refine v_icmp_ge ok 177 dX5_passes_84 rfl hf (fun hf => ?_) (fun hf => ?_)
  ·
    obtain ⟨o, ho, hz⟩ := ob hf
    cases hz; exact W_X5_passes_177 ok hr hva hth hd ho hk ⟨rfl, rfl, rfl, trivial⟩
  ·
    refine v_aload_n ok 0 dX5_passes_87 rfl rfl ?_
    refine v_aload_n ok 0 dX5_passes_88 rfl rfl ?_
    refine v_gR ok fl_X5_24 (by first | exact Or.inl ⟨_, rfl⟩ | exact Or.inr ⟨_, rfl⟩) dX5_passes_89 hf (fun v11 hf => ?_)
    refine v_iload_n ok 2 dX5_passes_92 rfl rfl ?_
    refine v_aald6 ok rfl dX5_passes_93 hf (fun v12 hf => ?_)
    refine v_iload ok dX5_passes_94 rfl ?_
    refine v_iald ok rfl dX5_passes_96 hf (fun v13 hf => ?_)
    refine v_iload ok dX5_passes_97 rfl ?_
    refine v_cVi ok (RX5, TX5, 10) cf_5.1 [vi v13, vi x4] (F := fun a => X5_rainedOn th a v13 x4 h10) (fun a v h1 _ hv => M_X5_rainedOn ok.2.2.2.2.2.2.1 hth (d := e + 3) (Nat.le_refl _) hv) (by omega) cw_X5_rainedOn q1579 q1581 qs56 dX5_passes_99 [] rfl (Nat.le_of_ble_eq_true rfl) hf (fun v14 h15 hf => ?_)
    refine v_istore ok dX5_passes_102 (by decide) ?_
    refine v_aload_n ok 0 dX5_passes_104 rfl rfl ?_
    refine v_dup ok dX5_passes_105 rfl ?_
    refine v_gI ok fl_X5_141 (fun _ _ _ => rfl) dX5_passes_106 hf (fun v16 hf => ?_)
    refine v_aload_n ok 0 dX5_passes_109 rfl rfl ?_
    refine v_gR ok fl_X5_24 (by first | exact Or.inl ⟨_, rfl⟩ | exact Or.inr ⟨_, rfl⟩) dX5_passes_110 hf (fun v17 hf => ?_)
    refine v_iload_n ok 2 dX5_passes_113 rfl rfl ?_
    refine v_aald6 ok rfl dX5_passes_114 hf (fun v18 hf => ?_)
    refine v_iload ok dX5_passes_115 rfl ?_
    refine v_iald ok rfl dX5_passes_117 hf (fun v19 hf => ?_)
    refine v_iload ok dX5_passes_118 rfl ?_
    refine v_iconst ok (-1) dX5_passes_120 rfl ?_
    refine v_ixor ok dX5_passes_121 ?_
    refine v_iand ok dX5_passes_122 ?_
    refine v_cSi ok [vi (v19 &&& (v14 ^^^ (-1)))] (F := J16_bitCount (v19 &&& (v14 ^^^ (-1))) h15) (fun v h1 hv => M_J16_bitCount ok.2.2.2.2.2.2.1 (d := 1) (Nat.le_refl _) hv) (by omega) cw_J16_bitCount q1338 q1339 dX5_passes_123 [vi v16, vr (some a0)] rfl (Nat.le_of_ble_eq_true rfl) hf (fun v20 h21 hf => ?_)
    refine v_iadd ok dX5_passes_126 ?_
    refine v_pI ok fl_X5_141 ⟨fun _ _ _ => rfl, rfl⟩ (FN.of cf_5.1 rfl) dX5_passes_127 hf (fun h22 hf => ?_)
    refine v_aload_n ok 0 dX5_passes_130 rfl rfl ?_
    refine v_gR ok fl_X5_24 (by first | exact Or.inl ⟨_, rfl⟩ | exact Or.inr ⟨_, rfl⟩) dX5_passes_131 hf (fun v23 hf => ?_)
    refine v_iload_n ok 2 dX5_passes_134 rfl rfl ?_
    refine v_aald6 ok rfl dX5_passes_135 hf (fun v24 hf => ?_)
    refine v_iload ok dX5_passes_136 rfl ?_
    refine v_iload ok dX5_passes_138 rfl ?_
    refine v_iast ok rfl dX5_passes_140 hf (fun h25 hf => ?_)
    refine v_iload_n ok 3 dX5_passes_141 rfl rfl ?_
    refine v_if_eq ok 169 dX5_passes_142 rfl hf (fun hf => ?_) (fun hf => ?_)
    ·
      refine v_iconst ok 0 dX5_passes_169 rfl ?_
      refine v_istore_n ok 3 dX5_passes_170 rfl (by decide) ?_
      refine v_iinc ok x4 (x4 + 1) dX5_passes_171 rfl rfl (by decide) ?_
      refine v_goto ok 77 dX5_passes_174 rfl ?_
      cases hf; exact hk _ ⟨rfl, rfl, rfl, rfl, trivial⟩
    ·
      refine v_aload_n ok 0 dX5_passes_145 rfl rfl ?_
      refine v_iload_n ok 2 dX5_passes_146 rfl rfl ?_
      refine v_iconst ok 0 dX5_passes_147 rfl ?_
      refine v_iload ok dX5_passes_148 rfl ?_
      refine v_cVi ok (RX5, TX5, 10) cf_5.1 [vi x2, vi 0, vi x4] (F := fun a => X5_says va a x2 0 x4 h25) (fun a v h1 _ hv => M_X5_says ok.2.2.2.2.2.2.1 hva (d := e + 6) (Nat.le_refl _) hv) (by omega) cw_X5_says q1560 q1561 q1562 dX5_passes_150 [] rfl (Nat.le_of_ble_eq_true rfl) hf (fun v26 h27 hf => ?_)
      refine v_aload_n ok 0 dX5_passes_153 rfl rfl ?_
      refine v_gR ok fl_X5_30 (by first | exact Or.inl ⟨_, rfl⟩ | exact Or.inr ⟨_, rfl⟩) dX5_passes_154 hf (fun v28 hf => ?_)
      refine v_iload_n ok 2 dX5_passes_157 rfl rfl ?_
      refine v_aald6 ok rfl dX5_passes_158 hf (fun v29 hf => ?_)
      refine v_iload ok dX5_passes_159 rfl ?_
      refine v_iald ok rfl dX5_passes_161 hf (fun v30 hf => ?_)
      refine v_icmp_ne ok 169 dX5_passes_162 rfl hf (fun hf => ?_) (fun hf => ?_)
      ·
        refine v_iconst ok 0 dX5_passes_169 rfl ?_
        refine v_istore_n ok 3 dX5_passes_170 rfl (by decide) ?_
        refine v_iinc ok x4 (x4 + 1) dX5_passes_171 rfl rfl (by decide) ?_
        refine v_goto ok 77 dX5_passes_174 rfl ?_
        cases hf; exact hk _ ⟨rfl, rfl, rfl, rfl, trivial⟩
      ·
        refine v_iconst ok 1 dX5_passes_165 rfl ?_
        refine v_goto ok 170 dX5_passes_166 rfl ?_
        refine v_istore_n ok 3 dX5_passes_170 rfl (by decide) ?_
        refine v_iinc ok x4 (x4 + 1) dX5_passes_171 rfl rfl (by decide) ?_
        refine v_goto ok 77 dX5_passes_174 rfl ?_
        cases hf; exact hk _ ⟨rfl, rfl, rfl, rfl, trivial⟩
theorem W_X5_passes_77 {G : GT} {X : CX} {d : Nat} {h0 : AH} {Q : State → Prop} (ok : Ok G X RX5 cX5_passes 6 d h0) (hr : (cxm X).sig.returnType = none) {va : VaT} {th : ThT} {e : Nat} (hva : DVA G X.2.1 e va) (hth : DTH G X.2.1 e th) (hd : e + 8 ≤ d) {a0 : Nat} {x2 : Int32} {x3 : Int32} {x4 : Int32} {h : AH} {z : ((Int32 × AH) ⊕ (AH))} (hf : X5_passes_77  va th a0 x2 x3 x4 h = some z) (hk : pkX5_passes_61 G X h0 Q a0 z) {lv : List (Nat × AV)} (hl : lle lv [(0, vr (some a0)), (2, vi x2), (3, vi x3), (4, vi x4)]) : V G X 6 h0 Q h 77 lv [] := by
  unfold X5_passes_77 at hf
  exact loopC_walk (Wh := fun s : Int32 × Int32 × AH => ∀ lv : List (Nat × AV), lle lv [(0, vr (some a0)), (2, vi x2), (3, vi s.1), (4, vi s.2.1)] → V G X 6 h0 Q s.2.2 77 lv []) (PK := fun z => pkX5_passes_61 G X h0 Q a0 z) (fun s o hf hk lv hl => W_X5_passes_77b ok hr hva hth hd hf (by cases o <;> exact hk) hl) _ z hf hk lv hl
theorem W_X5_passes_192 {G : GT} {X : CX} {d : Nat} {h0 : AH} {Q : State → Prop} (ok : Ok G X RX5 cX5_passes 6 d h0) (hr : (cxm X).sig.returnType = none) {va : VaT} {th : ThT} {e : Nat} (hva : DVA G X.2.1 e va) (hth : DTH G X.2.1 e th) (hd : e + 8 ≤ d) {a0 : Nat} {h : AH} {z : (AH)} (hf : X5_passes_192 va th a0 h = some z) (hk : Q = QM G X h0 none z) {lv : List (Nat × AV)} (hl : lle lv [(0, vr (some a0))]) : V G X 6 h0 Q h 192 lv [] := by
  refine V.sub hl ?_
  unfold X5_passes_192 at hf
  refine v_aload_n ok 0 dX5_passes_192 rfl rfl ?_
  refine v_dup ok dX5_passes_193 rfl ?_
  refine v_gI ok fl_X5_33 (fun _ _ _ => rfl) dX5_passes_194 hf (fun v31 hf => ?_)
  refine v_iconst ok 1 dX5_passes_197 rfl ?_
  refine v_iadd ok dX5_passes_198 ?_
  refine v_pI ok fl_X5_33 ⟨fun _ _ _ => rfl, rfl⟩ (FN.of cf_5.1 rfl) dX5_passes_199 hf (fun h32 hf => ?_)
  exact v_vret ok hr (by cases hf; exact hk) dX5_passes_202
theorem W_X5_passes_61b {G : GT} {X : CX} {d : Nat} {h0 : AH} {Q : State → Prop} (ok : Ok G X RX5 cX5_passes 6 d h0) (hr : (cxm X).sig.returnType = none) {va : VaT} {th : ThT} {e : Nat} (hva : DVA G X.2.1 e va) (hth : DTH G X.2.1 e th) (hd : e + 8 ≤ d) {a0 : Nat} {x2 : Int32} {h : AH} {z : ((Int32 × AH) ⊕ (AH))} (hf : X5_passes_61b  va th a0 x2 h = some z) (hk : pkX5_passes_61 G X h0 Q a0 z) {lv : List (Nat × AV)} (hl : lle lv [(0, vr (some a0)), (2, vi x2)]) : V G X 6 h0 Q h 61 lv [] := by
  refine V.sub hl ?_
  unfold X5_passes_61b at hf
  refine v_iload_n ok 2 dX5_passes_61 rfl rfl ?_
  refine v_aload_n ok 0 dX5_passes_62 rfl rfl ?_
  refine v_gR ok fl_X5_3 (by first | exact Or.inl ⟨_, rfl⟩ | exact Or.inr ⟨_, rfl⟩) dX5_passes_63 hf (fun v33 hf => ?_)
  refine v_cVNi ok (RX0, TX0, 18) cf_0.1 [] (F := fun a => X0_boards a h) (fun a v h1 _ hv => M_X0_boards ok.2.2.2.2.2.2.1 (d := 2) (Nat.le_refl _) hv) (by omega) cw_X0_boards q1291 q1293 qs34 dX5_passes_66 [vi x2] rfl (Nat.le_of_ble_eq_true rfl) hf (fun v34 h35 hf => ?_)
  refine v_icmp_ge ok 192 dX5_passes_69 rfl hf (fun hf => ?_) (fun hf => ?_)
  ·
    obtain ⟨o, ho, hz⟩ := ob hf
    cases hz; exact W_X5_passes_192 ok hr hva hth hd ho hk ⟨rfl, trivial⟩
  ·
    refine v_iconst ok 1 dX5_passes_72 rfl ?_
    refine v_istore_n ok 3 dX5_passes_73 rfl (by decide) ?_
    refine v_iconst ok 0 dX5_passes_74 rfl ?_
    refine v_istore ok dX5_passes_75 (by decide) ?_
    exact W_X5_passes_77 ok hr hva hth hd hf hk ⟨rfl, rfl, rfl, rfl, trivial⟩
theorem W_X5_passes_61 {G : GT} {X : CX} {d : Nat} {h0 : AH} {Q : State → Prop} (ok : Ok G X RX5 cX5_passes 6 d h0) (hr : (cxm X).sig.returnType = none) {va : VaT} {th : ThT} {e : Nat} (hva : DVA G X.2.1 e va) (hth : DTH G X.2.1 e th) (hd : e + 8 ≤ d) {a0 : Nat} {x2 : Int32} {h : AH} {z : (AH)} (hf : X5_passes_61  va th a0 x2 h = some z) (hk : Q = QM G X h0 none z) {lv : List (Nat × AV)} (hl : lle lv [(0, vr (some a0)), (2, vi x2)]) : V G X 6 h0 Q h 61 lv [] := by
  unfold X5_passes_61 at hf
  exact loopC_walk (Wh := fun s : Int32 × AH => ∀ lv : List (Nat × AV), lle lv [(0, vr (some a0)), (2, vi s.1)] → V G X 6 h0 Q s.2 61 lv []) (PK := fun z => Q = QM G X h0 none z) (fun s o hf hk lv hl => W_X5_passes_61b ok hr hva hth hd hf (by cases o <;> exact hk) hl) _ z hf hk lv hl
theorem W_X5_passes_51 {G : GT} {X : CX} {d : Nat} {h0 : AH} {Q : State → Prop} (ok : Ok G X RX5 cX5_passes 6 d h0) (hr : (cxm X).sig.returnType = none) {va : VaT} {th : ThT} {e : Nat} (hva : DVA G X.2.1 e va) (hth : DTH G X.2.1 e th) (hd : e + 8 ≤ d) {a0 : Nat} {x1 : Int32} {h : AH} {z : (AH)} (hf : X5_passes_51 va th a0 x1 h = some z) (hk : Q = QM G X h0 none z) {lv : List (Nat × AV)} (hl : lle lv [(0, vr (some a0)), (1, vi x1)]) : V G X 6 h0 Q h 51 lv [] := by
  refine V.sub hl ?_
  unfold X5_passes_51 at hf
  refine v_iload_n ok 1 dX5_passes_51 rfl rfl ?_
  refine v_if_eq ok 59 dX5_passes_52 rfl hf (fun hf => ?_) (fun hf => ?_)
  ·
    refine v_iconst ok 0 dX5_passes_59 rfl ?_
    refine v_istore_n ok 2 dX5_passes_60 rfl (by decide) ?_
    exact W_X5_passes_61 ok hr hva hth hd hf hk ⟨rfl, rfl, trivial⟩
  ·
    refine v_aload_n ok 0 dX5_passes_55 rfl rfl ?_
    refine v_cVv ok (RX5, TX5, 10) cf_5.1 [] (F := fun a => X5_hails a h) (fun a h1 _ hv => M_X5_hails ok.2.2.2.2.2.2.1 (d := 5) (Nat.le_refl _) hv) (by omega) cw_X5_hails q1566 q1568 qs54 dX5_passes_56 [] rfl (Nat.le_of_ble_eq_true rfl) hf (fun h36 hf => ?_)
    refine v_iconst ok 0 dX5_passes_59 rfl ?_
    refine v_istore_n ok 2 dX5_passes_60 rfl (by decide) ?_
    exact W_X5_passes_61 ok hr hva hth hd hf hk ⟨rfl, rfl, trivial⟩
theorem W_X5_passes_2b {G : GT} {X : CX} {d : Nat} {h0 : AH} {Q : State → Prop} (ok : Ok G X RX5 cX5_passes 6 d h0) (hr : (cxm X).sig.returnType = none) {va : VaT} {th : ThT} {e : Nat} (hva : DVA G X.2.1 e va) (hth : DTH G X.2.1 e th) (hd : e + 8 ≤ d) {a0 : Nat} {x1 : Int32} {x2 : Int32} {h : AH} {z : ((Int32 × AH) ⊕ (AH))} (hf : X5_passes_2b  va th a0 x1 x2 h = some z) (hk : pkX5_passes_2 G X h0 Q a0 x1 z) {lv : List (Nat × AV)} (hl : lle lv [(0, vr (some a0)), (1, vi x1), (2, vi x2)]) : V G X 6 h0 Q h 2 lv [] := by
  refine V.sub hl ?_
  unfold X5_passes_2b at hf
  refine v_iload_n ok 2 dX5_passes_2 rfl rfl ?_
  refine v_aload_n ok 0 dX5_passes_3 rfl rfl ?_
  refine v_gR ok fl_X5_3 (by first | exact Or.inl ⟨_, rfl⟩ | exact Or.inr ⟨_, rfl⟩) dX5_passes_4 hf (fun v37 hf => ?_)
  refine v_cVNi ok (RX0, TX0, 18) cf_0.1 [] (F := fun a => X0_boards a h) (fun a v h1 _ hv => M_X0_boards ok.2.2.2.2.2.2.1 (d := 2) (Nat.le_refl _) hv) (by omega) cw_X0_boards q1291 q1293 qs34 dX5_passes_7 [vi x2] rfl (Nat.le_of_ble_eq_true rfl) hf (fun v38 h39 hf => ?_)
  refine v_icmp_ge ok 51 dX5_passes_10 rfl hf (fun hf => ?_) (fun hf => ?_)
  ·
    obtain ⟨o, ho, hz⟩ := ob hf
    cases hz; exact W_X5_passes_51 ok hr hva hth hd ho hk ⟨rfl, rfl, trivial⟩
  ·
    refine v_iconst ok 0 dX5_passes_13 rfl ?_
    refine v_istore_n ok 3 dX5_passes_14 rfl (by decide) ?_
    exact W_X5_passes_15 ok hr hva hth hd hf hk ⟨rfl, rfl, rfl, rfl, trivial⟩
theorem W_X5_passes_2 {G : GT} {X : CX} {d : Nat} {h0 : AH} {Q : State → Prop} (ok : Ok G X RX5 cX5_passes 6 d h0) (hr : (cxm X).sig.returnType = none) {va : VaT} {th : ThT} {e : Nat} (hva : DVA G X.2.1 e va) (hth : DTH G X.2.1 e th) (hd : e + 8 ≤ d) {a0 : Nat} {x1 : Int32} {x2 : Int32} {h : AH} {z : (AH)} (hf : X5_passes_2  va th a0 x1 x2 h = some z) (hk : Q = QM G X h0 none z) {lv : List (Nat × AV)} (hl : lle lv [(0, vr (some a0)), (1, vi x1), (2, vi x2)]) : V G X 6 h0 Q h 2 lv [] := by
  unfold X5_passes_2 at hf
  exact loopC_walk (Wh := fun s : Int32 × AH => ∀ lv : List (Nat × AV), lle lv [(0, vr (some a0)), (1, vi x1), (2, vi s.1)] → V G X 6 h0 Q s.2 2 lv []) (PK := fun z => Q = QM G X h0 none z) (fun s o hf hk lv hl => W_X5_passes_2b ok hr hva hth hd hf (by cases o <;> exact hk) hl) _ z hf hk lv hl
theorem W_X5_passes {G : GT} {X : CX} {d : Nat} {h0 : AH} {Q : State → Prop} (ok : Ok G X RX5 cX5_passes 6 d h0) (hr : (cxm X).sig.returnType = none) {va : VaT} {th : ThT} {e : Nat} (hva : DVA G X.2.1 e va) (hth : DTH G X.2.1 e th) (hd : e + 8 ≤ d) {a0 : Nat} {x1 : Int32} {h : AH} {z : (AH)} (hf : X5_passes va th a0 x1 h = some z) (hk : Q = QM G X h0 none z) {lv : List (Nat × AV)} (hl : lle lv [(0, vr (some a0)), (1, vi x1)]) : V G X 6 h0 Q h 0 lv [] := by
  refine V.sub hl ?_
  unfold X5_passes at hf
  refine v_iconst ok 0 dX5_passes_0 rfl ?_
  refine v_istore_n ok 2 dX5_passes_1 rfl (by decide) ?_
  exact W_X5_passes_2 ok hr hva hth hd hf hk ⟨rfl, rfl, rfl, trivial⟩
theorem M_X5_passes {G : GT} {l : Launch} (hG : Glob G) {va : VaT} {th : ThT} {e : Nat} (hva : DVA G l e va) (hth : DTH G l e th) {d : Nat} (hd : e + 8 ≤ d) {a0 : Nat} {x1 : Int32} {h : AH} {h' : AH} (hf : X5_passes va th a0 x1 h = some h') : MM G l yX5_passes cX5_passes 6 none d [vr (some a0), vi x1] h none h' := by
  refine mm_of hG (plainFor_of_name (by decide)) (Nat.le_of_ble_eq_true rfl) (fun X hX ok hr hnm => ?_)
  subst hX
  exact W_X5_passes ok hr hva hth hd hf rfl ⟨rfl, rfl, trivial⟩
theorem cw_X5_years : CW yX5_years cX5_years 3 (Option.some (Jvm.ClassFile.FieldType.object "TurnedBoards$State")) 1 := ⟨q1555, q183, ⟨by decide, by decide⟩, by decide +kernel, by decide⟩
def pkX5_years_2 (G : GT) (X : CX) (h0 : AH) (Q : State → Prop) (a0 : Nat) (x1 : Int32) (o : ((Int32 × AH) ⊕ (Option Nat × AH))) : Prop := match o with
  | .inl s => ∀ lv : List (Nat × AV), lle lv [(0, vr (some a0)), (1, vi x1), (2, vi s.1)] → V G X 3 h0 Q s.2 2 lv []
  | .inr z => Q = QM G X h0 (some (vr z.1)) z.2
theorem W_X5_years_2b {G : GT} {X : CX} {d : Nat} {h0 : AH} {Q : State → Prop} (ok : Ok G X RX5 cX5_years 3 d h0) (hr : (cxm X).sig.returnType = (Option.some (Jvm.ClassFile.FieldType.object "TurnedBoards$State"))) {va : VaT} {th : ThT} {e : Nat} (hva : DVA G X.2.1 e va) (hth : DTH G X.2.1 e th) (hd : e + 9 ≤ d) {a0 : Nat} {x1 : Int32} {x2 : Int32} {h : AH} {z : ((Int32 × AH) ⊕ (Option Nat × AH))} (hf : X5_years_2b  va th a0 x1 x2 h = some z) (hk : pkX5_years_2 G X h0 Q a0 x1 z) {lv : List (Nat × AV)} (hl : lle lv [(0, vr (some a0)), (1, vi x1), (2, vi x2)]) : V G X 3 h0 Q h 2 lv [] := by
  refine V.sub hl ?_
  unfold X5_years_2b at hf
  refine v_iload_n ok 2 dX5_years_2 rfl rfl ?_
  refine v_iload_n ok 1 dX5_years_3 rfl rfl ?_
  refine v_icmp_ge ok 18 dX5_years_4 rfl hf (fun hf => ?_) (fun hf => ?_)
  ·
    refine v_aload_n ok 0 dX5_years_18 rfl rfl ?_
    exact v_aret ok hr (by first | exact Or.inl ⟨_, rfl⟩ | exact Or.inr ⟨_, rfl⟩) (by cases hf; exact hk) dX5_years_19
  ·
    refine v_aload_n ok 0 dX5_years_7 rfl rfl ?_
    refine v_iconst ok 0 dX5_years_8 rfl ?_
    refine v_cVv ok (RX5, TX5, 10) cf_5.1 [vi 0] (F := fun a => X5_passes va th a 0 h) (fun a h1 _ hv => M_X5_passes ok.2.2.2.2.2.2.1 hva hth (d := e + 8) (Nat.le_refl _) hv) (by omega) cw_X5_passes q1556 q1557 q1558 dX5_years_9 [] rfl (Nat.le_of_ble_eq_true rfl) hf (fun h1 hf => ?_)
    refine v_iinc ok x2 (x2 + 1) dX5_years_12 rfl rfl (by decide) ?_
    refine v_goto ok 2 dX5_years_15 rfl ?_
    cases hf; exact hk _ ⟨rfl, rfl, rfl, trivial⟩
theorem W_X5_years_2 {G : GT} {X : CX} {d : Nat} {h0 : AH} {Q : State → Prop} (ok : Ok G X RX5 cX5_years 3 d h0) (hr : (cxm X).sig.returnType = (Option.some (Jvm.ClassFile.FieldType.object "TurnedBoards$State"))) {va : VaT} {th : ThT} {e : Nat} (hva : DVA G X.2.1 e va) (hth : DTH G X.2.1 e th) (hd : e + 9 ≤ d) {a0 : Nat} {x1 : Int32} {x2 : Int32} {h : AH} {z : (Option Nat × AH)} (hf : X5_years_2  va th a0 x1 x2 h = some z) (hk : Q = QM G X h0 (some (vr z.1)) z.2) {lv : List (Nat × AV)} (hl : lle lv [(0, vr (some a0)), (1, vi x1), (2, vi x2)]) : V G X 3 h0 Q h 2 lv [] := by
  unfold X5_years_2 at hf
  exact loopC_walk (Wh := fun s : Int32 × AH => ∀ lv : List (Nat × AV), lle lv [(0, vr (some a0)), (1, vi x1), (2, vi s.1)] → V G X 3 h0 Q s.2 2 lv []) (PK := fun z => Q = QM G X h0 (some (vr z.1)) z.2) (fun s o hf hk lv hl => W_X5_years_2b ok hr hva hth hd hf (by cases o <;> exact hk) hl) _ z hf hk lv hl
theorem W_X5_years {G : GT} {X : CX} {d : Nat} {h0 : AH} {Q : State → Prop} (ok : Ok G X RX5 cX5_years 3 d h0) (hr : (cxm X).sig.returnType = (Option.some (Jvm.ClassFile.FieldType.object "TurnedBoards$State"))) {va : VaT} {th : ThT} {e : Nat} (hva : DVA G X.2.1 e va) (hth : DTH G X.2.1 e th) (hd : e + 9 ≤ d) {a0 : Nat} {x1 : Int32} {h : AH} {z : (Option Nat × AH)} (hf : X5_years va th a0 x1 h = some z) (hk : Q = QM G X h0 (some (vr z.1)) z.2) {lv : List (Nat × AV)} (hl : lle lv [(0, vr (some a0)), (1, vi x1)]) : V G X 3 h0 Q h 0 lv [] := by
  refine V.sub hl ?_
  unfold X5_years at hf
  refine v_iconst ok 0 dX5_years_0 rfl ?_
  refine v_istore_n ok 2 dX5_years_1 rfl (by decide) ?_
  exact W_X5_years_2 ok hr hva hth hd hf hk ⟨rfl, rfl, rfl, trivial⟩
theorem M_X5_years {G : GT} {l : Launch} (hG : Glob G) {va : VaT} {th : ThT} {e : Nat} (hva : DVA G l e va) (hth : DTH G l e th) {d : Nat} (hd : e + 9 ≤ d) {a0 : Nat} {x1 : Int32} {h : AH} {v : Option Nat} {h' : AH} (hf : X5_years va th a0 x1 h = some (v, h')) : MM G l yX5_years cX5_years 3 (Option.some (Jvm.ClassFile.FieldType.object "TurnedBoards$State")) d [vr (some a0), vi x1] h (some (vr v)) h' := by
  refine mm_of hG (plainFor_of_name (by decide)) (Nat.le_of_ble_eq_true rfl) (fun X hX ok hr hnm => ?_)
  subst hX
  exact W_X5_years ok hr hva hth hd hf rfl ⟨rfl, rfl, trivial⟩
theorem cw_X0_says : CW yX0_says cX0_says 5 (Option.some Jvm.ClassFile.FieldType.int) 4 := ⟨q1543, q168, ⟨by decide, by decide⟩, by decide +kernel, by decide⟩
theorem W_X0_says {G : GT} {X : CX} {d : Nat} {h0 : AH} {Q : State → Prop} (ok : Ok G X RX0 cX0_says 5 d h0) (hr : (cxm X).sig.returnType = (Option.some Jvm.ClassFile.FieldType.int)) {va : VaT} {th : ThT} {e : Nat} (hva : DVA G X.2.1 e va) (hth : DTH G X.2.1 e th) (hd : e + 10 ≤ d) {a0 : Nat} {x1 : Int32} {x2 : Int32} {x3 : Int32} {x4 : Int32} {h : AH} {z : (Int32 × AH)} (hf : X0_says va th a0 x1 x2 x3 x4 h = some z) (hk : Q = QM G X h0 (some (vi z.1)) z.2) {lv : List (Nat × AV)} (hl : lle lv [(0, vr (some a0)), (1, vi x1), (2, vi x2), (3, vi x3), (4, vi x4)]) : V G X 5 h0 Q h 0 lv [] := by
  refine V.sub hl ?_
  unfold X0_says at hf
  refine v_aload_n ok 0 dX0_says_0 rfl rfl ?_
  refine v_iload_n ok 1 dX0_says_1 rfl rfl ?_
  refine v_iload ok dX0_says_2 rfl ?_
  refine v_cVi ok (RX0, TX0, 18) cf_0.1 [vi x1, vi x4] (F := fun a => X0_isPlace a x1 x4 h) (fun a v h1 _ hv => M_X0_isPlace ok.2.2.2.2.2.2.1 (d := 5) (Nat.le_refl _) hv) (by omega) cw_X0_isPlace q1389 q1391 qs41 dX0_says_4 [] rfl (Nat.le_of_ble_eq_true rfl) hf (fun v1 h2 hf => ?_)
  refine v_if_eq ok 55 dX0_says_7 rfl hf (fun hf => ?_) (fun hf => ?_)
  ·
    refine v_iconst ok (-1) dX0_says_55 rfl ?_
    exact v_iret ok hr (by cases hf; exact hk) dX0_says_56
  ·
    refine v_iload_n ok 2 dX0_says_10 rfl rfl ?_
    refine v_iconst ok 0 dX0_says_11 rfl ?_
    refine v_iconst ok 3 dX0_says_12 rfl ?_
    refine v_cSi ok [vi x2, vi 0, vi 3] (F := X0_is x2 0 3 h2) (fun v h1 hv => M_X0_is ok.2.2.2.2.2.2.1 (d := 1) (Nat.le_refl _) hv) (by omega) cw_X0_is q1355 q899 dX0_says_13 [] rfl (Nat.le_of_ble_eq_true rfl) hf (fun v3 h4 hf => ?_)
    refine v_if_eq ok 55 dX0_says_16 rfl hf (fun hf => ?_) (fun hf => ?_)
    ·
      refine v_iconst ok (-1) dX0_says_55 rfl ?_
      exact v_iret ok hr (by cases hf; exact hk) dX0_says_56
    ·
      refine v_aload_n ok 0 dX0_says_19 rfl rfl ?_
      refine v_iload_n ok 3 dX0_says_20 rfl rfl ?_
      refine v_iconst ok 0 dX0_says_21 rfl ?_
      refine v_bipush ok 60 dX0_says_22 rfl ?_
      refine v_cVi ok (RX0, TX0, 18) cf_0.1 [vi x3, vi 0, vi 60] (F := fun a => X0_isAhead a x3 0 60 h4) (fun a v h1 _ hv => M_X0_isAhead ok.2.2.2.2.2.2.1 (d := 2) (Nat.le_refl _) hv) (by omega) cw_X0_isAhead q1544 q1546 qs53 dX0_says_24 [] rfl (Nat.le_of_ble_eq_true rfl) hf (fun v5 h6 hf => ?_)
      refine v_if_eq ok 55 dX0_says_27 rfl hf (fun hf => ?_) (fun hf => ?_)
      ·
        refine v_iconst ok (-1) dX0_says_55 rfl ?_
        exact v_iret ok hr (by cases hf; exact hk) dX0_says_56
      ·
        refine v_aload_n ok 0 dX0_says_30 rfl rfl ?_
        refine v_gR ok fl_X0_73 (by first | exact Or.inl ⟨_, rfl⟩ | exact Or.inr ⟨_, rfl⟩) dX0_says_31 hf (fun v7 hf => ?_)
        refine v_aload_n ok 0 dX0_says_34 rfl rfl ?_
        refine v_gR ok fl_X0_69 (by first | exact Or.inl ⟨_, rfl⟩ | exact Or.inr ⟨_, rfl⟩) dX0_says_35 hf (fun v8 hf => ?_)
        refine v_cVr ok (RX5, TX5, 10) cf_5.1 [vr v8] (F := fun a => X5_copy a v8 h6) (fun a v h1 _ hv => M_X5_copy ok.2.2.2.2.2.2.1 (d := 1) (Nat.le_refl _) hv) (by omega) cw_X5_copy q1548 q1549 q1550 dX0_says_38 [] rfl (Nat.le_of_ble_eq_true rfl) hf (fun v9 h10 hf => ?_)
        refine v_iload_n ok 3 dX0_says_41 rfl rfl ?_
        refine v_cVr ok (RX5, TX5, 10) cf_5.1 [vi x3] (F := fun a => X5_years va th a x3 h10) (fun a v h1 _ hv => M_X5_years ok.2.2.2.2.2.2.1 hva hth (d := e + 9) (Nat.le_refl _) hv) (by omega) cw_X5_years q1552 q1553 q1554 dX0_says_42 [] rfl (Nat.le_of_ble_eq_true rfl) hf (fun v11 h12 hf => ?_)
        refine v_iload_n ok 1 dX0_says_45 rfl rfl ?_
        refine v_iload_n ok 2 dX0_says_46 rfl rfl ?_
        refine v_iload ok dX0_says_47 rfl ?_
        refine v_cVi ok (RX5, TX5, 10) cf_5.1 [vi x1, vi x2, vi x4] (F := fun a => X5_says va a x1 x2 x4 h12) (fun a v h1 _ hv => M_X5_says ok.2.2.2.2.2.2.1 hva (d := e + 6) (Nat.le_refl _) hv) (by omega) cw_X5_says q1614 q1561 q1562 dX0_says_49 [] rfl (Nat.le_of_ble_eq_true rfl) hf (fun v13 h14 hf => ?_)
        refine v_goto ok 56 dX0_says_52 rfl ?_
        exact v_iret ok hr (by cases hf; exact hk) dX0_says_56
theorem M_X0_says {G : GT} {l : Launch} (hG : Glob G) {va : VaT} {th : ThT} {e : Nat} (hva : DVA G l e va) (hth : DTH G l e th) {d : Nat} (hd : e + 10 ≤ d) {a0 : Nat} {x1 : Int32} {x2 : Int32} {x3 : Int32} {x4 : Int32} {h : AH} {v : Int32} {h' : AH} (hf : X0_says va th a0 x1 x2 x3 x4 h = some (v, h')) : MM G l yX0_says cX0_says 5 (Option.some Jvm.ClassFile.FieldType.int) d [vr (some a0), vi x1, vi x2, vi x3, vi x4] h (some (vi v)) h' := by
  refine mm_of hG (plainFor_of_name (by decide)) (Nat.le_of_ble_eq_true rfl) (fun X hX ok hr hnm => ?_)
  subst hX
  exact W_X0_says ok hr hva hth hd hf rfl ⟨rfl, rfl, rfl, rfl, rfl, trivial⟩
theorem cw_X0_canPaint : CW yX0_canPaint cX0_canPaint 3 (Option.some Jvm.ClassFile.FieldType.boolean) 2 := ⟨q1622, q168, ⟨by decide, by decide⟩, by decide +kernel, by decide⟩
theorem W_X0_canPaint {G : GT} {X : CX} {d : Nat} {h0 : AH} {Q : State → Prop} (ok : Ok G X RX0 cX0_canPaint 3 d h0) (hr : (cxm X).sig.returnType = (Option.some Jvm.ClassFile.FieldType.boolean)) (hd : 8 ≤ d) {a0 : Nat} {x1 : Int32} {x2 : Int32} {h : AH} {z : (Int32 × AH)} (hf : X0_canPaint a0 x1 x2 h = some z) (hk : Q = QM G X h0 (some (vi z.1)) z.2) {lv : List (Nat × AV)} (hl : lle lv [(0, vr (some a0)), (1, vi x1), (2, vi x2)]) : V G X 3 h0 Q h 0 lv [] := by
  refine V.sub hl ?_
  unfold X0_canPaint at hf
  refine v_aload_n ok 0 dX0_canPaint_0 rfl rfl ?_
  refine v_iload_n ok 1 dX0_canPaint_1 rfl rfl ?_
  refine v_cVi ok (RX0, TX0, 18) cf_0.1 [vi x1] (F := fun a => X0_isWord a x1 h) (fun a v h1 _ hv => M_X0_isWord ok.2.2.2.2.2.2.1 (d := 3) (Nat.le_refl _) hv) (by exact Nat.le_trans (by decide) hd) cw_X0_isWord q1370 q1372 qs39 dX0_canPaint_2 [] rfl (Nat.le_of_ble_eq_true rfl) hf (fun v1 h2 hf => ?_)
  refine v_if_eq ok 46 dX0_canPaint_5 rfl hf (fun hf => ?_) (fun hf => ?_)
  ·
    refine v_iconst ok 0 dX0_canPaint_46 rfl ?_
    exact v_zretL ok hr (by decide) (by decide) (by cases hf; exact hk) dX0_canPaint_47
  ·
    refine v_iload_n ok 2 dX0_canPaint_8 rfl rfl ?_
    refine v_cSi ok [vi x2] (F := X0_isHand x2 h2) (fun v h1 hv => M_X0_isHand ok.2.2.2.2.2.2.1 (d := 2) (Nat.le_refl _) hv) (by exact Nat.le_trans (by decide) hd) cw_X0_isHand q1352 q1353 dX0_canPaint_9 [] rfl (Nat.le_of_ble_eq_true rfl) hf (fun v3 h4 hf => ?_)
    refine v_if_eq ok 46 dX0_canPaint_12 rfl hf (fun hf => ?_) (fun hf => ?_)
    ·
      refine v_iconst ok 0 dX0_canPaint_46 rfl ?_
      exact v_zretL ok hr (by decide) (by decide) (by cases hf; exact hk) dX0_canPaint_47
    ·
      refine v_aload_n ok 0 dX0_canPaint_15 rfl rfl ?_
      refine v_gR ok fl_X0_31 (by first | exact Or.inl ⟨_, rfl⟩ | exact Or.inr ⟨_, rfl⟩) dX0_canPaint_16 hf (fun v5 hf => ?_)
      refine v_iload_n ok 2 dX0_canPaint_19 rfl rfl ?_
      refine v_aload_n ok 0 dX0_canPaint_20 rfl rfl ?_
      refine v_gR ok fl_X0_31 (by first | exact Or.inl ⟨_, rfl⟩ | exact Or.inr ⟨_, rfl⟩) dX0_canPaint_21 hf (fun v6 hf => ?_)
      refine v_gRN ok fl_X0_133 (by first | exact Or.inl ⟨_, rfl⟩ | exact Or.inr ⟨_, rfl⟩) dX0_canPaint_24 hf (fun v7 hf => ?_)
      refine v_iload_n ok 1 dX0_canPaint_27 rfl rfl ?_
      refine v_cFr ok (RJ2, TJ2, 3) cf_23.1 [vi x1] (F := fun a => J2_get a x1 h4) (fun a v h1 _ hv => M_J2_get ok.2.2.2.2.2.2.1 (d := 3) (Nat.le_refl _) hv) (by exact Nat.le_trans (by decide) hd) cw_J2_get q1327 q907 cwf_J2_get dX0_canPaint_28 [vi x2, vr v5] rfl (Nat.le_of_ble_eq_true rfl) hf (fun v8 h9 hf => ?_)
      refine v_cast_ ok ck_TurnedBoards_Word q1374 dX0_canPaint_33 hf (fun hf => ?_)
      refine v_cVi ok (RX1, TX1, 9) cf_1.1 [vi x2, vr v8] (F := fun a => X1_isIn a x2 v8 h9) (fun a v h1 _ hv => M_X1_isIn ok.2.2.2.2.2.2.1 (d := 7) (Nat.le_refl _) hv) (by exact Nat.le_trans (by decide) hd) cw_X1_isIn q1623 q985 q986 dX0_canPaint_36 [] rfl (Nat.le_of_ble_eq_true rfl) hf (fun v10 h11 hf => ?_)
      refine v_if_eq ok 46 dX0_canPaint_39 rfl hf (fun hf => ?_) (fun hf => ?_)
      ·
        refine v_iconst ok 0 dX0_canPaint_46 rfl ?_
        exact v_zretL ok hr (by decide) (by decide) (by cases hf; exact hk) dX0_canPaint_47
      ·
        refine v_iconst ok 1 dX0_canPaint_42 rfl ?_
        refine v_goto ok 47 dX0_canPaint_43 rfl ?_
        exact v_zretL ok hr (by decide) (by decide) (by cases hf; exact hk) dX0_canPaint_47
theorem M_X0_canPaint {G : GT} {l : Launch} (hG : Glob G) {d : Nat} (hd : 8 ≤ d) {a0 : Nat} {x1 : Int32} {x2 : Int32} {h : AH} {v : Int32} {h' : AH} (hf : X0_canPaint a0 x1 x2 h = some (v, h')) : MM G l yX0_canPaint cX0_canPaint 3 (Option.some Jvm.ClassFile.FieldType.boolean) d [vr (some a0), vi x1, vi x2] h (some (vi v)) h' := by
  refine mm_of hG (plainFor_of_name (by decide)) (Nat.le_of_ble_eq_true rfl) (fun X hX ok hr hnm => ?_)
  subst hX
  exact W_X0_canPaint ok hr hd hf rfl ⟨rfl, rfl, rfl, trivial⟩
theorem cw_X0_becomes : CW yX0_becomes cX0_becomes 8 (Option.some Jvm.ClassFile.FieldType.int) 3 := ⟨q1618, q168, ⟨by decide, by decide⟩, by decide +kernel, by decide⟩
def pkX0_becomes_44 (G : GT) (X : CX) (h0 : AH) (Q : State → Prop) (a0 : Nat) (x1 : Int32) (x2 : Int32) (x3 : Int32) (x4 : Int32) (o : ((Int32 × AH) ⊕ (Int32 × AH))) : Prop := match o with
  | .inl s => ∀ lv : List (Nat × AV), lle lv [(0, vr (some a0)), (1, vi x1), (2, vi x2), (3, vi x3), (4, vi x4), (5, vi s.1)] → V G X 8 h0 Q s.2 44 lv []
  | .inr z => Q = QM G X h0 (some (vi z.1)) z.2
def pkX0_becomes_88 (G : GT) (X : CX) (h0 : AH) (Q : State → Prop) (a0 : Nat) (x1 : Int32) (x2 : Int32) (x3 : Int32) (x4 : Int32) (x5 : Int32) (o : ((Int32 × Int32 × AH) ⊕ ((Int32 × AH) ⊕ (Int32 × AH)))) : Prop := match o with
  | .inl s => ∀ lv : List (Nat × AV), lle lv [(0, vr (some a0)), (1, vi x1), (2, vi x2), (3, vi x3), (4, vi x4), (5, vi x5), (6, vi s.1), (7, vi s.2.1)] → V G X 8 h0 Q s.2.2 88 lv []
  | .inr z => pkX0_becomes_44 G X h0 Q a0 x1 x2 x3 x4 z
theorem W_X0_becomes_126 {G : GT} {X : CX} {d : Nat} {h0 : AH} {Q : State → Prop} (ok : Ok G X RX0 cX0_becomes 8 d h0) (hr : (cxm X).sig.returnType = (Option.some Jvm.ClassFile.FieldType.int)) {va : VaT} {e : Nat} (hva : DVA G X.2.1 e va) (hd : e + 9 ≤ d) {a0 : Nat} {x1 : Int32} {x2 : Int32} {x3 : Int32} {x4 : Int32} {x5 : Int32} {x7 : Int32} {s0 : Option Nat} {s1 : Int32} {s2 : Option Nat} {s3 : Int32} {s4 : Int32} {s5 : Int32} {h : AH} {z : ((Int32 × Int32 × AH) ⊕ ((Int32 × AH) ⊕ (Int32 × AH)))} (hf : X0_becomes_126 va a0 x1 x2 x3 x4 x5 x7 s0 s1 s2 s3 s4 s5 h = some z) (hk : pkX0_becomes_88 G X h0 Q a0 x1 x2 x3 x4 x5 z) {lv : List (Nat × AV)} (hl : lle lv [(0, vr (some a0)), (1, vi x1), (2, vi x2), (3, vi x3), (4, vi x4), (5, vi x5), (7, vi x7)]) : V G X 8 h0 Q h 126 lv [vi s5, vi s4, vi s3, vr s2, vi s1, vr s0] := by
  refine V.sub hl ?_
  unfold X0_becomes_126 at hf
  refine v_cVi ok (RX1, TX1, 9) cf_1.1 [vi s3, vi s4, vi s5] (F := fun a => X1_glyph a s3 s4 s5 h) (fun a v h1 _ hv => M_X1_glyph ok.2.2.2.2.2.2.1 (d := 7) (Nat.le_refl _) hv) (by omega) cw_X1_glyph q1624 q1311 q1312 dX0_becomes_126 [vi s1, vr s0] rfl (Nat.le_of_ble_eq_true rfl) hf (fun v1 h2 hf => ?_)
  refine v_iload_n ok 3 dX0_becomes_129 rfl rfl ?_
  refine v_cSi ok [vi v1, vi x3] (F := X0_turned v1 x3 h2) (fun v h1 hv => M_X0_turned ok.2.2.2.2.2.2.1 (d := 1) (Nat.le_refl _) hv) (by omega) cw_X0_turned q1404 q1405 dX0_becomes_130 [vi s1, vr s0] rfl (Nat.le_of_ble_eq_true rfl) hf (fun v3 h4 hf => ?_)
  refine v_cVi ok (RX0, TX0, 18) cf_0.1 [vi s1, vi v3] (F := fun a => X0_readAs va a s1 v3 h4) (fun a v h1 _ hv => M_X0_readAs ok.2.2.2.2.2.2.1 hva (d := e + 5) (Nat.le_refl _) hv) (by omega) cw_X0_readAs q1536 q1538 qs52 dX0_becomes_133 [] rfl (Nat.le_of_ble_eq_true rfl) hf (fun v5 h6 hf => ?_)
  refine v_aload_n ok 0 dX0_becomes_136 rfl rfl ?_
  refine v_gR ok fl_X0_31 (by first | exact Or.inl ⟨_, rfl⟩ | exact Or.inr ⟨_, rfl⟩) dX0_becomes_137 hf (fun v7 hf => ?_)
  refine v_gRN ok fl_X0_133 (by first | exact Or.inl ⟨_, rfl⟩ | exact Or.inr ⟨_, rfl⟩) dX0_becomes_140 hf (fun v8 hf => ?_)
  refine v_iload ok dX0_becomes_143 rfl ?_
  refine v_cFr ok (RJ2, TJ2, 3) cf_23.1 [vi x5] (F := fun a => J2_get a x5 h6) (fun a v h1 _ hv => M_J2_get ok.2.2.2.2.2.2.1 (d := 3) (Nat.le_refl _) hv) (by omega) cw_J2_get q1327 q907 cwf_J2_get dX0_becomes_145 [vi v5] rfl (Nat.le_of_ble_eq_true rfl) hf (fun v9 h10 hf => ?_)
  refine v_cast_ ok ck_TurnedBoards_Word q1374 dX0_becomes_150 hf (fun hf => ?_)
  refine v_iload ok dX0_becomes_153 rfl ?_
  refine v_cVi ok (RX9, TX9, 1) cf_9.1 [vi x7] (F := fun a => X9_at a x7 h10) (fun a v h1 _ hv => M_X9_at ok.2.2.2.2.2.2.1 (d := 6) (Nat.le_refl _) hv) (by omega) cw_X9_at q1375 q994 q995 dX0_becomes_155 [vi v5] rfl (Nat.le_of_ble_eq_true rfl) hf (fun v11 h12 hf => ?_)
  refine v_icmp_ne ok 165 dX0_becomes_158 rfl hf (fun hf => ?_) (fun hf => ?_)
  ·
    refine v_iconst ok 0 dX0_becomes_165 rfl ?_
    refine v_istore ok dX0_becomes_166 (by decide) ?_
    refine v_iinc ok x7 (x7 + 1) dX0_becomes_168 rfl rfl (by decide) ?_
    refine v_goto ok 88 dX0_becomes_171 rfl ?_
    cases hf; exact hk _ ⟨rfl, rfl, rfl, rfl, rfl, rfl, rfl, rfl, trivial⟩
  ·
    refine v_iconst ok 1 dX0_becomes_161 rfl ?_
    refine v_goto ok 166 dX0_becomes_162 rfl ?_
    refine v_istore ok dX0_becomes_166 (by decide) ?_
    refine v_iinc ok x7 (x7 + 1) dX0_becomes_168 rfl rfl (by decide) ?_
    refine v_goto ok 88 dX0_becomes_171 rfl ?_
    cases hf; exact hk _ ⟨rfl, rfl, rfl, rfl, rfl, rfl, rfl, rfl, trivial⟩
theorem W_X0_becomes_174 {G : GT} {X : CX} {d : Nat} {h0 : AH} {Q : State → Prop} (ok : Ok G X RX0 cX0_becomes 8 d h0) (hr : (cxm X).sig.returnType = (Option.some Jvm.ClassFile.FieldType.int)) {va : VaT} {e : Nat} (hva : DVA G X.2.1 e va) (hd : e + 9 ≤ d) {a0 : Nat} {x1 : Int32} {x2 : Int32} {x3 : Int32} {x4 : Int32} {x5 : Int32} {x6 : Int32} {h : AH} {z : ((Int32 × AH) ⊕ (Int32 × AH))} (hf : X0_becomes_174 va a0 x1 x2 x3 x4 x5 x6 h = some z) (hk : pkX0_becomes_44 G X h0 Q a0 x1 x2 x3 x4 z) {lv : List (Nat × AV)} (hl : lle lv [(0, vr (some a0)), (1, vi x1), (2, vi x2), (3, vi x3), (4, vi x4), (5, vi x5), (6, vi x6)]) : V G X 8 h0 Q h 174 lv [] := by
  refine V.sub hl ?_
  unfold X0_becomes_174 at hf
  refine v_iload ok dX0_becomes_174 rfl ?_
  refine v_if_eq ok 182 dX0_becomes_176 rfl hf (fun hf => ?_) (fun hf => ?_)
  ·
    refine v_iinc ok x5 (x5 + 1) dX0_becomes_182 rfl rfl (by decide) ?_
    refine v_goto ok 44 dX0_becomes_185 rfl ?_
    cases hf; exact hk _ ⟨rfl, rfl, rfl, rfl, rfl, rfl, trivial⟩
  ·
    refine v_iload ok dX0_becomes_179 rfl ?_
    exact v_iret ok hr (by cases hf; exact hk) dX0_becomes_181
theorem W_X0_becomes_88b {G : GT} {X : CX} {d : Nat} {h0 : AH} {Q : State → Prop} (ok : Ok G X RX0 cX0_becomes 8 d h0) (hr : (cxm X).sig.returnType = (Option.some Jvm.ClassFile.FieldType.int)) {va : VaT} {e : Nat} (hva : DVA G X.2.1 e va) (hd : e + 9 ≤ d) {a0 : Nat} {x1 : Int32} {x2 : Int32} {x3 : Int32} {x4 : Int32} {x5 : Int32} {x6 : Int32} {x7 : Int32} {h : AH} {z : ((Int32 × Int32 × AH) ⊕ ((Int32 × AH) ⊕ (Int32 × AH)))} (hf : X0_becomes_88b  va a0 x1 x2 x3 x4 x5 x6 x7 h = some z) (hk : pkX0_becomes_88 G X h0 Q a0 x1 x2 x3 x4 x5 z) {lv : List (Nat × AV)} (hl : lle lv [(0, vr (some a0)), (1, vi x1), (2, vi x2), (3, vi x3), (4, vi x4), (5, vi x5), (6, vi x6), (7, vi x7)]) : V G X 8 h0 Q h 88 lv [] := by
  refine V.sub hl ?_
  unfold X0_becomes_88b at hf
  refine v_iload ok dX0_becomes_88 rfl ?_
  refine v_iload ok dX0_becomes_90 rfl ?_
  refine v_icmp_ge ok 174 dX0_becomes_92 rfl hf (fun hf => ?_) (fun hf => ?_)
  ·
    obtain ⟨o, ho, hz⟩ := ob hf
    cases hz; exact W_X0_becomes_174 ok hr hva hd ho hk ⟨rfl, rfl, rfl, rfl, rfl, rfl, rfl, trivial⟩
  ·
    refine v_iload ok dX0_becomes_95 rfl ?_
    refine v_if_eq ok 174 dX0_becomes_97 rfl hf (fun hf => ?_) (fun hf => ?_)
    ·
      obtain ⟨o, ho, hz⟩ := ob hf
      cases hz; exact W_X0_becomes_174 ok hr hva hd ho hk ⟨rfl, rfl, rfl, rfl, rfl, rfl, rfl, trivial⟩
    ·
      refine v_aload_n ok 0 dX0_becomes_100 rfl rfl ?_
      refine v_iload_n ok 2 dX0_becomes_101 rfl rfl ?_
      refine v_aload_n ok 0 dX0_becomes_102 rfl rfl ?_
      refine v_gR ok fl_X0_31 (by first | exact Or.inl ⟨_, rfl⟩ | exact Or.inr ⟨_, rfl⟩) dX0_becomes_103 hf (fun v13 hf => ?_)
      refine v_iload_n ok 2 dX0_becomes_106 rfl rfl ?_
      refine v_iload_n ok 1 dX0_becomes_107 rfl rfl ?_
      refine v_iload_n ok 3 dX0_becomes_108 rfl rfl ?_
      refine v_iconst ok 2 dX0_becomes_109 rfl ?_
      refine v_irem ok dX0_becomes_110 hf (fun hf => ?_)
      refine v_if_ne ok 119 dX0_becomes_111 rfl hf (fun hf => ?_) (fun hf => ?_)
      ·
        refine v_iload ok dX0_becomes_119 rfl ?_
        refine v_iconst ok 1 dX0_becomes_121 rfl ?_
        refine v_isub ok dX0_becomes_122 ?_
        refine v_iload ok dX0_becomes_123 rfl ?_
        refine v_isub ok dX0_becomes_125 ?_
        exact W_X0_becomes_126 ok hr hva hd hf hk ⟨rfl, rfl, rfl, rfl, rfl, rfl, rfl, trivial⟩
      ·
        refine v_iload ok dX0_becomes_114 rfl ?_
        refine v_goto ok 126 dX0_becomes_116 rfl ?_
        exact W_X0_becomes_126 ok hr hva hd hf hk ⟨rfl, rfl, rfl, rfl, rfl, rfl, rfl, trivial⟩
theorem W_X0_becomes_88 {G : GT} {X : CX} {d : Nat} {h0 : AH} {Q : State → Prop} (ok : Ok G X RX0 cX0_becomes 8 d h0) (hr : (cxm X).sig.returnType = (Option.some Jvm.ClassFile.FieldType.int)) {va : VaT} {e : Nat} (hva : DVA G X.2.1 e va) (hd : e + 9 ≤ d) {a0 : Nat} {x1 : Int32} {x2 : Int32} {x3 : Int32} {x4 : Int32} {x5 : Int32} {x6 : Int32} {x7 : Int32} {h : AH} {z : ((Int32 × AH) ⊕ (Int32 × AH))} (hf : X0_becomes_88  va a0 x1 x2 x3 x4 x5 x6 x7 h = some z) (hk : pkX0_becomes_44 G X h0 Q a0 x1 x2 x3 x4 z) {lv : List (Nat × AV)} (hl : lle lv [(0, vr (some a0)), (1, vi x1), (2, vi x2), (3, vi x3), (4, vi x4), (5, vi x5), (6, vi x6), (7, vi x7)]) : V G X 8 h0 Q h 88 lv [] := by
  unfold X0_becomes_88 at hf
  exact loopC_walk (Wh := fun s : Int32 × Int32 × AH => ∀ lv : List (Nat × AV), lle lv [(0, vr (some a0)), (1, vi x1), (2, vi x2), (3, vi x3), (4, vi x4), (5, vi x5), (6, vi s.1), (7, vi s.2.1)] → V G X 8 h0 Q s.2.2 88 lv []) (PK := fun z => pkX0_becomes_44 G X h0 Q a0 x1 x2 x3 x4 z) (fun s o hf hk lv hl => W_X0_becomes_88b ok hr hva hd hf (by cases o <;> exact hk) hl) _ z hf hk lv hl
theorem W_X0_becomes_44b {G : GT} {X : CX} {d : Nat} {h0 : AH} {Q : State → Prop} (ok : Ok G X RX0 cX0_becomes 8 d h0) (hr : (cxm X).sig.returnType = (Option.some Jvm.ClassFile.FieldType.int)) {va : VaT} {e : Nat} (hva : DVA G X.2.1 e va) (hd : e + 9 ≤ d) {a0 : Nat} {x1 : Int32} {x2 : Int32} {x3 : Int32} {x4 : Int32} {x5 : Int32} {h : AH} {z : ((Int32 × AH) ⊕ (Int32 × AH))} (hf : X0_becomes_44b  va a0 x1 x2 x3 x4 x5 h = some z) (hk : pkX0_becomes_44 G X h0 Q a0 x1 x2 x3 x4 z) {lv : List (Nat × AV)} (hl : lle lv [(0, vr (some a0)), (1, vi x1), (2, vi x2), (3, vi x3), (4, vi x4), (5, vi x5)]) : V G X 8 h0 Q h 44 lv [] := by
  refine V.sub hl ?_
  unfold X0_becomes_44b at hf
  refine v_iload ok dX0_becomes_44 rfl ?_
  refine v_aload_n ok 0 dX0_becomes_46 rfl rfl ?_
  refine v_cVi ok (RX0, TX0, 18) cf_0.1 [] (F := fun a => X0_words a h) (fun a v h1 _ hv => M_X0_words ok.2.2.2.2.2.2.1 (d := 2) (Nat.le_refl _) hv) (by omega) cw_X0_words q1329 q1331 qs36 dX0_becomes_47 [vi x5] rfl (Nat.le_of_ble_eq_true rfl) hf (fun v14 h15 hf => ?_)
  refine v_icmp_ge ok 188 dX0_becomes_50 rfl hf (fun hf => ?_) (fun hf => ?_)
  ·
    refine v_iconst ok (-1) dX0_becomes_188 rfl ?_
    exact v_iret ok hr (by cases hf; exact hk) dX0_becomes_189
  ·
    refine v_aload_n ok 0 dX0_becomes_53 rfl rfl ?_
    refine v_gR ok fl_X0_31 (by first | exact Or.inl ⟨_, rfl⟩ | exact Or.inr ⟨_, rfl⟩) dX0_becomes_54 hf (fun v16 hf => ?_)
    refine v_gRN ok fl_X0_133 (by first | exact Or.inl ⟨_, rfl⟩ | exact Or.inr ⟨_, rfl⟩) dX0_becomes_57 hf (fun v17 hf => ?_)
    refine v_iload ok dX0_becomes_60 rfl ?_
    refine v_cFr ok (RJ2, TJ2, 3) cf_23.1 [vi x5] (F := fun a => J2_get a x5 h15) (fun a v h1 _ hv => M_J2_get ok.2.2.2.2.2.2.1 (d := 3) (Nat.le_refl _) hv) (by omega) cw_J2_get q1327 q907 cwf_J2_get dX0_becomes_62 [] rfl (Nat.le_of_ble_eq_true rfl) hf (fun v18 h19 hf => ?_)
    refine v_cast_ ok ck_TurnedBoards_Word q1374 dX0_becomes_67 hf (fun hf => ?_)
    refine v_cVi ok (RX9, TX9, 1) cf_9.1 [] (F := fun a => X9_size a h19) (fun a v h1 _ hv => M_X9_size ok.2.2.2.2.2.2.1 (d := 3) (Nat.le_refl _) hv) (by omega) cw_X9_size q1507 q989 q990 dX0_becomes_70 [] rfl (Nat.le_of_ble_eq_true rfl) hf (fun v20 h21 hf => ?_)
    refine v_iload ok dX0_becomes_73 rfl ?_
    refine v_icmp_ne ok 82 dX0_becomes_75 rfl hf (fun hf => ?_) (fun hf => ?_)
    ·
      refine v_iconst ok 0 dX0_becomes_82 rfl ?_
      refine v_istore ok dX0_becomes_83 (by decide) ?_
      refine v_iconst ok 0 dX0_becomes_85 rfl ?_
      refine v_istore ok dX0_becomes_86 (by decide) ?_
      exact W_X0_becomes_88 ok hr hva hd hf hk ⟨rfl, rfl, rfl, rfl, rfl, rfl, rfl, rfl, trivial⟩
    ·
      refine v_iconst ok 1 dX0_becomes_78 rfl ?_
      refine v_goto ok 83 dX0_becomes_79 rfl ?_
      refine v_istore ok dX0_becomes_83 (by decide) ?_
      refine v_iconst ok 0 dX0_becomes_85 rfl ?_
      refine v_istore ok dX0_becomes_86 (by decide) ?_
      exact W_X0_becomes_88 ok hr hva hd hf hk ⟨rfl, rfl, rfl, rfl, rfl, rfl, rfl, rfl, trivial⟩
theorem W_X0_becomes_44 {G : GT} {X : CX} {d : Nat} {h0 : AH} {Q : State → Prop} (ok : Ok G X RX0 cX0_becomes 8 d h0) (hr : (cxm X).sig.returnType = (Option.some Jvm.ClassFile.FieldType.int)) {va : VaT} {e : Nat} (hva : DVA G X.2.1 e va) (hd : e + 9 ≤ d) {a0 : Nat} {x1 : Int32} {x2 : Int32} {x3 : Int32} {x4 : Int32} {x5 : Int32} {h : AH} {z : (Int32 × AH)} (hf : X0_becomes_44  va a0 x1 x2 x3 x4 x5 h = some z) (hk : Q = QM G X h0 (some (vi z.1)) z.2) {lv : List (Nat × AV)} (hl : lle lv [(0, vr (some a0)), (1, vi x1), (2, vi x2), (3, vi x3), (4, vi x4), (5, vi x5)]) : V G X 8 h0 Q h 44 lv [] := by
  unfold X0_becomes_44 at hf
  exact loopC_walk (Wh := fun s : Int32 × AH => ∀ lv : List (Nat × AV), lle lv [(0, vr (some a0)), (1, vi x1), (2, vi x2), (3, vi x3), (4, vi x4), (5, vi s.1)] → V G X 8 h0 Q s.2 44 lv []) (PK := fun z => Q = QM G X h0 (some (vi z.1)) z.2) (fun s o hf hk lv hl => W_X0_becomes_44b ok hr hva hd hf (by cases o <;> exact hk) hl) _ z hf hk lv hl
theorem W_X0_becomes {G : GT} {X : CX} {d : Nat} {h0 : AH} {Q : State → Prop} (ok : Ok G X RX0 cX0_becomes 8 d h0) (hr : (cxm X).sig.returnType = (Option.some Jvm.ClassFile.FieldType.int)) {va : VaT} {e : Nat} (hva : DVA G X.2.1 e va) (hd : e + 9 ≤ d) {a0 : Nat} {x1 : Int32} {x2 : Int32} {x3 : Int32} {h : AH} {z : (Int32 × AH)} (hf : X0_becomes va a0 x1 x2 x3 h = some z) (hk : Q = QM G X h0 (some (vi z.1)) z.2) {lv : List (Nat × AV)} (hl : lle lv [(0, vr (some a0)), (1, vi x1), (2, vi x2), (3, vi x3)]) : V G X 8 h0 Q h 0 lv [] := by
  refine V.sub hl ?_
  unfold X0_becomes at hf
  refine v_aload_n ok 0 dX0_becomes_0 rfl rfl ?_
  refine v_iload_n ok 1 dX0_becomes_1 rfl rfl ?_
  refine v_iload_n ok 2 dX0_becomes_2 rfl rfl ?_
  refine v_cVi ok (RX0, TX0, 18) cf_0.1 [vi x1, vi x2] (F := fun a => X0_canPaint a x1 x2 h) (fun a v h1 _ hv => M_X0_canPaint ok.2.2.2.2.2.2.1 (d := 8) (Nat.le_refl _) hv) (by omega) cw_X0_canPaint q1619 q1621 qs59 dX0_becomes_3 [] rfl (Nat.le_of_ble_eq_true rfl) hf (fun v22 h23 hf => ?_)
  refine v_if_eq ok 18 dX0_becomes_6 rfl hf (fun hf => ?_) (fun hf => ?_)
  ·
    refine v_iconst ok (-1) dX0_becomes_18 rfl ?_
    exact v_iret ok hr (by cases hf; exact hk) dX0_becomes_19
  ·
    refine v_iload_n ok 3 dX0_becomes_9 rfl rfl ?_
    refine v_iconst ok 0 dX0_becomes_10 rfl ?_
    refine v_iconst ok 3 dX0_becomes_11 rfl ?_
    refine v_cSi ok [vi x3, vi 0, vi 3] (F := X0_is x3 0 3 h23) (fun v h1 hv => M_X0_is ok.2.2.2.2.2.2.1 (d := 1) (Nat.le_refl _) hv) (by omega) cw_X0_is q1355 q899 dX0_becomes_12 [] rfl (Nat.le_of_ble_eq_true rfl) hf (fun v24 h25 hf => ?_)
    refine v_if_ne ok 20 dX0_becomes_15 rfl hf (fun hf => ?_) (fun hf => ?_)
    ·
      refine v_aload_n ok 0 dX0_becomes_20 rfl rfl ?_
      refine v_gR ok fl_X0_31 (by first | exact Or.inl ⟨_, rfl⟩ | exact Or.inr ⟨_, rfl⟩) dX0_becomes_21 hf (fun v26 hf => ?_)
      refine v_gRN ok fl_X0_133 (by first | exact Or.inl ⟨_, rfl⟩ | exact Or.inr ⟨_, rfl⟩) dX0_becomes_24 hf (fun v27 hf => ?_)
      refine v_iload_n ok 1 dX0_becomes_27 rfl rfl ?_
      refine v_cFr ok (RJ2, TJ2, 3) cf_23.1 [vi x1] (F := fun a => J2_get a x1 h25) (fun a v h1 _ hv => M_J2_get ok.2.2.2.2.2.2.1 (d := 3) (Nat.le_refl _) hv) (by omega) cw_J2_get q1327 q907 cwf_J2_get dX0_becomes_28 [] rfl (Nat.le_of_ble_eq_true rfl) hf (fun v28 h29 hf => ?_)
      refine v_cast_ ok ck_TurnedBoards_Word q1374 dX0_becomes_33 hf (fun hf => ?_)
      refine v_cVi ok (RX9, TX9, 1) cf_9.1 [] (F := fun a => X9_size a h29) (fun a v h1 _ hv => M_X9_size ok.2.2.2.2.2.2.1 (d := 3) (Nat.le_refl _) hv) (by omega) cw_X9_size q1507 q989 q990 dX0_becomes_36 [] rfl (Nat.le_of_ble_eq_true rfl) hf (fun v30 h31 hf => ?_)
      refine v_istore ok dX0_becomes_39 (by decide) ?_
      refine v_iconst ok 0 dX0_becomes_41 rfl ?_
      refine v_istore ok dX0_becomes_42 (by decide) ?_
      exact W_X0_becomes_44 ok hr hva hd hf hk ⟨rfl, rfl, rfl, rfl, rfl, rfl, trivial⟩
    ·
      refine v_iconst ok (-1) dX0_becomes_18 rfl ?_
      exact v_iret ok hr (by cases hf; exact hk) dX0_becomes_19
theorem M_X0_becomes {G : GT} {l : Launch} (hG : Glob G) {va : VaT} {e : Nat} (hva : DVA G l e va) {d : Nat} (hd : e + 9 ≤ d) {a0 : Nat} {x1 : Int32} {x2 : Int32} {x3 : Int32} {h : AH} {v : Int32} {h' : AH} (hf : X0_becomes va a0 x1 x2 x3 h = some (v, h')) : MM G l yX0_becomes cX0_becomes 8 (Option.some Jvm.ClassFile.FieldType.int) d [vr (some a0), vi x1, vi x2, vi x3] h (some (vi v)) h' := by
  refine mm_of hG (plainFor_of_name (by decide)) (Nat.le_of_ble_eq_true rfl) (fun X hX ok hr hnm => ?_)
  subst hX
  exact W_X0_becomes ok hr hva hd hf rfl ⟨rfl, rfl, rfl, rfl, trivial⟩
theorem cw_X6_piece : CW yX6_piece cX6_piece 3 none 2 := ⟨q1644, q184, ⟨by decide, by decide⟩, by decide +kernel, by decide⟩
theorem W_X6_piece {G : GT} {X : CX} {d : Nat} {h0 : AH} {Q : State → Prop} (ok : Ok G X RX6 cX6_piece 3 d h0) (hr : (cxm X).sig.returnType = none) (hd : 1 ≤ d) {a0 : Nat} {x1 : Int32} {x2 : Int32} {h : AH} {z : (AH)} (hf : X6_piece a0 x1 x2 h = some z) (hk : Q = QM G X h0 none z) {lv : List (Nat × AV)} (hl : lle lv [(0, vr (some a0)), (1, vi x1), (2, vi x2)]) : V G X 3 h0 Q h 0 lv [] := by
  refine V.sub hl ?_
  unfold X6_piece at hf
  refine v_aload_n ok 0 dX6_piece_0 rfl rfl ?_
  refine v_gR ok fl_X6_20 (by first | exact Or.inl ⟨_, rfl⟩ | exact Or.inr ⟨_, rfl⟩) dX6_piece_1 hf (fun v1 hf => ?_)
  refine v_aload_n ok 0 dX6_piece_4 rfl rfl ?_
  refine v_gI ok fl_X6_118 (fun _ _ _ => rfl) dX6_piece_5 hf (fun v2 hf => ?_)
  refine v_iload_n ok 1 dX6_piece_8 rfl rfl ?_
  refine v_iast ok rfl dX6_piece_9 hf (fun h3 hf => ?_)
  refine v_aload_n ok 0 dX6_piece_10 rfl rfl ?_
  refine v_gR ok fl_X6_24 (by first | exact Or.inl ⟨_, rfl⟩ | exact Or.inr ⟨_, rfl⟩) dX6_piece_11 hf (fun v4 hf => ?_)
  refine v_aload_n ok 0 dX6_piece_14 rfl rfl ?_
  refine v_gI ok fl_X6_118 (fun _ _ _ => rfl) dX6_piece_15 hf (fun v5 hf => ?_)
  refine v_iload_n ok 2 dX6_piece_18 rfl rfl ?_
  refine v_iast ok rfl dX6_piece_19 hf (fun h6 hf => ?_)
  refine v_aload_n ok 0 dX6_piece_20 rfl rfl ?_
  refine v_dup ok dX6_piece_21 rfl ?_
  refine v_gI ok fl_X6_118 (fun _ _ _ => rfl) dX6_piece_22 hf (fun v7 hf => ?_)
  refine v_iconst ok 1 dX6_piece_25 rfl ?_
  refine v_iadd ok dX6_piece_26 ?_
  refine v_pI ok fl_X6_118 ⟨fun _ _ _ => rfl, rfl⟩ (FN.of cf_6.1 rfl) dX6_piece_27 hf (fun h8 hf => ?_)
  exact v_vret ok hr (by cases hf; exact hk) dX6_piece_30
theorem M_X6_piece {G : GT} {l : Launch} (hG : Glob G) {d : Nat} (hd : 1 ≤ d) {a0 : Nat} {x1 : Int32} {x2 : Int32} {h : AH} {h' : AH} (hf : X6_piece a0 x1 x2 h = some h') : MM G l yX6_piece cX6_piece 3 none d [vr (some a0), vi x1, vi x2] h none h' := by
  refine mm_of hG (plainFor_of_name (by decide)) (Nat.le_of_ble_eq_true rfl) (fun X hX ok hr hnm => ?_)
  subst hX
  exact W_X6_piece ok hr hd hf rfl ⟨rfl, rfl, rfl, trivial⟩
theorem cw_X6_goes : CW yX6_goes cX6_goes 4 (Option.some Jvm.ClassFile.FieldType.int) 2 := ⟨q1640, q184, ⟨by decide, by decide⟩, by decide +kernel, by decide⟩
def pkX6_goes_2 (G : GT) (X : CX) (h0 : AH) (Q : State → Prop) (a0 : Nat) (x1 : Int32) (x2 : Int32) (o : ((Int32 × AH) ⊕ (Int32 × AH))) : Prop := match o with
  | .inl s => ∀ lv : List (Nat × AV), lle lv [(0, vr (some a0)), (1, vi x1), (2, vi x2), (3, vi s.1)] → V G X 4 h0 Q s.2 2 lv []
  | .inr z => Q = QM G X h0 (some (vi z.1)) z.2
theorem W_X6_goes_57 {G : GT} {X : CX} {d : Nat} {h0 : AH} {Q : State → Prop} (ok : Ok G X RX6 cX6_goes 4 d h0) (hr : (cxm X).sig.returnType = (Option.some Jvm.ClassFile.FieldType.int)) {va : VaT} {e : Nat} (hva : DVA G X.2.1 e va) (hd : e + 11 ≤ d) {a0 : Nat} {x1 : Int32} {x2 : Int32} {x3 : Int32} {h : AH} {z : (Int32 × AH)} (hf : X6_goes_57 va a0 x1 x2 x3 h = some z) (hk : Q = QM G X h0 (some (vi z.1)) z.2) {lv : List (Nat × AV)} (hl : lle lv [(0, vr (some a0)), (1, vi x1), (2, vi x2), (3, vi x3)]) : V G X 4 h0 Q h 57 lv [] := by
  refine V.sub hl ?_
  unfold X6_goes_57 at hf
  refine v_aload_n ok 0 dX6_goes_57 rfl rfl ?_
  refine v_iconst ok 0 dX6_goes_58 rfl ?_
  refine v_aload_n ok 0 dX6_goes_59 rfl rfl ?_
  refine v_iload_n ok 1 dX6_goes_60 rfl rfl ?_
  refine v_iload_n ok 2 dX6_goes_61 rfl rfl ?_
  refine v_iload_n ok 3 dX6_goes_62 rfl rfl ?_
  refine v_cVi ok (RX6, TX6, 10) cf_6.1 [vi x1, vi x2, vi x3] (F := fun a => X6_choice a x1 x2 x3 h) (fun a v h1 _ hv => M_X6_choice ok.2.2.2.2.2.2.1 (d := 9) (Nat.le_refl _) hv) (by omega) cw_X6_choice q1470 q1472 qs46 dX6_goes_63 [vi 0, vr (some a0)] rfl (Nat.le_of_ble_eq_true rfl) hf (fun v1 h2 hf => ?_)
  refine v_cVv ok (RX6, TX6, 10) cf_6.1 [vi 0, vi v1] (F := fun a => X6_piece a 0 v1 h2) (fun a h1 _ hv => M_X6_piece ok.2.2.2.2.2.2.1 (d := 1) (Nat.le_refl _) hv) (by omega) cw_X6_piece q1641 q1643 qs61 dX6_goes_66 [] rfl (Nat.le_of_ble_eq_true rfl) hf (fun h3 hf => ?_)
  refine v_iconst ok 0 dX6_goes_69 rfl ?_
  exact v_iret ok hr (by cases hf; exact hk) dX6_goes_70
theorem W_X6_goes_149 {G : GT} {X : CX} {d : Nat} {h0 : AH} {Q : State → Prop} (ok : Ok G X RX6 cX6_goes 4 d h0) (hr : (cxm X).sig.returnType = (Option.some Jvm.ClassFile.FieldType.int)) {va : VaT} {e : Nat} (hva : DVA G X.2.1 e va) (hd : e + 11 ≤ d) {x3 : Int32} {s0 : Option Nat} {s1 : Int32} {s2 : Int32} {h : AH} {z : (Int32 × AH)} (hf : X6_goes_149 va x3 s0 s1 s2 h = some z) (hk : Q = QM G X h0 (some (vi z.1)) z.2) {lv : List (Nat × AV)} (hl : lle lv [(3, vi x3)]) : V G X 4 h0 Q h 149 lv [vi s2, vi s1, vr s0] := by
  refine V.sub hl ?_
  unfold X6_goes_149 at hf
  refine v_cVv ok (RX6, TX6, 10) cf_6.1 [vi s1, vi s2] (F := fun a => X6_piece a s1 s2 h) (fun a h1 _ hv => M_X6_piece ok.2.2.2.2.2.2.1 (d := 1) (Nat.le_refl _) hv) (by omega) cw_X6_piece q1641 q1643 qs61 dX6_goes_149 [] rfl (Nat.le_of_ble_eq_true rfl) hf (fun h4 hf => ?_)
  refine v_iload_n ok 3 dX6_goes_152 rfl rfl ?_
  refine v_if_eq ok 160 dX6_goes_153 rfl hf (fun hf => ?_) (fun hf => ?_)
  ·
    refine v_iconst ok 2 dX6_goes_160 rfl ?_
    exact v_iret ok hr (by cases hf; exact hk) dX6_goes_161
  ·
    refine v_iconst ok 1 dX6_goes_156 rfl ?_
    refine v_goto ok 161 dX6_goes_157 rfl ?_
    exact v_iret ok hr (by cases hf; exact hk) dX6_goes_161
theorem W_X6_goes_132 {G : GT} {X : CX} {d : Nat} {h0 : AH} {Q : State → Prop} (ok : Ok G X RX6 cX6_goes 4 d h0) (hr : (cxm X).sig.returnType = (Option.some Jvm.ClassFile.FieldType.int)) {va : VaT} {e : Nat} (hva : DVA G X.2.1 e va) (hd : e + 11 ≤ d) {a0 : Nat} {x1 : Int32} {x2 : Int32} {x3 : Int32} {s0 : Option Nat} {s1 : Int32} {h : AH} {z : (Int32 × AH)} (hf : X6_goes_132 va a0 x1 x2 x3 s0 s1 h = some z) (hk : Q = QM G X h0 (some (vi z.1)) z.2) {lv : List (Nat × AV)} (hl : lle lv [(0, vr (some a0)), (1, vi x1), (2, vi x2), (3, vi x3)]) : V G X 4 h0 Q h 132 lv [vi s1, vr s0] := by
  refine V.sub hl ?_
  unfold X6_goes_132 at hf
  refine v_iload_n ok 3 dX6_goes_132 rfl rfl ?_
  refine v_if_eq ok 144 dX6_goes_133 rfl hf (fun hf => ?_) (fun hf => ?_)
  ·
    refine v_aload_n ok 0 dX6_goes_144 rfl rfl ?_
    refine v_iload_n ok 2 dX6_goes_145 rfl rfl ?_
    refine v_cVi ok (RX6, TX6, 10) cf_6.1 [vi x2] (F := fun a => X6_second a x2 h) (fun a v h1 _ hv => M_X6_second ok.2.2.2.2.2.2.1 (d := 8) (Nat.le_refl _) hv) (by omega) cw_X6_second q1479 q1481 qs48 dX6_goes_146 [vi s1, vr s0] rfl (Nat.le_of_ble_eq_true rfl) hf (fun v5 h6 hf => ?_)
    exact W_X6_goes_149 ok hr hva hd hf hk ⟨rfl, trivial⟩
  ·
    refine v_aload_n ok 0 dX6_goes_136 rfl rfl ?_
    refine v_iload_n ok 1 dX6_goes_137 rfl rfl ?_
    refine v_cVi ok (RX6, TX6, 10) cf_6.1 [vi x1] (F := fun a => X6_first a x1 h) (fun a v h1 _ hv => M_X6_first ok.2.2.2.2.2.2.1 (d := 8) (Nat.le_refl _) hv) (by omega) cw_X6_first q1474 q1476 qs47 dX6_goes_138 [vi s1, vr s0] rfl (Nat.le_of_ble_eq_true rfl) hf (fun v7 h8 hf => ?_)
    refine v_goto ok 149 dX6_goes_141 rfl ?_
    exact W_X6_goes_149 ok hr hva hd hf hk ⟨rfl, trivial⟩
theorem W_X6_goes_121 {G : GT} {X : CX} {d : Nat} {h0 : AH} {Q : State → Prop} (ok : Ok G X RX6 cX6_goes 4 d h0) (hr : (cxm X).sig.returnType = (Option.some Jvm.ClassFile.FieldType.int)) {va : VaT} {e : Nat} (hva : DVA G X.2.1 e va) (hd : e + 11 ≤ d) {a0 : Nat} {x1 : Int32} {x2 : Int32} {s0 : Int32} {h : AH} {z : (Int32 × AH)} (hf : X6_goes_121 va a0 x1 x2 s0 h = some z) (hk : Q = QM G X h0 (some (vi z.1)) z.2) {lv : List (Nat × AV)} (hl : lle lv [(0, vr (some a0)), (1, vi x1), (2, vi x2)]) : V G X 4 h0 Q h 121 lv [vi s0] := by
  refine V.sub hl ?_
  unfold X6_goes_121 at hf
  refine v_istore_n ok 3 dX6_goes_121 rfl (by decide) ?_
  refine v_aload_n ok 0 dX6_goes_122 rfl rfl ?_
  refine v_iload_n ok 3 dX6_goes_123 rfl rfl ?_
  refine v_if_eq ok 131 dX6_goes_124 rfl hf (fun hf => ?_) (fun hf => ?_)
  ·
    refine v_iconst ok 2 dX6_goes_131 rfl ?_
    exact W_X6_goes_132 ok hr hva hd hf hk ⟨rfl, rfl, rfl, rfl, trivial⟩
  ·
    refine v_iconst ok 1 dX6_goes_127 rfl ?_
    refine v_goto ok 132 dX6_goes_128 rfl ?_
    exact W_X6_goes_132 ok hr hva hd hf hk ⟨rfl, rfl, rfl, rfl, trivial⟩
theorem W_X6_goes_120 {G : GT} {X : CX} {d : Nat} {h0 : AH} {Q : State → Prop} (ok : Ok G X RX6 cX6_goes 4 d h0) (hr : (cxm X).sig.returnType = (Option.some Jvm.ClassFile.FieldType.int)) {va : VaT} {e : Nat} (hva : DVA G X.2.1 e va) (hd : e + 11 ≤ d) {a0 : Nat} {x1 : Int32} {x2 : Int32} {h : AH} {z : (Int32 × AH)} (hf : X6_goes_120 va a0 x1 x2 h = some z) (hk : Q = QM G X h0 (some (vi z.1)) z.2) {lv : List (Nat × AV)} (hl : lle lv [(0, vr (some a0)), (1, vi x1), (2, vi x2)]) : V G X 4 h0 Q h 120 lv [] := by
  refine V.sub hl ?_
  unfold X6_goes_120 at hf
  refine v_iconst ok 0 dX6_goes_120 rfl ?_
  exact W_X6_goes_121 ok hr hva hd hf hk ⟨rfl, rfl, rfl, trivial⟩
theorem W_X6_goes_77 {G : GT} {X : CX} {d : Nat} {h0 : AH} {Q : State → Prop} (ok : Ok G X RX6 cX6_goes 4 d h0) (hr : (cxm X).sig.returnType = (Option.some Jvm.ClassFile.FieldType.int)) {va : VaT} {e : Nat} (hva : DVA G X.2.1 e va) (hd : e + 11 ≤ d) {a0 : Nat} {x1 : Int32} {x2 : Int32} {h : AH} {z : (Int32 × AH)} (hf : X6_goes_77 va a0 x1 x2 h = some z) (hk : Q = QM G X h0 (some (vi z.1)) z.2) {lv : List (Nat × AV)} (hl : lle lv [(0, vr (some a0)), (1, vi x1), (2, vi x2)]) : V G X 4 h0 Q h 77 lv [] := by
  refine V.sub hl ?_
  unfold X6_goes_77 at hf
  refine v_iload_n ok 1 dX6_goes_77 rfl rfl ?_
  refine v_aload_n ok 0 dX6_goes_78 rfl rfl ?_
  refine v_gI ok fl_X6_104 (fun _ _ _ => rfl) dX6_goes_79 hf (fun v9 hf => ?_)
  refine v_icmp_ge ok 120 dX6_goes_82 rfl hf (fun hf => ?_) (fun hf => ?_)
  ·
    exact W_X6_goes_120 ok hr hva hd hf hk ⟨rfl, rfl, rfl, trivial⟩
  ·
    refine v_aload_n ok 0 dX6_goes_85 rfl rfl ?_
    refine v_aload_n ok 0 dX6_goes_86 rfl rfl ?_
    refine v_iload_n ok 1 dX6_goes_87 rfl rfl ?_
    refine v_cVi ok (RX6, TX6, 10) cf_6.1 [vi x1] (F := fun a => X6_first a x1 h) (fun a v h1 _ hv => M_X6_first ok.2.2.2.2.2.2.1 (d := 8) (Nat.le_refl _) hv) (by omega) cw_X6_first q1474 q1476 qs47 dX6_goes_88 [vr (some a0)] rfl (Nat.le_of_ble_eq_true rfl) hf (fun v10 h11 hf => ?_)
    refine v_cVi ok (RX6, TX6, 10) cf_6.1 [vi v10] (F := fun a => X6_alone a v10 h11) (fun a v h1 _ hv => M_X6_alone ok.2.2.2.2.2.2.1 (d := 2) (Nat.le_refl _) hv) (by omega) cw_X6_alone q1498 q1500 qs51 dX6_goes_91 [] rfl (Nat.le_of_ble_eq_true rfl) hf (fun v12 h13 hf => ?_)
    refine v_aload_n ok 0 dX6_goes_94 rfl rfl ?_
    refine v_gR ok fl_X6_17 (by first | exact Or.inl ⟨_, rfl⟩ | exact Or.inr ⟨_, rfl⟩) dX6_goes_95 hf (fun v14 hf => ?_)
    refine v_iload_n ok 1 dX6_goes_98 rfl rfl ?_
    refine v_iconst ok 1 dX6_goes_99 rfl ?_
    refine v_iadd ok dX6_goes_100 ?_
    refine v_aald6 ok rfl dX6_goes_101 hf (fun v15 hf => ?_)
    refine v_iload_n ok 2 dX6_goes_102 rfl rfl ?_
    refine v_iald ok rfl dX6_goes_103 hf (fun v16 hf => ?_)
    refine v_iadd ok dX6_goes_104 ?_
    refine v_aload_n ok 0 dX6_goes_105 rfl rfl ?_
    refine v_gR ok fl_X6_17 (by first | exact Or.inl ⟨_, rfl⟩ | exact Or.inr ⟨_, rfl⟩) dX6_goes_106 hf (fun v17 hf => ?_)
    refine v_iload_n ok 1 dX6_goes_109 rfl rfl ?_
    refine v_aald6 ok rfl dX6_goes_110 hf (fun v18 hf => ?_)
    refine v_iload_n ok 2 dX6_goes_111 rfl rfl ?_
    refine v_iald ok rfl dX6_goes_112 hf (fun v19 hf => ?_)
    refine v_icmp_ne ok 120 dX6_goes_113 rfl hf (fun hf => ?_) (fun hf => ?_)
    ·
      exact W_X6_goes_120 ok hr hva hd hf hk ⟨rfl, rfl, rfl, trivial⟩
    ·
      refine v_iconst ok 1 dX6_goes_116 rfl ?_
      refine v_goto ok 121 dX6_goes_117 rfl ?_
      exact W_X6_goes_121 ok hr hva hd hf hk ⟨rfl, rfl, rfl, trivial⟩
theorem W_X6_goes_2b {G : GT} {X : CX} {d : Nat} {h0 : AH} {Q : State → Prop} (ok : Ok G X RX6 cX6_goes 4 d h0) (hr : (cxm X).sig.returnType = (Option.some Jvm.ClassFile.FieldType.int)) {va : VaT} {e : Nat} (hva : DVA G X.2.1 e va) (hd : e + 11 ≤ d) {a0 : Nat} {x1 : Int32} {x2 : Int32} {x3 : Int32} {h : AH} {z : ((Int32 × AH) ⊕ (Int32 × AH))} (hf : X6_goes_2b  va a0 x1 x2 x3 h = some z) (hk : pkX6_goes_2 G X h0 Q a0 x1 x2 z) {lv : List (Nat × AV)} (hl : lle lv [(0, vr (some a0)), (1, vi x1), (2, vi x2), (3, vi x3)]) : V G X 4 h0 Q h 2 lv [] := by
  refine V.sub hl ?_
  unfold X6_goes_2b at hf
  refine v_iload_n ok 3 dX6_goes_2 rfl rfl ?_
  refine v_iconst ok 4 dX6_goes_3 rfl ?_
  refine v_icmp_ge ok 77 dX6_goes_4 rfl hf (fun hf => ?_) (fun hf => ?_)
  ·
    obtain ⟨o, ho, hz⟩ := ob hf
    cases hz; exact W_X6_goes_77 ok hr hva hd ho hk ⟨rfl, rfl, rfl, trivial⟩
  ·
    refine v_iload_n ok 1 dX6_goes_7 rfl rfl ?_
    refine v_aload_n ok 0 dX6_goes_8 rfl rfl ?_
    refine v_gI ok fl_X6_104 (fun _ _ _ => rfl) dX6_goes_9 hf (fun v20 hf => ?_)
    refine v_icmp_ge ok 77 dX6_goes_12 rfl hf (fun hf => ?_) (fun hf => ?_)
    ·
      obtain ⟨o, ho, hz⟩ := ob hf
      cases hz; exact W_X6_goes_77 ok hr hva hd ho hk ⟨rfl, rfl, rfl, trivial⟩
    ·
      refine v_iload_n ok 2 dX6_goes_15 rfl rfl ?_
      refine v_aload_n ok 0 dX6_goes_16 rfl rfl ?_
      refine v_gI ok fl_X6_46 (fun _ _ _ => rfl) dX6_goes_17 hf (fun v21 hf => ?_)
      refine v_icmp_ge ok 77 dX6_goes_20 rfl hf (fun hf => ?_) (fun hf => ?_)
      ·
        obtain ⟨o, ho, hz⟩ := ob hf
        cases hz; exact W_X6_goes_77 ok hr hva hd ho hk ⟨rfl, rfl, rfl, trivial⟩
      ·
        refine v_aload_n ok 0 dX6_goes_23 rfl rfl ?_
        refine v_iload_n ok 1 dX6_goes_24 rfl rfl ?_
        refine v_iload_n ok 2 dX6_goes_25 rfl rfl ?_
        refine v_iload_n ok 3 dX6_goes_26 rfl rfl ?_
        refine v_cVi ok (RX6, TX6, 10) cf_6.1 [vi x1, vi x2, vi x3] (F := fun a => X6_both va a x1 x2 x3 h) (fun a v h1 _ hv => M_X6_both ok.2.2.2.2.2.2.1 hva (d := e + 10) (Nat.le_refl _) hv) (by omega) cw_X6_both q1466 q1468 qs45 dX6_goes_27 [] rfl (Nat.le_of_ble_eq_true rfl) hf (fun v22 h23 hf => ?_)
        refine v_aload_n ok 0 dX6_goes_30 rfl rfl ?_
        refine v_gR ok fl_X6_17 (by first | exact Or.inl ⟨_, rfl⟩ | exact Or.inr ⟨_, rfl⟩) dX6_goes_31 hf (fun v24 hf => ?_)
        refine v_iload_n ok 1 dX6_goes_34 rfl rfl ?_
        refine v_iconst ok 1 dX6_goes_35 rfl ?_
        refine v_iadd ok dX6_goes_36 ?_
        refine v_aald6 ok rfl dX6_goes_37 hf (fun v25 hf => ?_)
        refine v_iload_n ok 2 dX6_goes_38 rfl rfl ?_
        refine v_iconst ok 1 dX6_goes_39 rfl ?_
        refine v_iadd ok dX6_goes_40 ?_
        refine v_iald ok rfl dX6_goes_41 hf (fun v26 hf => ?_)
        refine v_iadd ok dX6_goes_42 ?_
        refine v_aload_n ok 0 dX6_goes_43 rfl rfl ?_
        refine v_gR ok fl_X6_17 (by first | exact Or.inl ⟨_, rfl⟩ | exact Or.inr ⟨_, rfl⟩) dX6_goes_44 hf (fun v27 hf => ?_)
        refine v_iload_n ok 1 dX6_goes_47 rfl rfl ?_
        refine v_aald6 ok rfl dX6_goes_48 hf (fun v28 hf => ?_)
        refine v_iload_n ok 2 dX6_goes_49 rfl rfl ?_
        refine v_iald ok rfl dX6_goes_50 hf (fun v29 hf => ?_)
        refine v_icmp_eq ok 57 dX6_goes_51 rfl hf (fun hf => ?_) (fun hf => ?_)
        ·
          obtain ⟨o, ho, hz⟩ := ob hf
          cases hz; exact W_X6_goes_57 ok hr hva hd ho hk ⟨rfl, rfl, rfl, rfl, trivial⟩
        ·
          refine v_goto ok 71 dX6_goes_54 rfl ?_
          refine v_iinc ok x3 (x3 + 1) dX6_goes_71 rfl rfl (by decide) ?_
          refine v_goto ok 2 dX6_goes_74 rfl ?_
          cases hf; exact hk _ ⟨rfl, rfl, rfl, rfl, trivial⟩
theorem W_X6_goes_2 {G : GT} {X : CX} {d : Nat} {h0 : AH} {Q : State → Prop} (ok : Ok G X RX6 cX6_goes 4 d h0) (hr : (cxm X).sig.returnType = (Option.some Jvm.ClassFile.FieldType.int)) {va : VaT} {e : Nat} (hva : DVA G X.2.1 e va) (hd : e + 11 ≤ d) {a0 : Nat} {x1 : Int32} {x2 : Int32} {x3 : Int32} {h : AH} {z : (Int32 × AH)} (hf : X6_goes_2  va a0 x1 x2 x3 h = some z) (hk : Q = QM G X h0 (some (vi z.1)) z.2) {lv : List (Nat × AV)} (hl : lle lv [(0, vr (some a0)), (1, vi x1), (2, vi x2), (3, vi x3)]) : V G X 4 h0 Q h 2 lv [] := by
  unfold X6_goes_2 at hf
  exact loopC_walk (Wh := fun s : Int32 × AH => ∀ lv : List (Nat × AV), lle lv [(0, vr (some a0)), (1, vi x1), (2, vi x2), (3, vi s.1)] → V G X 4 h0 Q s.2 2 lv []) (PK := fun z => Q = QM G X h0 (some (vi z.1)) z.2) (fun s o hf hk lv hl => W_X6_goes_2b ok hr hva hd hf (by cases o <;> exact hk) hl) _ z hf hk lv hl
theorem W_X6_goes {G : GT} {X : CX} {d : Nat} {h0 : AH} {Q : State → Prop} (ok : Ok G X RX6 cX6_goes 4 d h0) (hr : (cxm X).sig.returnType = (Option.some Jvm.ClassFile.FieldType.int)) {va : VaT} {e : Nat} (hva : DVA G X.2.1 e va) (hd : e + 11 ≤ d) {a0 : Nat} {x1 : Int32} {x2 : Int32} {h : AH} {z : (Int32 × AH)} (hf : X6_goes va a0 x1 x2 h = some z) (hk : Q = QM G X h0 (some (vi z.1)) z.2) {lv : List (Nat × AV)} (hl : lle lv [(0, vr (some a0)), (1, vi x1), (2, vi x2)]) : V G X 4 h0 Q h 0 lv [] := by
  refine V.sub hl ?_
  unfold X6_goes at hf
  refine v_iconst ok 0 dX6_goes_0 rfl ?_
  refine v_istore_n ok 3 dX6_goes_1 rfl (by decide) ?_
  exact W_X6_goes_2 ok hr hva hd hf hk ⟨rfl, rfl, rfl, rfl, trivial⟩
theorem M_X6_goes {G : GT} {l : Launch} (hG : Glob G) {va : VaT} {e : Nat} (hva : DVA G l e va) {d : Nat} (hd : e + 11 ≤ d) {a0 : Nat} {x1 : Int32} {x2 : Int32} {h : AH} {v : Int32} {h' : AH} (hf : X6_goes va a0 x1 x2 h = some (v, h')) : MM G l yX6_goes cX6_goes 4 (Option.some Jvm.ClassFile.FieldType.int) d [vr (some a0), vi x1, vi x2] h (some (vi v)) h' := by
  refine mm_of hG (plainFor_of_name (by decide)) (Nat.le_of_ble_eq_true rfl) (fun X hX ok hr hnm => ?_)
  subst hX
  exact W_X6_goes ok hr hva hd hf rfl ⟨rfl, rfl, rfl, trivial⟩
theorem cw_X6_laid : CW yX6_laid cX6_laid 4 (Option.some (Jvm.ClassFile.FieldType.object "TurnedBoards$Line")) 0 := ⟨q1636, q184, ⟨by decide, by decide⟩, by decide +kernel, by decide⟩
def pkX6_laid_9 (G : GT) (X : CX) (h0 : AH) (Q : State → Prop) (a0 : Nat) (o : ((Int32 × Int32 × AH) ⊕ (Option Nat × AH))) : Prop := match o with
  | .inl s => ∀ lv : List (Nat × AV), lle lv [(0, vr (some a0)), (1, vi s.1), (2, vi s.2.1)] → V G X 4 h0 Q s.2.2 9 lv []
  | .inr z => Q = QM G X h0 (some (vr z.1)) z.2
theorem W_X6_laid_43 {G : GT} {X : CX} {d : Nat} {h0 : AH} {Q : State → Prop} (ok : Ok G X RX6 cX6_laid 4 d h0) (hr : (cxm X).sig.returnType = (Option.some (Jvm.ClassFile.FieldType.object "TurnedBoards$Line"))) {va : VaT} {e : Nat} (hva : DVA G X.2.1 e va) (hd : e + 12 ≤ d) {a0 : Nat} {x2 : Int32} {x3 : Int32} {s0 : Int32} {s1 : Int32} {h : AH} {z : ((Int32 × Int32 × AH) ⊕ (Option Nat × AH))} (hf : X6_laid_43 va a0 x2 x3 s0 s1 h = some z) (hk : pkX6_laid_9 G X h0 Q a0 z) {lv : List (Nat × AV)} (hl : lle lv [(0, vr (some a0)), (2, vi x2), (3, vi x3)]) : V G X 4 h0 Q h 43 lv [vi s1, vi s0] := by
  refine V.sub hl ?_
  unfold X6_laid_43 at hf
  refine v_iadd ok dX6_laid_43 ?_
  refine v_istore_n ok 1 dX6_laid_44 rfl (by decide) ?_
  refine v_iload_n ok 2 dX6_laid_45 rfl rfl ?_
  refine v_iload_n ok 3 dX6_laid_46 rfl rfl ?_
  refine v_iconst ok 1 dX6_laid_47 rfl ?_
  refine v_icmp_ne ok 55 dX6_laid_48 rfl hf (fun hf => ?_) (fun hf => ?_)
  ·
    refine v_iconst ok 1 dX6_laid_55 rfl ?_
    refine v_iadd ok dX6_laid_56 ?_
    refine v_istore_n ok 2 dX6_laid_57 rfl (by decide) ?_
    refine v_goto ok 9 dX6_laid_58 rfl ?_
    cases hf; exact hk _ ⟨rfl, rfl, rfl, trivial⟩
  ·
    refine v_iconst ok 0 dX6_laid_51 rfl ?_
    refine v_goto ok 56 dX6_laid_52 rfl ?_
    refine v_iadd ok dX6_laid_56 ?_
    refine v_istore_n ok 2 dX6_laid_57 rfl (by decide) ?_
    refine v_goto ok 9 dX6_laid_58 rfl ?_
    cases hf; exact hk _ ⟨rfl, rfl, rfl, trivial⟩
theorem W_X6_laid_25 {G : GT} {X : CX} {d : Nat} {h0 : AH} {Q : State → Prop} (ok : Ok G X RX6 cX6_laid 4 d h0) (hr : (cxm X).sig.returnType = (Option.some (Jvm.ClassFile.FieldType.object "TurnedBoards$Line"))) {va : VaT} {e : Nat} (hva : DVA G X.2.1 e va) (hd : e + 12 ≤ d) {a0 : Nat} {x1 : Int32} {x2 : Int32} {h : AH} {z : ((Int32 × Int32 × AH) ⊕ (Option Nat × AH))} (hf : X6_laid_25 va a0 x1 x2 h = some z) (hk : pkX6_laid_9 G X h0 Q a0 z) {lv : List (Nat × AV)} (hl : lle lv [(0, vr (some a0)), (1, vi x1), (2, vi x2)]) : V G X 4 h0 Q h 25 lv [] := by
  refine V.sub hl ?_
  unfold X6_laid_25 at hf
  refine v_aload_n ok 0 dX6_laid_25 rfl rfl ?_
  refine v_iload_n ok 1 dX6_laid_26 rfl rfl ?_
  refine v_iload_n ok 2 dX6_laid_27 rfl rfl ?_
  refine v_cVi ok (RX6, TX6, 10) cf_6.1 [vi x1, vi x2] (F := fun a => X6_goes va a x1 x2 h) (fun a v h1 _ hv => M_X6_goes ok.2.2.2.2.2.2.1 hva (d := e + 11) (Nat.le_refl _) hv) (by omega) cw_X6_goes q1637 q1639 qs60 dX6_laid_28 [] rfl (Nat.le_of_ble_eq_true rfl) hf (fun v1 h2 hf => ?_)
  refine v_istore_n ok 3 dX6_laid_31 rfl (by decide) ?_
  refine v_iload_n ok 1 dX6_laid_32 rfl rfl ?_
  refine v_iload_n ok 3 dX6_laid_33 rfl rfl ?_
  refine v_iconst ok 2 dX6_laid_34 rfl ?_
  refine v_icmp_ne ok 42 dX6_laid_35 rfl hf (fun hf => ?_) (fun hf => ?_)
  ·
    refine v_iconst ok 1 dX6_laid_42 rfl ?_
    exact W_X6_laid_43 ok hr hva hd hf hk ⟨rfl, rfl, rfl, trivial⟩
  ·
    refine v_iconst ok 0 dX6_laid_38 rfl ?_
    refine v_goto ok 43 dX6_laid_39 rfl ?_
    exact W_X6_laid_43 ok hr hva hd hf hk ⟨rfl, rfl, rfl, trivial⟩
theorem W_X6_laid_9b {G : GT} {X : CX} {d : Nat} {h0 : AH} {Q : State → Prop} (ok : Ok G X RX6 cX6_laid 4 d h0) (hr : (cxm X).sig.returnType = (Option.some (Jvm.ClassFile.FieldType.object "TurnedBoards$Line"))) {va : VaT} {e : Nat} (hva : DVA G X.2.1 e va) (hd : e + 12 ≤ d) {a0 : Nat} {x1 : Int32} {x2 : Int32} {h : AH} {z : ((Int32 × Int32 × AH) ⊕ (Option Nat × AH))} (hf : X6_laid_9b  va a0 x1 x2 h = some z) (hk : pkX6_laid_9 G X h0 Q a0 z) {lv : List (Nat × AV)} (hl : lle lv [(0, vr (some a0)), (1, vi x1), (2, vi x2)]) : V G X 4 h0 Q h 9 lv [] := by
  refine V.sub hl ?_
  unfold X6_laid_9b at hf
  refine v_iload_n ok 1 dX6_laid_9 rfl rfl ?_
  refine v_aload_n ok 0 dX6_laid_10 rfl rfl ?_
  refine v_gI ok fl_X6_104 (fun _ _ _ => rfl) dX6_laid_11 hf (fun v3 hf => ?_)
  refine v_icmp_lt ok 25 dX6_laid_14 rfl hf (fun hf => ?_) (fun hf => ?_)
  ·
    exact W_X6_laid_25 ok hr hva hd hf hk ⟨rfl, rfl, rfl, trivial⟩
  ·
    refine v_iload_n ok 2 dX6_laid_17 rfl rfl ?_
    refine v_aload_n ok 0 dX6_laid_18 rfl rfl ?_
    refine v_gI ok fl_X6_46 (fun _ _ _ => rfl) dX6_laid_19 hf (fun v4 hf => ?_)
    refine v_icmp_ge ok 61 dX6_laid_22 rfl hf (fun hf => ?_) (fun hf => ?_)
    ·
      refine v_aload_n ok 0 dX6_laid_61 rfl rfl ?_
      exact v_aret ok hr (by first | exact Or.inl ⟨_, rfl⟩ | exact Or.inr ⟨_, rfl⟩) (by cases hf; exact hk) dX6_laid_62
    ·
      exact W_X6_laid_25 ok hr hva hd hf hk ⟨rfl, rfl, rfl, trivial⟩
theorem W_X6_laid_9 {G : GT} {X : CX} {d : Nat} {h0 : AH} {Q : State → Prop} (ok : Ok G X RX6 cX6_laid 4 d h0) (hr : (cxm X).sig.returnType = (Option.some (Jvm.ClassFile.FieldType.object "TurnedBoards$Line"))) {va : VaT} {e : Nat} (hva : DVA G X.2.1 e va) (hd : e + 12 ≤ d) {a0 : Nat} {x1 : Int32} {x2 : Int32} {h : AH} {z : (Option Nat × AH)} (hf : X6_laid_9  va a0 x1 x2 h = some z) (hk : Q = QM G X h0 (some (vr z.1)) z.2) {lv : List (Nat × AV)} (hl : lle lv [(0, vr (some a0)), (1, vi x1), (2, vi x2)]) : V G X 4 h0 Q h 9 lv [] := by
  unfold X6_laid_9 at hf
  exact loopC_walk (Wh := fun s : Int32 × Int32 × AH => ∀ lv : List (Nat × AV), lle lv [(0, vr (some a0)), (1, vi s.1), (2, vi s.2.1)] → V G X 4 h0 Q s.2.2 9 lv []) (PK := fun z => Q = QM G X h0 (some (vr z.1)) z.2) (fun s o hf hk lv hl => W_X6_laid_9b ok hr hva hd hf (by cases o <;> exact hk) hl) _ z hf hk lv hl
theorem W_X6_laid {G : GT} {X : CX} {d : Nat} {h0 : AH} {Q : State → Prop} (ok : Ok G X RX6 cX6_laid 4 d h0) (hr : (cxm X).sig.returnType = (Option.some (Jvm.ClassFile.FieldType.object "TurnedBoards$Line"))) {va : VaT} {e : Nat} (hva : DVA G X.2.1 e va) (hd : e + 12 ≤ d) {a0 : Nat} {h : AH} {z : (Option Nat × AH)} (hf : X6_laid va a0 h = some z) (hk : Q = QM G X h0 (some (vr z.1)) z.2) {lv : List (Nat × AV)} (hl : lle lv [(0, vr (some a0))]) : V G X 4 h0 Q h 0 lv [] := by
  refine V.sub hl ?_
  unfold X6_laid at hf
  refine v_aload_n ok 0 dX6_laid_0 rfl rfl ?_
  refine v_iconst ok 0 dX6_laid_1 rfl ?_
  refine v_pI ok fl_X6_118 ⟨fun _ _ _ => rfl, rfl⟩ (FN.of cf_6.1 rfl) dX6_laid_2 hf (fun h5 hf => ?_)
  refine v_iconst ok 0 dX6_laid_5 rfl ?_
  refine v_istore_n ok 1 dX6_laid_6 rfl (by decide) ?_
  refine v_iconst ok 0 dX6_laid_7 rfl ?_
  refine v_istore_n ok 2 dX6_laid_8 rfl (by decide) ?_
  exact W_X6_laid_9 ok hr hva hd hf hk ⟨rfl, rfl, rfl, trivial⟩
theorem M_X6_laid {G : GT} {l : Launch} (hG : Glob G) {va : VaT} {e : Nat} (hva : DVA G l e va) {d : Nat} (hd : e + 12 ≤ d) {a0 : Nat} {h : AH} {v : Option Nat} {h' : AH} (hf : X6_laid va a0 h = some (v, h')) : MM G l yX6_laid cX6_laid 4 (Option.some (Jvm.ClassFile.FieldType.object "TurnedBoards$Line")) d [vr (some a0)] h (some (vr v)) h' := by
  refine mm_of hG (plainFor_of_name (by decide)) (Nat.le_of_ble_eq_true rfl) (fun X hX ok hr hnm => ?_)
  subst hX
  exact W_X6_laid ok hr hva hd hf rfl ⟨rfl, trivial⟩
theorem cw_X6_strokes : CW yX6_strokes cX6_strokes 1 (Option.some Jvm.ClassFile.FieldType.int) 0 := ⟨q1632, q184, ⟨by decide, by decide⟩, by decide +kernel, by decide⟩
theorem W_X6_strokes {G : GT} {X : CX} {d : Nat} {h0 : AH} {Q : State → Prop} (ok : Ok G X RX6 cX6_strokes 1 d h0) (hr : (cxm X).sig.returnType = (Option.some Jvm.ClassFile.FieldType.int)) (hd : 1 ≤ d) {a0 : Nat} {h : AH} {z : (Int32 × AH)} (hf : X6_strokes a0 h = some z) (hk : Q = QM G X h0 (some (vi z.1)) z.2) {lv : List (Nat × AV)} (hl : lle lv [(0, vr (some a0))]) : V G X 1 h0 Q h 0 lv [] := by
  refine V.sub hl ?_
  unfold X6_strokes at hf
  refine v_aload_n ok 0 dX6_strokes_0 rfl rfl ?_
  refine v_gR ok fl_X6_17 (by first | exact Or.inl ⟨_, rfl⟩ | exact Or.inr ⟨_, rfl⟩) dX6_strokes_1 hf (fun v1 hf => ?_)
  refine v_iconst ok 0 dX6_strokes_4 rfl ?_
  refine v_aald6 ok rfl dX6_strokes_5 hf (fun v2 hf => ?_)
  refine v_iconst ok 0 dX6_strokes_6 rfl ?_
  refine v_iald ok rfl dX6_strokes_7 hf (fun v3 hf => ?_)
  refine v_sipush ok 1000 dX6_strokes_8 rfl ?_
  refine v_irem ok dX6_strokes_11 hf (fun hf => ?_)
  exact v_iret ok hr (by cases hf; exact hk) dX6_strokes_12
theorem M_X6_strokes {G : GT} {l : Launch} (hG : Glob G) {d : Nat} (hd : 1 ≤ d) {a0 : Nat} {h : AH} {v : Int32} {h' : AH} (hf : X6_strokes a0 h = some (v, h')) : MM G l yX6_strokes cX6_strokes 1 (Option.some Jvm.ClassFile.FieldType.int) d [vr (some a0)] h (some (vi v)) h' := by
  refine mm_of hG (plainFor_of_name (by decide)) (Nat.le_of_ble_eq_true rfl) (fun X hX ok hr hnm => ?_)
  subst hX
  exact W_X6_strokes ok hr hd hf rfl ⟨rfl, trivial⟩
theorem cw_X0_line : CW yX0_line cX0_line 5 (Option.some Jvm.ClassFile.FieldType.int) 4 := ⟨q1628, q168, ⟨by decide, by decide⟩, by decide +kernel, by decide⟩
theorem W_X0_line {G : GT} {X : CX} {d : Nat} {h0 : AH} {Q : State → Prop} (ok : Ok G X RX0 cX0_line 5 d h0) (hr : (cxm X).sig.returnType = (Option.some Jvm.ClassFile.FieldType.int)) {va : VaT} {e : Nat} (hva : DVA G X.2.1 e va) (hd : e + 13 ≤ d) {a0 : Nat} {x1 : Int32} {x2 : Int32} {x3 : Int32} {x4 : Int32} {h : AH} {z : (Int32 × AH)} (hf : X0_line va a0 x1 x2 x3 x4 h = some z) (hk : Q = QM G X h0 (some (vi z.1)) z.2) {lv : List (Nat × AV)} (hl : lle lv [(0, vr (some a0)), (1, vi x1), (2, vi x2), (3, vi x3), (4, vi x4)]) : V G X 5 h0 Q h 0 lv [] := by
  refine V.sub hl ?_
  unfold X0_line at hf
  refine v_aload_n ok 0 dX0_line_0 rfl rfl ?_
  refine v_iload_n ok 1 dX0_line_1 rfl rfl ?_
  refine v_iload_n ok 3 dX0_line_2 rfl rfl ?_
  refine v_cVi ok (RX0, TX0, 18) cf_0.1 [vi x1, vi x3] (F := fun a => X0_canPaint a x1 x3 h) (fun a v h1 _ hv => M_X0_canPaint ok.2.2.2.2.2.2.1 (d := 8) (Nat.le_refl _) hv) (by omega) cw_X0_canPaint q1619 q1621 qs59 dX0_line_3 [] rfl (Nat.le_of_ble_eq_true rfl) hf (fun v1 h2 hf => ?_)
  refine v_if_eq ok 28 dX0_line_6 rfl hf (fun hf => ?_) (fun hf => ?_)
  ·
    refine v_iconst ok (-1) dX0_line_28 rfl ?_
    exact v_iret ok hr (by cases hf; exact hk) dX0_line_29
  ·
    refine v_aload_n ok 0 dX0_line_9 rfl rfl ?_
    refine v_iload_n ok 2 dX0_line_10 rfl rfl ?_
    refine v_iload_n ok 3 dX0_line_11 rfl rfl ?_
    refine v_cVi ok (RX0, TX0, 18) cf_0.1 [vi x2, vi x3] (F := fun a => X0_canPaint a x2 x3 h2) (fun a v h1 _ hv => M_X0_canPaint ok.2.2.2.2.2.2.1 (d := 8) (Nat.le_refl _) hv) (by omega) cw_X0_canPaint q1619 q1621 qs59 dX0_line_12 [] rfl (Nat.le_of_ble_eq_true rfl) hf (fun v3 h4 hf => ?_)
    refine v_if_eq ok 28 dX0_line_15 rfl hf (fun hf => ?_) (fun hf => ?_)
    ·
      refine v_iconst ok (-1) dX0_line_28 rfl ?_
      exact v_iret ok hr (by cases hf; exact hk) dX0_line_29
    ·
      refine v_iload ok dX0_line_18 rfl ?_
      refine v_iconst ok 0 dX0_line_20 rfl ?_
      refine v_iconst ok 2 dX0_line_21 rfl ?_
      refine v_cSi ok [vi x4, vi 0, vi 2] (F := X0_is x4 0 2 h4) (fun v h1 hv => M_X0_is ok.2.2.2.2.2.2.1 (d := 1) (Nat.le_refl _) hv) (by omega) cw_X0_is q1355 q899 dX0_line_22 [] rfl (Nat.le_of_ble_eq_true rfl) hf (fun v5 h6 hf => ?_)
      refine v_if_ne ok 30 dX0_line_25 rfl hf (fun hf => ?_) (fun hf => ?_)
      ·
        refine v_aload_n ok 0 dX0_line_30 rfl rfl ?_
        refine v_gR ok fl_X0_79 (by first | exact Or.inl ⟨_, rfl⟩ | exact Or.inr ⟨_, rfl⟩) dX0_line_31 hf (fun v7 hf => ?_)
        refine v_iload_n ok 1 dX0_line_34 rfl rfl ?_
        refine v_iload_n ok 2 dX0_line_35 rfl rfl ?_
        refine v_iload_n ok 3 dX0_line_36 rfl rfl ?_
        refine v_cVr ok (RX6, TX6, 10) cf_6.1 [vi x1, vi x2, vi x3] (F := fun a => X6_by va a x1 x2 x3 h6) (fun a v h1 _ hv => M_X6_by ok.2.2.2.2.2.2.1 hva (d := e + 12) (Nat.le_refl _) hv) (by omega) cw_X6_by q1453 q1454 q1455 dX0_line_37 [] rfl (Nat.le_of_ble_eq_true rfl) hf (fun v8 h9 hf => ?_)
        refine v_pop ok dX0_line_40 rfl ?_
        refine v_iload ok dX0_line_41 rfl ?_
        refine v_if_ne ok 56 dX0_line_43 rfl hf (fun hf => ?_) (fun hf => ?_)
        ·
          refine v_iload ok dX0_line_56 rfl ?_
          refine v_iconst ok 1 dX0_line_58 rfl ?_
          refine v_icmp_ne ok 72 dX0_line_59 rfl hf (fun hf => ?_) (fun hf => ?_)
          ·
            refine v_aload_n ok 0 dX0_line_72 rfl rfl ?_
            refine v_gR ok fl_X0_79 (by first | exact Or.inl ⟨_, rfl⟩ | exact Or.inr ⟨_, rfl⟩) dX0_line_73 hf (fun v10 hf => ?_)
            refine v_cVr ok (RX6, TX6, 10) cf_6.1 [] (F := fun a => X6_laid va a h9) (fun a v h1 _ hv => M_X6_laid ok.2.2.2.2.2.2.1 hva (d := e + 12) (Nat.le_refl _) hv) (by omega) cw_X6_laid q1633 q1634 q1635 dX0_line_76 [] rfl (Nat.le_of_ble_eq_true rfl) hf (fun v11 h12 hf => ?_)
            refine v_gIN ok fl_X0_299 (fun _ _ _ => rfl) dX0_line_79 hf (fun v13 hf => ?_)
            exact v_iret ok hr (by cases hf; exact hk) dX0_line_82
          ·
            refine v_aload_n ok 0 dX0_line_62 rfl rfl ?_
            refine v_gR ok fl_X0_79 (by first | exact Or.inl ⟨_, rfl⟩ | exact Or.inr ⟨_, rfl⟩) dX0_line_63 hf (fun v14 hf => ?_)
            refine v_cVi ok (RX6, TX6, 10) cf_6.1 [] (F := fun a => X6_strokes a h9) (fun a v h1 _ hv => M_X6_strokes ok.2.2.2.2.2.2.1 (d := 1) (Nat.le_refl _) hv) (by omega) cw_X6_strokes q1629 q1630 q1631 dX0_line_66 [] rfl (Nat.le_of_ble_eq_true rfl) hf (fun v15 h16 hf => ?_)
            refine v_goto ok 82 dX0_line_69 rfl ?_
            exact v_iret ok hr (by cases hf; exact hk) dX0_line_82
        ·
          refine v_aload_n ok 0 dX0_line_46 rfl rfl ?_
          refine v_gR ok fl_X0_79 (by first | exact Or.inl ⟨_, rfl⟩ | exact Or.inr ⟨_, rfl⟩) dX0_line_47 hf (fun v17 hf => ?_)
          refine v_cVi ok (RX6, TX6, 10) cf_6.1 [] (F := fun a => X6_doubt a h9) (fun a v h1 _ hv => M_X6_doubt ok.2.2.2.2.2.2.1 (d := 1) (Nat.le_refl _) hv) (by omega) cw_X6_doubt q1502 q1503 q1504 dX0_line_50 [] rfl (Nat.le_of_ble_eq_true rfl) hf (fun v18 h19 hf => ?_)
          refine v_goto ok 82 dX0_line_53 rfl ?_
          exact v_iret ok hr (by cases hf; exact hk) dX0_line_82
      ·
        refine v_iconst ok (-1) dX0_line_28 rfl ?_
        exact v_iret ok hr (by cases hf; exact hk) dX0_line_29
theorem M_X0_line {G : GT} {l : Launch} (hG : Glob G) {va : VaT} {e : Nat} (hva : DVA G l e va) {d : Nat} (hd : e + 13 ≤ d) {a0 : Nat} {x1 : Int32} {x2 : Int32} {x3 : Int32} {x4 : Int32} {h : AH} {v : Int32} {h' : AH} (hf : X0_line va a0 x1 x2 x3 x4 h = some (v, h')) : MM G l yX0_line cX0_line 5 (Option.some Jvm.ClassFile.FieldType.int) d [vr (some a0), vi x1, vi x2, vi x3, vi x4] h (some (vi v)) h' := by
  refine mm_of hG (plainFor_of_name (by decide)) (Nat.le_of_ble_eq_true rfl) (fun X hX ok hr hnm => ?_)
  subst hX
  exact W_X0_line ok hr hva hd hf rfl ⟨rfl, rfl, rfl, rfl, rfl, trivial⟩
theorem cw_X0_piece : CW yX0_piece cX0_piece 6 (Option.some Jvm.ClassFile.FieldType.int) 5 := ⟨q1648, q168, ⟨by decide, by decide⟩, by decide +kernel, by decide⟩
theorem W_X0_piece {G : GT} {X : CX} {d : Nat} {h0 : AH} {Q : State → Prop} (ok : Ok G X RX0 cX0_piece 6 d h0) (hr : (cxm X).sig.returnType = (Option.some Jvm.ClassFile.FieldType.int)) {va : VaT} {e : Nat} (hva : DVA G X.2.1 e va) (hd : e + 13 ≤ d) {a0 : Nat} {x1 : Int32} {x2 : Int32} {x3 : Int32} {x4 : Int32} {x5 : Int32} {h : AH} {z : (Int32 × AH)} (hf : X0_piece va a0 x1 x2 x3 x4 x5 h = some z) (hk : Q = QM G X h0 (some (vi z.1)) z.2) {lv : List (Nat × AV)} (hl : lle lv [(0, vr (some a0)), (1, vi x1), (2, vi x2), (3, vi x3), (4, vi x4), (5, vi x5)]) : V G X 6 h0 Q h 0 lv [] := by
  refine V.sub hl ?_
  unfold X0_piece at hf
  refine v_aload_n ok 0 dX0_piece_0 rfl rfl ?_
  refine v_iload_n ok 1 dX0_piece_1 rfl rfl ?_
  refine v_iload_n ok 3 dX0_piece_2 rfl rfl ?_
  refine v_cVi ok (RX0, TX0, 18) cf_0.1 [vi x1, vi x3] (F := fun a => X0_canPaint a x1 x3 h) (fun a v h1 _ hv => M_X0_canPaint ok.2.2.2.2.2.2.1 (d := 8) (Nat.le_refl _) hv) (by omega) cw_X0_canPaint q1619 q1621 qs59 dX0_piece_3 [] rfl (Nat.le_of_ble_eq_true rfl) hf (fun v1 h2 hf => ?_)
  refine v_if_eq ok 33 dX0_piece_6 rfl hf (fun hf => ?_) (fun hf => ?_)
  ·
    refine v_iconst ok (-1) dX0_piece_33 rfl ?_
    exact v_iret ok hr (by cases hf; exact hk) dX0_piece_34
  ·
    refine v_aload_n ok 0 dX0_piece_9 rfl rfl ?_
    refine v_iload_n ok 2 dX0_piece_10 rfl rfl ?_
    refine v_iload_n ok 3 dX0_piece_11 rfl rfl ?_
    refine v_cVi ok (RX0, TX0, 18) cf_0.1 [vi x2, vi x3] (F := fun a => X0_canPaint a x2 x3 h2) (fun a v h1 _ hv => M_X0_canPaint ok.2.2.2.2.2.2.1 (d := 8) (Nat.le_refl _) hv) (by omega) cw_X0_canPaint q1619 q1621 qs59 dX0_piece_12 [] rfl (Nat.le_of_ble_eq_true rfl) hf (fun v3 h4 hf => ?_)
    refine v_if_eq ok 33 dX0_piece_15 rfl hf (fun hf => ?_) (fun hf => ?_)
    ·
      refine v_iconst ok (-1) dX0_piece_33 rfl ?_
      exact v_iret ok hr (by cases hf; exact hk) dX0_piece_34
    ·
      refine v_iload ok dX0_piece_18 rfl ?_
      refine v_if_lt ok 33 dX0_piece_20 rfl hf (fun hf => ?_) (fun hf => ?_)
      ·
        refine v_iconst ok (-1) dX0_piece_33 rfl ?_
        exact v_iret ok hr (by cases hf; exact hk) dX0_piece_34
      ·
        refine v_iload ok dX0_piece_23 rfl ?_
        refine v_iconst ok 0 dX0_piece_25 rfl ?_
        refine v_iconst ok 1 dX0_piece_26 rfl ?_
        refine v_cSi ok [vi x5, vi 0, vi 1] (F := X0_is x5 0 1 h4) (fun v h1 hv => M_X0_is ok.2.2.2.2.2.2.1 (d := 1) (Nat.le_refl _) hv) (by omega) cw_X0_is q1355 q899 dX0_piece_27 [] rfl (Nat.le_of_ble_eq_true rfl) hf (fun v5 h6 hf => ?_)
        refine v_if_ne ok 35 dX0_piece_30 rfl hf (fun hf => ?_) (fun hf => ?_)
        ·
          refine v_aload_n ok 0 dX0_piece_35 rfl rfl ?_
          refine v_gR ok fl_X0_79 (by first | exact Or.inl ⟨_, rfl⟩ | exact Or.inr ⟨_, rfl⟩) dX0_piece_36 hf (fun v7 hf => ?_)
          refine v_iload_n ok 1 dX0_piece_39 rfl rfl ?_
          refine v_iload_n ok 2 dX0_piece_40 rfl rfl ?_
          refine v_iload_n ok 3 dX0_piece_41 rfl rfl ?_
          refine v_cVr ok (RX6, TX6, 10) cf_6.1 [vi x1, vi x2, vi x3] (F := fun a => X6_by va a x1 x2 x3 h6) (fun a v h1 _ hv => M_X6_by ok.2.2.2.2.2.2.1 hva (d := e + 12) (Nat.le_refl _) hv) (by omega) cw_X6_by q1453 q1454 q1455 dX0_piece_42 [] rfl (Nat.le_of_ble_eq_true rfl) hf (fun v8 h9 hf => ?_)
          refine v_cVr ok (RX6, TX6, 10) cf_6.1 [] (F := fun a => X6_laid va a h9) (fun a v h1 _ hv => M_X6_laid ok.2.2.2.2.2.2.1 hva (d := e + 12) (Nat.le_refl _) hv) (by omega) cw_X6_laid q1633 q1634 q1635 dX0_piece_45 [] rfl (Nat.le_of_ble_eq_true rfl) hf (fun v10 h11 hf => ?_)
          refine v_pop ok dX0_piece_48 rfl ?_
          refine v_iload ok dX0_piece_49 rfl ?_
          refine v_aload_n ok 0 dX0_piece_51 rfl rfl ?_
          refine v_gR ok fl_X0_79 (by first | exact Or.inl ⟨_, rfl⟩ | exact Or.inr ⟨_, rfl⟩) dX0_piece_52 hf (fun v12 hf => ?_)
          refine v_gIN ok fl_X0_299 (fun _ _ _ => rfl) dX0_piece_55 hf (fun v13 hf => ?_)
          refine v_icmp_lt ok 65 dX0_piece_58 rfl hf (fun hf => ?_) (fun hf => ?_)
          ·
            refine v_iload ok dX0_piece_65 rfl ?_
            refine v_if_ne ok 83 dX0_piece_67 rfl hf (fun hf => ?_) (fun hf => ?_)
            ·
              refine v_aload_n ok 0 dX0_piece_83 rfl rfl ?_
              refine v_gR ok fl_X0_79 (by first | exact Or.inl ⟨_, rfl⟩ | exact Or.inr ⟨_, rfl⟩) dX0_piece_84 hf (fun v14 hf => ?_)
              refine v_gRN ok fl_X0_305 (by first | exact Or.inl ⟨_, rfl⟩ | exact Or.inr ⟨_, rfl⟩) dX0_piece_87 hf (fun v15 hf => ?_)
              refine v_iload ok dX0_piece_90 rfl ?_
              refine v_iald ok rfl dX0_piece_92 hf (fun v16 hf => ?_)
              exact v_iret ok hr (by cases hf; exact hk) dX0_piece_93
            ·
              refine v_aload_n ok 0 dX0_piece_70 rfl rfl ?_
              refine v_gR ok fl_X0_79 (by first | exact Or.inl ⟨_, rfl⟩ | exact Or.inr ⟨_, rfl⟩) dX0_piece_71 hf (fun v17 hf => ?_)
              refine v_gRN ok fl_X0_302 (by first | exact Or.inl ⟨_, rfl⟩ | exact Or.inr ⟨_, rfl⟩) dX0_piece_74 hf (fun v18 hf => ?_)
              refine v_iload ok dX0_piece_77 rfl ?_
              refine v_iald ok rfl dX0_piece_79 hf (fun v19 hf => ?_)
              refine v_goto ok 93 dX0_piece_80 rfl ?_
              exact v_iret ok hr (by cases hf; exact hk) dX0_piece_93
          ·
            refine v_iconst ok (-1) dX0_piece_61 rfl ?_
            refine v_goto ok 93 dX0_piece_62 rfl ?_
            exact v_iret ok hr (by cases hf; exact hk) dX0_piece_93
        ·
          refine v_iconst ok (-1) dX0_piece_33 rfl ?_
          exact v_iret ok hr (by cases hf; exact hk) dX0_piece_34
theorem M_X0_piece {G : GT} {l : Launch} (hG : Glob G) {va : VaT} {e : Nat} (hva : DVA G l e va) {d : Nat} (hd : e + 13 ≤ d) {a0 : Nat} {x1 : Int32} {x2 : Int32} {x3 : Int32} {x4 : Int32} {x5 : Int32} {h : AH} {v : Int32} {h' : AH} (hf : X0_piece va a0 x1 x2 x3 x4 x5 h = some (v, h')) : MM G l yX0_piece cX0_piece 6 (Option.some Jvm.ClassFile.FieldType.int) d [vr (some a0), vi x1, vi x2, vi x3, vi x4, vi x5] h (some (vi v)) h' := by
  refine mm_of hG (plainFor_of_name (by decide)) (Nat.le_of_ble_eq_true rfl) (fun X hX ok hr hnm => ?_)
  subst hX
  exact W_X0_piece ok hr hva hd hf rfl ⟨rfl, rfl, rfl, rfl, rfl, rfl, trivial⟩
theorem cw_X0_best : CW yX0_best cX0_best 6 (Option.some Jvm.ClassFile.FieldType.int) 1 := ⟨q1652, q168, ⟨by decide, by decide⟩, by decide +kernel, by decide⟩
def pkX0_best_19 (G : GT) (X : CX) (h0 : AH) (Q : State → Prop) (a0 : Nat) (x1 : Int32) (o : ((Int32 × Int32 × Int32 × AH) ⊕ (Int32 × AH))) : Prop := match o with
  | .inl s => ∀ lv : List (Nat × AV), lle lv [(0, vr (some a0)), (1, vi x1), (2, vi s.1), (3, vi s.2.1), (4, vi s.2.2.1)] → V G X 6 h0 Q s.2.2.2 19 lv []
  | .inr z => Q = QM G X h0 (some (vi z.1)) z.2
theorem W_X0_best_19b {G : GT} {X : CX} {d : Nat} {h0 : AH} {Q : State → Prop} (ok : Ok G X RX0 cX0_best 6 d h0) (hr : (cxm X).sig.returnType = (Option.some Jvm.ClassFile.FieldType.int)) {va : VaT} {e : Nat} (hva : DVA G X.2.1 e va) (hd : e + 13 ≤ d) {a0 : Nat} {x1 : Int32} {x2 : Int32} {x3 : Int32} {x4 : Int32} {h : AH} {z : ((Int32 × Int32 × Int32 × AH) ⊕ (Int32 × AH))} (hf : X0_best_19b  va a0 x1 x2 x3 x4 h = some z) (hk : pkX0_best_19 G X h0 Q a0 x1 z) {lv : List (Nat × AV)} (hl : lle lv [(0, vr (some a0)), (1, vi x1), (2, vi x2), (3, vi x3), (4, vi x4)]) : V G X 6 h0 Q h 19 lv [] := by
  refine V.sub hl ?_
  unfold X0_best_19b at hf
  refine v_iload ok dX0_best_19 rfl ?_
  refine v_aload_n ok 0 dX0_best_21 rfl rfl ?_
  refine v_cVi ok (RX0, TX0, 18) cf_0.1 [] (F := fun a => X0_words a h) (fun a v h1 _ hv => M_X0_words ok.2.2.2.2.2.2.1 (d := 2) (Nat.le_refl _) hv) (by omega) cw_X0_words q1329 q1331 qs36 dX0_best_22 [vi x4] rfl (Nat.le_of_ble_eq_true rfl) hf (fun v1 h2 hf => ?_)
  refine v_icmp_ge ok 65 dX0_best_25 rfl hf (fun hf => ?_) (fun hf => ?_)
  ·
    refine v_iload_n ok 2 dX0_best_65 rfl rfl ?_
    exact v_iret ok hr (by cases hf; exact hk) dX0_best_66
  ·
    refine v_aload_n ok 0 dX0_best_28 rfl rfl ?_
    refine v_gR ok fl_X0_79 (by first | exact Or.inl ⟨_, rfl⟩ | exact Or.inr ⟨_, rfl⟩) dX0_best_29 hf (fun v3 hf => ?_)
    refine v_iload_n ok 1 dX0_best_32 rfl rfl ?_
    refine v_iload ok dX0_best_33 rfl ?_
    refine v_iconst ok 0 dX0_best_35 rfl ?_
    refine v_cVr ok (RX6, TX6, 10) cf_6.1 [vi x1, vi x4, vi 0] (F := fun a => X6_by va a x1 x4 0 h2) (fun a v h1 _ hv => M_X6_by ok.2.2.2.2.2.2.1 hva (d := e + 12) (Nat.le_refl _) hv) (by omega) cw_X6_by q1453 q1454 q1455 dX0_best_36 [] rfl (Nat.le_of_ble_eq_true rfl) hf (fun v4 h5 hf => ?_)
    refine v_cVi ok (RX6, TX6, 10) cf_6.1 [] (F := fun a => X6_doubt a h5) (fun a v h1 _ hv => M_X6_doubt ok.2.2.2.2.2.2.1 (d := 1) (Nat.le_refl _) hv) (by omega) cw_X6_doubt q1502 q1503 q1504 dX0_best_39 [] rfl (Nat.le_of_ble_eq_true rfl) hf (fun v6 h7 hf => ?_)
    refine v_istore ok dX0_best_42 (by decide) ?_
    refine v_iload ok dX0_best_44 rfl ?_
    refine v_iload_n ok 3 dX0_best_46 rfl rfl ?_
    refine v_icmp_lt ok 53 dX0_best_47 rfl hf (fun hf => ?_) (fun hf => ?_)
    ·
      refine v_iload ok dX0_best_53 rfl ?_
      refine v_istore_n ok 3 dX0_best_55 rfl (by decide) ?_
      refine v_iload ok dX0_best_56 rfl ?_
      refine v_istore_n ok 2 dX0_best_58 rfl (by decide) ?_
      refine v_iinc ok x4 (x4 + 1) dX0_best_59 rfl rfl (by decide) ?_
      refine v_goto ok 19 dX0_best_62 rfl ?_
      cases hf; exact hk _ ⟨rfl, rfl, rfl, rfl, rfl, trivial⟩
    ·
      refine v_goto ok 59 dX0_best_50 rfl ?_
      refine v_iinc ok x4 (x4 + 1) dX0_best_59 rfl rfl (by decide) ?_
      refine v_goto ok 19 dX0_best_62 rfl ?_
      cases hf; exact hk _ ⟨rfl, rfl, rfl, rfl, rfl, trivial⟩
theorem W_X0_best_19 {G : GT} {X : CX} {d : Nat} {h0 : AH} {Q : State → Prop} (ok : Ok G X RX0 cX0_best 6 d h0) (hr : (cxm X).sig.returnType = (Option.some Jvm.ClassFile.FieldType.int)) {va : VaT} {e : Nat} (hva : DVA G X.2.1 e va) (hd : e + 13 ≤ d) {a0 : Nat} {x1 : Int32} {x2 : Int32} {x3 : Int32} {x4 : Int32} {h : AH} {z : (Int32 × AH)} (hf : X0_best_19  va a0 x1 x2 x3 x4 h = some z) (hk : Q = QM G X h0 (some (vi z.1)) z.2) {lv : List (Nat × AV)} (hl : lle lv [(0, vr (some a0)), (1, vi x1), (2, vi x2), (3, vi x3), (4, vi x4)]) : V G X 6 h0 Q h 19 lv [] := by
  unfold X0_best_19 at hf
  exact loopC_walk (Wh := fun s : Int32 × Int32 × Int32 × AH => ∀ lv : List (Nat × AV), lle lv [(0, vr (some a0)), (1, vi x1), (2, vi s.1), (3, vi s.2.1), (4, vi s.2.2.1)] → V G X 6 h0 Q s.2.2.2 19 lv []) (PK := fun z => Q = QM G X h0 (some (vi z.1)) z.2) (fun s o hf hk lv hl => W_X0_best_19b ok hr hva hd hf (by cases o <;> exact hk) hl) _ z hf hk lv hl
theorem W_X0_best {G : GT} {X : CX} {d : Nat} {h0 : AH} {Q : State → Prop} (ok : Ok G X RX0 cX0_best 6 d h0) (hr : (cxm X).sig.returnType = (Option.some Jvm.ClassFile.FieldType.int)) {va : VaT} {e : Nat} (hva : DVA G X.2.1 e va) (hd : e + 13 ≤ d) {a0 : Nat} {x1 : Int32} {h : AH} {z : (Int32 × AH)} (hf : X0_best va a0 x1 h = some z) (hk : Q = QM G X h0 (some (vi z.1)) z.2) {lv : List (Nat × AV)} (hl : lle lv [(0, vr (some a0)), (1, vi x1)]) : V G X 6 h0 Q h 0 lv [] := by
  refine V.sub hl ?_
  unfold X0_best at hf
  refine v_aload_n ok 0 dX0_best_0 rfl rfl ?_
  refine v_iload_n ok 1 dX0_best_1 rfl rfl ?_
  refine v_cVi ok (RX0, TX0, 18) cf_0.1 [vi x1] (F := fun a => X0_isWord a x1 h) (fun a v h1 _ hv => M_X0_isWord ok.2.2.2.2.2.2.1 (d := 3) (Nat.le_refl _) hv) (by omega) cw_X0_isWord q1370 q1372 qs39 dX0_best_2 [] rfl (Nat.le_of_ble_eq_true rfl) hf (fun v8 h9 hf => ?_)
  refine v_if_ne ok 10 dX0_best_5 rfl hf (fun hf => ?_) (fun hf => ?_)
  ·
    refine v_iconst ok (-1) dX0_best_10 rfl ?_
    refine v_istore_n ok 2 dX0_best_11 rfl (by decide) ?_
    refine v_ldcw ok q1653 dX0_best_12 ?_
    refine v_istore_n ok 3 dX0_best_15 rfl (by decide) ?_
    refine v_iconst ok 0 dX0_best_16 rfl ?_
    refine v_istore ok dX0_best_17 (by decide) ?_
    exact W_X0_best_19 ok hr hva hd hf hk ⟨rfl, rfl, rfl, rfl, rfl, trivial⟩
  ·
    refine v_iconst ok (-1) dX0_best_8 rfl ?_
    exact v_iret ok hr (by cases hf; exact hk) dX0_best_9
theorem M_X0_best {G : GT} {l : Launch} (hG : Glob G) {va : VaT} {e : Nat} (hva : DVA G l e va) {d : Nat} (hd : e + 13 ≤ d) {a0 : Nat} {x1 : Int32} {h : AH} {v : Int32} {h' : AH} (hf : X0_best va a0 x1 h = some (v, h')) : MM G l yX0_best cX0_best 6 (Option.some Jvm.ClassFile.FieldType.int) d [vr (some a0), vi x1] h (some (vi v)) h' := by
  refine mm_of hG (plainFor_of_name (by decide)) (Nat.le_of_ble_eq_true rfl) (fun X hX ok hr hnm => ?_)
  subst hX
  exact W_X0_best ok hr hva hd hf rfl ⟨rfl, rfl, trivial⟩
