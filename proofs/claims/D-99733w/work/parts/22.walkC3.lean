set_option maxRecDepth 100000
theorem cw_X0_kept : CW yX0_kept cX0_kept 3 (Option.some Jvm.ClassFile.FieldType.int) 2 := ⟨q1396, q168, ⟨by decide, by decide⟩, by decide +kernel, by decide⟩
theorem W_X0_kept {G : GT} {X : CX} {d : Nat} {h0 : AH} {Q : State → Prop} (ok : Ok G X RX0 cX0_kept 3 d h0) (hr : (cxm X).sig.returnType = (Option.some Jvm.ClassFile.FieldType.int)) (hd : 2 ≤ d) {a0 : Nat} {x1 : Int32} {x2 : Int32} {h : AH} {z : (Int32 × AH)} (hf : X0_kept a0 x1 x2 h = some z) (hk : Q = QM G X h0 (some (vi z.1)) z.2) {lv : List (Nat × AV)} (hl : lle lv [(0, vr (some a0)), (1, vi x1), (2, vi x2)]) : V G X 3 h0 Q h 0 lv [] := by
  refine V.sub hl ?_
  unfold X0_kept at hf
  refine v_iload_n ok 1 dX0_kept_0 rfl rfl ?_
  refine v_iconst ok 0 dX0_kept_1 rfl ?_
  refine v_aload_n ok 0 dX0_kept_2 rfl rfl ?_
  refine v_gR ok fl_X0_69 (by first | exact Or.inl ⟨_, rfl⟩ | exact Or.inr ⟨_, rfl⟩) dX0_kept_3 hf (fun v1 hf => ?_)
  refine v_gIN ok fl_X0_224 (fun _ _ _ => rfl) dX0_kept_6 hf (fun v2 hf => ?_)
  refine v_iconst ok 1 dX0_kept_9 rfl ?_
  refine v_isub ok dX0_kept_10 ?_
  refine v_cSi ok [vi x1, vi 0, vi (v2 - 1)] (F := X0_is x1 0 (v2 - 1) h) (fun v h1 hv => M_X0_is ok.2.2.2.2.2.2.1 (d := 1) (Nat.le_refl _) hv) (by exact Nat.le_trans (by decide) hd) cw_X0_is q1355 q899 dX0_kept_11 [] rfl (Nat.le_of_ble_eq_true rfl) hf (fun v3 h4 hf => ?_)
  refine v_if_eq ok 40 dX0_kept_14 rfl hf (fun hf => ?_) (fun hf => ?_)
  ·
    refine v_iconst ok (-1) dX0_kept_40 rfl ?_
    exact v_iret ok hr (by cases hf; exact hk) dX0_kept_41
  ·
    refine v_iload_n ok 2 dX0_kept_17 rfl rfl ?_
    refine v_iconst ok 0 dX0_kept_18 rfl ?_
    refine v_iconst ok 2 dX0_kept_19 rfl ?_
    refine v_cSi ok [vi x2, vi 0, vi 2] (F := X0_is x2 0 2 h4) (fun v h1 hv => M_X0_is ok.2.2.2.2.2.2.1 (d := 1) (Nat.le_refl _) hv) (by exact Nat.le_trans (by decide) hd) cw_X0_is q1355 q899 dX0_kept_20 [] rfl (Nat.le_of_ble_eq_true rfl) hf (fun v5 h6 hf => ?_)
    refine v_if_eq ok 40 dX0_kept_23 rfl hf (fun hf => ?_) (fun hf => ?_)
    ·
      refine v_iconst ok (-1) dX0_kept_40 rfl ?_
      exact v_iret ok hr (by cases hf; exact hk) dX0_kept_41
    ·
      refine v_aload_n ok 0 dX0_kept_26 rfl rfl ?_
      refine v_gR ok fl_X0_69 (by first | exact Or.inl ⟨_, rfl⟩ | exact Or.inr ⟨_, rfl⟩) dX0_kept_27 hf (fun v7 hf => ?_)
      refine v_gRN ok fl_X0_251 (by first | exact Or.inl ⟨_, rfl⟩ | exact Or.inr ⟨_, rfl⟩) dX0_kept_30 hf (fun v8 hf => ?_)
      refine v_iload_n ok 1 dX0_kept_33 rfl rfl ?_
      refine v_aald6 ok rfl dX0_kept_34 hf (fun v9 hf => ?_)
      refine v_iload_n ok 2 dX0_kept_35 rfl rfl ?_
      refine v_iald ok rfl dX0_kept_36 hf (fun v10 hf => ?_)
      refine v_goto ok 41 dX0_kept_37 rfl ?_
      exact v_iret ok hr (by cases hf; exact hk) dX0_kept_41
theorem M_X0_kept {G : GT} {l : Launch} (hG : Glob G) {d : Nat} (hd : 2 ≤ d) {a0 : Nat} {x1 : Int32} {x2 : Int32} {h : AH} {v : Int32} {h' : AH} (hf : X0_kept a0 x1 x2 h = some (v, h')) : MM G l yX0_kept cX0_kept 3 (Option.some Jvm.ClassFile.FieldType.int) d [vr (some a0), vi x1, vi x2] h (some (vi v)) h' := by
  refine mm_of hG (plainFor_of_name (by decide)) (Nat.le_of_ble_eq_true rfl) (fun X hX ok hr hnm => ?_)
  subst hX
  exact W_X0_kept ok hr hd hf rfl ⟨rfl, rfl, rfl, trivial⟩
theorem cw_X0_isSeen : CW yX0_isSeen cX0_isSeen 2 (Option.some Jvm.ClassFile.FieldType.boolean) 2 := ⟨q1403, q168, ⟨by decide, by decide⟩, by decide +kernel, by decide⟩
theorem W_X0_isSeen {G : GT} {X : CX} {d : Nat} {h0 : AH} {Q : State → Prop} (ok : Ok G X RX0 cX0_isSeen 2 d h0) (hr : (cxm X).sig.returnType = (Option.some Jvm.ClassFile.FieldType.boolean)) (hd : 2 ≤ d) {x0 : Int32} {x1 : Int32} {h : AH} {z : (Int32 × AH)} (hf : X0_isSeen x0 x1 h = some z) (hk : Q = QM G X h0 (some (vi z.1)) z.2) {lv : List (Nat × AV)} (hl : lle lv [(0, vi x0), (1, vi x1)]) : V G X 2 h0 Q h 0 lv [] := by
  refine V.sub hl ?_
  unfold X0_isSeen at hf
  refine v_iload_n ok 0 dX0_isSeen_0 rfl rfl ?_
  refine v_iconst ok 0 dX0_isSeen_1 rfl ?_
  refine v_sipush ok 32767 dX0_isSeen_2 rfl ?_
  refine v_cSi ok [vi x0, vi 0, vi 32767] (F := X0_is x0 0 32767 h) (fun v h1 hv => M_X0_is ok.2.2.2.2.2.2.1 (d := 1) (Nat.le_refl _) hv) (by exact Nat.le_trans (by decide) hd) cw_X0_is q1355 q899 dX0_isSeen_5 [] rfl (Nat.le_of_ble_eq_true rfl) hf (fun v1 h2 hf => ?_)
  refine v_if_eq ok 24 dX0_isSeen_8 rfl hf (fun hf => ?_) (fun hf => ?_)
  ·
    refine v_iconst ok 0 dX0_isSeen_24 rfl ?_
    exact v_zretL ok hr (by decide) (by decide) (by cases hf; exact hk) dX0_isSeen_25
  ·
    refine v_iload_n ok 1 dX0_isSeen_11 rfl rfl ?_
    refine v_iconst ok 0 dX0_isSeen_12 rfl ?_
    refine v_iconst ok 3 dX0_isSeen_13 rfl ?_
    refine v_cSi ok [vi x1, vi 0, vi 3] (F := X0_is x1 0 3 h2) (fun v h1 hv => M_X0_is ok.2.2.2.2.2.2.1 (d := 1) (Nat.le_refl _) hv) (by exact Nat.le_trans (by decide) hd) cw_X0_is q1355 q899 dX0_isSeen_14 [] rfl (Nat.le_of_ble_eq_true rfl) hf (fun v3 h4 hf => ?_)
    refine v_if_eq ok 24 dX0_isSeen_17 rfl hf (fun hf => ?_) (fun hf => ?_)
    ·
      refine v_iconst ok 0 dX0_isSeen_24 rfl ?_
      exact v_zretL ok hr (by decide) (by decide) (by cases hf; exact hk) dX0_isSeen_25
    ·
      refine v_iconst ok 1 dX0_isSeen_20 rfl ?_
      refine v_goto ok 25 dX0_isSeen_21 rfl ?_
      exact v_zretL ok hr (by decide) (by decide) (by cases hf; exact hk) dX0_isSeen_25
theorem M_X0_isSeen {G : GT} {l : Launch} (hG : Glob G) {d : Nat} (hd : 2 ≤ d) {x0 : Int32} {x1 : Int32} {h : AH} {v : Int32} {h' : AH} (hf : X0_isSeen x0 x1 h = some (v, h')) : MM G l yX0_isSeen cX0_isSeen 2 (Option.some Jvm.ClassFile.FieldType.boolean) d [vi x0, vi x1] h (some (vi v)) h' := by
  refine mm_of hG (plainFor_of_name (by decide)) (Nat.le_of_ble_eq_true rfl) (fun X hX ok hr hnm => ?_)
  subst hX
  exact W_X0_isSeen ok hr hd hf rfl ⟨rfl, rfl, trivial⟩
theorem cw_X0_turned : CW yX0_turned cX0_turned 7 (Option.some Jvm.ClassFile.FieldType.int) 2 := ⟨q1406, q168, ⟨by decide, by decide⟩, by decide +kernel, by decide⟩
def pkX0_turned_4 (G : GT) (X : CX) (h0 : AH) (Q : State → Prop) (x0 : Int32) (x1 : Int32) (o : ((Int32 × Int32 × AH) ⊕ (Int32 × AH))) : Prop := match o with
  | .inl s => ∀ lv : List (Nat × AV), lle lv [(0, vi x0), (1, vi x1), (2, vi s.1), (3, vi s.2.1)] → V G X 7 h0 Q s.2.2 4 lv []
  | .inr z => Q = QM G X h0 (some (vi z.1)) z.2
def pkX0_turned_12 (G : GT) (X : CX) (h0 : AH) (Q : State → Prop) (x0 : Int32) (x1 : Int32) (x3 : Int32) (o : ((Int32 × Int32 × AH) ⊕ ((Int32 × Int32 × AH) ⊕ (Int32 × AH)))) : Prop := match o with
  | .inl s => ∀ lv : List (Nat × AV), lle lv [(0, vi x0), (1, vi x1), (2, vi s.1), (3, vi x3), (4, vi s.2.1)] → V G X 7 h0 Q s.2.2 12 lv []
  | .inr z => pkX0_turned_4 G X h0 Q x0 x1 z
theorem W_X0_turned_56 {G : GT} {X : CX} {d : Nat} {h0 : AH} {Q : State → Prop} (ok : Ok G X RX0 cX0_turned 7 d h0) (hr : (cxm X).sig.returnType = (Option.some Jvm.ClassFile.FieldType.int)) (hd : 1 ≤ d) {x0 : Int32} {x1 : Int32} {x2 : Int32} {x3 : Int32} {x4 : Int32} {x5 : Int32} {s0 : Int32} {h : AH} {z : ((Int32 × Int32 × AH) ⊕ ((Int32 × Int32 × AH) ⊕ (Int32 × AH)))} (hf : X0_turned_56 x0 x1 x2 x3 x4 x5 s0 h = some z) (hk : pkX0_turned_12 G X h0 Q x0 x1 x3 z) {lv : List (Nat × AV)} (hl : lle lv [(0, vi x0), (1, vi x1), (2, vi x2), (3, vi x3), (4, vi x4), (5, vi x5)]) : V G X 7 h0 Q h 56 lv [vi s0] := by
  refine V.sub hl ?_
  unfold X0_turned_56 at hf
  refine v_istore ok dX0_turned_56 (by decide) ?_
  refine v_iload_n ok 2 dX0_turned_58 rfl rfl ?_
  refine v_iload_n ok 0 dX0_turned_59 rfl rfl ?_
  refine v_iconst ok 3 dX0_turned_60 rfl ?_
  refine v_iload_n ok 3 dX0_turned_61 rfl rfl ?_
  refine v_imul ok dX0_turned_62 ?_
  refine v_iload ok dX0_turned_63 rfl ?_
  refine v_iadd ok dX0_turned_65 ?_
  refine v_ishr ok dX0_turned_66 ?_
  refine v_iconst ok 1 dX0_turned_67 rfl ?_
  refine v_iand ok dX0_turned_68 ?_
  refine v_iconst ok 3 dX0_turned_69 rfl ?_
  refine v_iload ok dX0_turned_70 rfl ?_
  refine v_imul ok dX0_turned_72 ?_
  refine v_iload ok dX0_turned_73 rfl ?_
  refine v_iadd ok dX0_turned_75 ?_
  refine v_ishl ok dX0_turned_76 ?_
  refine v_ior ok dX0_turned_77 ?_
  refine v_istore_n ok 2 dX0_turned_78 rfl (by decide) ?_
  refine v_iinc ok x4 (x4 + 1) dX0_turned_79 rfl rfl (by decide) ?_
  refine v_goto ok 12 dX0_turned_82 rfl ?_
  cases hf; exact hk _ ⟨rfl, rfl, rfl, rfl, rfl, trivial⟩
theorem W_X0_turned_47 {G : GT} {X : CX} {d : Nat} {h0 : AH} {Q : State → Prop} (ok : Ok G X RX0 cX0_turned 7 d h0) (hr : (cxm X).sig.returnType = (Option.some Jvm.ClassFile.FieldType.int)) (hd : 1 ≤ d) {x0 : Int32} {x1 : Int32} {x2 : Int32} {x3 : Int32} {x4 : Int32} {x5 : Int32} {h : AH} {z : ((Int32 × Int32 × AH) ⊕ ((Int32 × Int32 × AH) ⊕ (Int32 × AH)))} (hf : X0_turned_47 x0 x1 x2 x3 x4 x5 h = some z) (hk : pkX0_turned_12 G X h0 Q x0 x1 x3 z) {lv : List (Nat × AV)} (hl : lle lv [(0, vi x0), (1, vi x1), (2, vi x2), (3, vi x3), (4, vi x4), (5, vi x5)]) : V G X 7 h0 Q h 47 lv [] := by
  refine V.sub hl ?_
  unfold X0_turned_47 at hf
  refine v_iconst ok 2 dX0_turned_47 rfl ?_
  refine v_iload ok dX0_turned_48 rfl ?_
  refine v_isub ok dX0_turned_50 ?_
  refine v_goto ok 56 dX0_turned_51 rfl ?_
  exact W_X0_turned_56 ok hr hd hf hk ⟨rfl, rfl, rfl, rfl, rfl, rfl, trivial⟩
theorem W_X0_turned_35 {G : GT} {X : CX} {d : Nat} {h0 : AH} {Q : State → Prop} (ok : Ok G X RX0 cX0_turned 7 d h0) (hr : (cxm X).sig.returnType = (Option.some Jvm.ClassFile.FieldType.int)) (hd : 1 ≤ d) {x0 : Int32} {x1 : Int32} {x2 : Int32} {x3 : Int32} {x4 : Int32} {s0 : Int32} {h : AH} {z : ((Int32 × Int32 × AH) ⊕ ((Int32 × Int32 × AH) ⊕ (Int32 × AH)))} (hf : X0_turned_35 x0 x1 x2 x3 x4 s0 h = some z) (hk : pkX0_turned_12 G X h0 Q x0 x1 x3 z) {lv : List (Nat × AV)} (hl : lle lv [(0, vi x0), (1, vi x1), (2, vi x2), (3, vi x3), (4, vi x4)]) : V G X 7 h0 Q h 35 lv [vi s0] := by
  refine V.sub hl ?_
  unfold X0_turned_35 at hf
  refine v_istore ok dX0_turned_35 (by decide) ?_
  refine v_iload_n ok 1 dX0_turned_37 rfl rfl ?_
  refine v_iconst ok 1 dX0_turned_38 rfl ?_
  refine v_icmp_eq ok 47 dX0_turned_39 rfl hf (fun hf => ?_) (fun hf => ?_)
  ·
    exact W_X0_turned_47 ok hr hd hf hk ⟨rfl, rfl, rfl, rfl, rfl, rfl, trivial⟩
  ·
    refine v_iload_n ok 1 dX0_turned_42 rfl rfl ?_
    refine v_iconst ok 3 dX0_turned_43 rfl ?_
    refine v_icmp_ne ok 54 dX0_turned_44 rfl hf (fun hf => ?_) (fun hf => ?_)
    ·
      refine v_iload ok dX0_turned_54 rfl ?_
      exact W_X0_turned_56 ok hr hd hf hk ⟨rfl, rfl, rfl, rfl, rfl, rfl, trivial⟩
    ·
      exact W_X0_turned_47 ok hr hd hf hk ⟨rfl, rfl, rfl, rfl, rfl, rfl, trivial⟩
theorem W_X0_turned_28 {G : GT} {X : CX} {d : Nat} {h0 : AH} {Q : State → Prop} (ok : Ok G X RX0 cX0_turned 7 d h0) (hr : (cxm X).sig.returnType = (Option.some Jvm.ClassFile.FieldType.int)) (hd : 1 ≤ d) {x0 : Int32} {x1 : Int32} {x2 : Int32} {x3 : Int32} {x4 : Int32} {h : AH} {z : ((Int32 × Int32 × AH) ⊕ ((Int32 × Int32 × AH) ⊕ (Int32 × AH)))} (hf : X0_turned_28 x0 x1 x2 x3 x4 h = some z) (hk : pkX0_turned_12 G X h0 Q x0 x1 x3 z) {lv : List (Nat × AV)} (hl : lle lv [(0, vi x0), (1, vi x1), (2, vi x2), (3, vi x3), (4, vi x4)]) : V G X 7 h0 Q h 28 lv [] := by
  refine V.sub hl ?_
  unfold X0_turned_28 at hf
  refine v_iconst ok 4 dX0_turned_28 rfl ?_
  refine v_iload_n ok 3 dX0_turned_29 rfl rfl ?_
  refine v_isub ok dX0_turned_30 ?_
  refine v_goto ok 35 dX0_turned_31 rfl ?_
  exact W_X0_turned_35 ok hr hd hf hk ⟨rfl, rfl, rfl, rfl, rfl, trivial⟩
theorem W_X0_turned_12b {G : GT} {X : CX} {d : Nat} {h0 : AH} {Q : State → Prop} (ok : Ok G X RX0 cX0_turned 7 d h0) (hr : (cxm X).sig.returnType = (Option.some Jvm.ClassFile.FieldType.int)) (hd : 1 ≤ d) {x0 : Int32} {x1 : Int32} {x3 : Int32} {x2 : Int32} {x4 : Int32} {h : AH} {z : ((Int32 × Int32 × AH) ⊕ ((Int32 × Int32 × AH) ⊕ (Int32 × AH)))} (hf : X0_turned_12b  x0 x1 x3 x2 x4 h = some z) (hk : pkX0_turned_12 G X h0 Q x0 x1 x3 z) {lv : List (Nat × AV)} (hl : lle lv [(0, vi x0), (1, vi x1), (2, vi x2), (3, vi x3), (4, vi x4)]) : V G X 7 h0 Q h 12 lv [] := by
  refine V.sub hl ?_
  unfold X0_turned_12b at hf
  refine v_iload ok dX0_turned_12 rfl ?_
  refine v_iconst ok 3 dX0_turned_14 rfl ?_
  refine v_icmp_ge ok 85 dX0_turned_15 rfl hf (fun hf => ?_) (fun hf => ?_)
  ·
    refine v_iinc ok x3 (x3 + 1) dX0_turned_85 rfl rfl (by decide) ?_
    refine v_goto ok 4 dX0_turned_88 rfl ?_
    cases hf; exact hk _ ⟨rfl, rfl, rfl, rfl, trivial⟩
  ·
    refine v_iload_n ok 1 dX0_turned_18 rfl rfl ?_
    refine v_iconst ok 1 dX0_turned_19 rfl ?_
    refine v_icmp_eq ok 28 dX0_turned_20 rfl hf (fun hf => ?_) (fun hf => ?_)
    ·
      exact W_X0_turned_28 ok hr hd hf hk ⟨rfl, rfl, rfl, rfl, rfl, trivial⟩
    ·
      refine v_iload_n ok 1 dX0_turned_23 rfl rfl ?_
      refine v_iconst ok 2 dX0_turned_24 rfl ?_
      refine v_icmp_ne ok 34 dX0_turned_25 rfl hf (fun hf => ?_) (fun hf => ?_)
      ·
        refine v_iload_n ok 3 dX0_turned_34 rfl rfl ?_
        exact W_X0_turned_35 ok hr hd hf hk ⟨rfl, rfl, rfl, rfl, rfl, trivial⟩
      ·
        exact W_X0_turned_28 ok hr hd hf hk ⟨rfl, rfl, rfl, rfl, rfl, trivial⟩
theorem W_X0_turned_12 {G : GT} {X : CX} {d : Nat} {h0 : AH} {Q : State → Prop} (ok : Ok G X RX0 cX0_turned 7 d h0) (hr : (cxm X).sig.returnType = (Option.some Jvm.ClassFile.FieldType.int)) (hd : 1 ≤ d) {x0 : Int32} {x1 : Int32} {x2 : Int32} {x3 : Int32} {x4 : Int32} {h : AH} {z : ((Int32 × Int32 × AH) ⊕ (Int32 × AH))} (hf : X0_turned_12  x0 x1 x2 x3 x4 h = some z) (hk : pkX0_turned_4 G X h0 Q x0 x1 z) {lv : List (Nat × AV)} (hl : lle lv [(0, vi x0), (1, vi x1), (2, vi x2), (3, vi x3), (4, vi x4)]) : V G X 7 h0 Q h 12 lv [] := by
  unfold X0_turned_12 at hf
  exact loopC_walk (Wh := fun s : Int32 × Int32 × AH => ∀ lv : List (Nat × AV), lle lv [(0, vi x0), (1, vi x1), (2, vi s.1), (3, vi x3), (4, vi s.2.1)] → V G X 7 h0 Q s.2.2 12 lv []) (PK := fun z => pkX0_turned_4 G X h0 Q x0 x1 z) (fun s o hf hk lv hl => W_X0_turned_12b ok hr hd hf (by cases o <;> exact hk) hl) _ z hf hk lv hl
theorem W_X0_turned_4b {G : GT} {X : CX} {d : Nat} {h0 : AH} {Q : State → Prop} (ok : Ok G X RX0 cX0_turned 7 d h0) (hr : (cxm X).sig.returnType = (Option.some Jvm.ClassFile.FieldType.int)) (hd : 1 ≤ d) {x0 : Int32} {x1 : Int32} {x2 : Int32} {x3 : Int32} {h : AH} {z : ((Int32 × Int32 × AH) ⊕ (Int32 × AH))} (hf : X0_turned_4b  x0 x1 x2 x3 h = some z) (hk : pkX0_turned_4 G X h0 Q x0 x1 z) {lv : List (Nat × AV)} (hl : lle lv [(0, vi x0), (1, vi x1), (2, vi x2), (3, vi x3)]) : V G X 7 h0 Q h 4 lv [] := by
  refine V.sub hl ?_
  unfold X0_turned_4b at hf
  refine v_iload_n ok 3 dX0_turned_4 rfl rfl ?_
  refine v_iconst ok 5 dX0_turned_5 rfl ?_
  refine v_icmp_ge ok 91 dX0_turned_6 rfl hf (fun hf => ?_) (fun hf => ?_)
  ·
    refine v_iload_n ok 2 dX0_turned_91 rfl rfl ?_
    exact v_iret ok hr (by cases hf; exact hk) dX0_turned_92
  ·
    refine v_iconst ok 0 dX0_turned_9 rfl ?_
    refine v_istore ok dX0_turned_10 (by decide) ?_
    exact W_X0_turned_12 ok hr hd hf hk ⟨rfl, rfl, rfl, rfl, rfl, trivial⟩
theorem W_X0_turned_4 {G : GT} {X : CX} {d : Nat} {h0 : AH} {Q : State → Prop} (ok : Ok G X RX0 cX0_turned 7 d h0) (hr : (cxm X).sig.returnType = (Option.some Jvm.ClassFile.FieldType.int)) (hd : 1 ≤ d) {x0 : Int32} {x1 : Int32} {x2 : Int32} {x3 : Int32} {h : AH} {z : (Int32 × AH)} (hf : X0_turned_4  x0 x1 x2 x3 h = some z) (hk : Q = QM G X h0 (some (vi z.1)) z.2) {lv : List (Nat × AV)} (hl : lle lv [(0, vi x0), (1, vi x1), (2, vi x2), (3, vi x3)]) : V G X 7 h0 Q h 4 lv [] := by
  unfold X0_turned_4 at hf
  exact loopC_walk (Wh := fun s : Int32 × Int32 × AH => ∀ lv : List (Nat × AV), lle lv [(0, vi x0), (1, vi x1), (2, vi s.1), (3, vi s.2.1)] → V G X 7 h0 Q s.2.2 4 lv []) (PK := fun z => Q = QM G X h0 (some (vi z.1)) z.2) (fun s o hf hk lv hl => W_X0_turned_4b ok hr hd hf (by cases o <;> exact hk) hl) _ z hf hk lv hl
theorem W_X0_turned {G : GT} {X : CX} {d : Nat} {h0 : AH} {Q : State → Prop} (ok : Ok G X RX0 cX0_turned 7 d h0) (hr : (cxm X).sig.returnType = (Option.some Jvm.ClassFile.FieldType.int)) (hd : 1 ≤ d) {x0 : Int32} {x1 : Int32} {h : AH} {z : (Int32 × AH)} (hf : X0_turned x0 x1 h = some z) (hk : Q = QM G X h0 (some (vi z.1)) z.2) {lv : List (Nat × AV)} (hl : lle lv [(0, vi x0), (1, vi x1)]) : V G X 7 h0 Q h 0 lv [] := by
  refine V.sub hl ?_
  unfold X0_turned at hf
  refine v_iconst ok 0 dX0_turned_0 rfl ?_
  refine v_istore_n ok 2 dX0_turned_1 rfl (by decide) ?_
  refine v_iconst ok 0 dX0_turned_2 rfl ?_
  refine v_istore_n ok 3 dX0_turned_3 rfl (by decide) ?_
  exact W_X0_turned_4 ok hr hd hf hk ⟨rfl, rfl, rfl, rfl, trivial⟩
theorem M_X0_turned {G : GT} {l : Launch} (hG : Glob G) {d : Nat} (hd : 1 ≤ d) {x0 : Int32} {x1 : Int32} {h : AH} {v : Int32} {h' : AH} (hf : X0_turned x0 x1 h = some (v, h')) : MM G l yX0_turned cX0_turned 7 (Option.some Jvm.ClassFile.FieldType.int) d [vi x0, vi x1] h (some (vi v)) h' := by
  refine mm_of hG (plainFor_of_name (by decide)) (Nat.le_of_ble_eq_true rfl) (fun X hX ok hr hnm => ?_)
  subst hX
  exact W_X0_turned ok hr hd hf rfl ⟨rfl, rfl, trivial⟩
theorem cw_X0_seen : CW yX0_seen cX0_seen 3 (Option.some Jvm.ClassFile.FieldType.int) 2 := ⟨q1400, q168, ⟨by decide, by decide⟩, by decide +kernel, by decide⟩
theorem W_X0_seen {G : GT} {X : CX} {d : Nat} {h0 : AH} {Q : State → Prop} (ok : Ok G X RX0 cX0_seen 3 d h0) (hr : (cxm X).sig.returnType = (Option.some Jvm.ClassFile.FieldType.int)) (hd : 3 ≤ d) {a0 : Nat} {x1 : Int32} {x2 : Int32} {h : AH} {z : (Int32 × AH)} (hf : X0_seen a0 x1 x2 h = some z) (hk : Q = QM G X h0 (some (vi z.1)) z.2) {lv : List (Nat × AV)} (hl : lle lv [(0, vr (some a0)), (1, vi x1), (2, vi x2)]) : V G X 3 h0 Q h 0 lv [] := by
  refine V.sub hl ?_
  unfold X0_seen at hf
  refine v_iload_n ok 1 dX0_seen_0 rfl rfl ?_
  refine v_iload_n ok 2 dX0_seen_1 rfl rfl ?_
  refine v_cSi ok [vi x1, vi x2] (F := X0_isSeen x1 x2 h) (fun v h1 hv => M_X0_isSeen ok.2.2.2.2.2.2.1 (d := 2) (Nat.le_refl _) hv) (by exact Nat.le_trans (by decide) hd) cw_X0_isSeen q1401 q1402 dX0_seen_2 [] rfl (Nat.le_of_ble_eq_true rfl) hf (fun v1 h2 hf => ?_)
  refine v_if_eq ok 16 dX0_seen_5 rfl hf (fun hf => ?_) (fun hf => ?_)
  ·
    refine v_iconst ok (-1) dX0_seen_16 rfl ?_
    exact v_iret ok hr (by cases hf; exact hk) dX0_seen_17
  ·
    refine v_iload_n ok 1 dX0_seen_8 rfl rfl ?_
    refine v_iload_n ok 2 dX0_seen_9 rfl rfl ?_
    refine v_cSi ok [vi x1, vi x2] (F := X0_turned x1 x2 h2) (fun v h1 hv => M_X0_turned ok.2.2.2.2.2.2.1 (d := 1) (Nat.le_refl _) hv) (by exact Nat.le_trans (by decide) hd) cw_X0_turned q1404 q1405 dX0_seen_10 [] rfl (Nat.le_of_ble_eq_true rfl) hf (fun v3 h4 hf => ?_)
    refine v_goto ok 17 dX0_seen_13 rfl ?_
    exact v_iret ok hr (by cases hf; exact hk) dX0_seen_17
theorem M_X0_seen {G : GT} {l : Launch} (hG : Glob G) {d : Nat} (hd : 3 ≤ d) {a0 : Nat} {x1 : Int32} {x2 : Int32} {h : AH} {v : Int32} {h' : AH} (hf : X0_seen a0 x1 x2 h = some (v, h')) : MM G l yX0_seen cX0_seen 3 (Option.some Jvm.ClassFile.FieldType.int) d [vr (some a0), vi x1, vi x2] h (some (vi v)) h' := by
  refine mm_of hG (plainFor_of_name (by decide)) (Nat.le_of_ble_eq_true rfl) (fun X hX ok hr hnm => ?_)
  subst hX
  exact W_X0_seen ok hr hd hf rfl ⟨rfl, rfl, rfl, trivial⟩
theorem cw_X0_doubtOf : CW yX0_doubtOf cX0_doubtOf 5 (Option.some Jvm.ClassFile.FieldType.long) 2 := ⟨q1414, q168, ⟨by decide, by decide⟩, by decide +kernel, by decide⟩
theorem W_X0_doubtOf {G : GT} {X : CX} {d : Nat} {h0 : AH} {Q : State → Prop} (ok : Ok G X RX0 cX0_doubtOf 5 d h0) (hr : (cxm X).sig.returnType = (Option.some Jvm.ClassFile.FieldType.long)) {va : VaT} {e : Nat} (hva : DVA G X.2.1 e va) (hd : e + 3 ≤ d) {a0 : Nat} {x1 : Option Nat} {x2 : Int32} {h : AH} {z : (Int64 × AH)} (hf : X0_doubtOf va a0 x1 x2 h = some z) (hk : Q = QM G X h0 (some (vl z.1)) z.2) {lv : List (Nat × AV)} (hl : lle lv [(0, vr (some a0)), (1, vr x1), (2, vi x2)]) : V G X 5 h0 Q h 0 lv [] := by
  refine V.sub hl ?_
  unfold X0_doubtOf at hf
  refine v_iload_n ok 2 dX0_doubtOf_0 rfl rfl ?_
  refine v_aload_n ok 1 dX0_doubtOf_1 rfl rfl ?_
  refine v_gIN ok fl_X0_177 (fun _ _ _ => rfl) dX0_doubtOf_2 hf (fun v1 hf => ?_)
  refine v_iconst ok (-1) dX0_doubtOf_5 rfl ?_
  refine v_ixor ok dX0_doubtOf_6 ?_
  refine v_iand ok dX0_doubtOf_7 ?_
  refine v_cSi ok [vi (x2 &&& (v1 ^^^ (-1)))] (F := J16_bitCount (x2 &&& (v1 ^^^ (-1))) h) (fun v h1 hv => M_J16_bitCount ok.2.2.2.2.2.2.1 (d := 1) (Nat.le_refl _) hv) (by omega) cw_J16_bitCount q1415 q1339 dX0_doubtOf_8 [] rfl (Nat.le_of_ble_eq_true rfl) hf (fun v2 h3 hf => ?_)
  refine v_istore_n ok 3 dX0_doubtOf_11 rfl (by decide) ?_
  refine v_aload_n ok 1 dX0_doubtOf_12 rfl rfl ?_
  refine v_gIN ok fl_X0_177 (fun _ _ _ => rfl) dX0_doubtOf_13 hf (fun v4 hf => ?_)
  refine v_iload_n ok 2 dX0_doubtOf_16 rfl rfl ?_
  refine v_iconst ok (-1) dX0_doubtOf_17 rfl ?_
  refine v_ixor ok dX0_doubtOf_18 ?_
  refine v_iand ok dX0_doubtOf_19 ?_
  refine v_cSi ok [vi (v4 &&& (x2 ^^^ (-1)))] (F := J16_bitCount (v4 &&& (x2 ^^^ (-1))) h3) (fun v h1 hv => M_J16_bitCount ok.2.2.2.2.2.2.1 (d := 1) (Nat.le_refl _) hv) (by omega) cw_J16_bitCount q1415 q1339 dX0_doubtOf_20 [] rfl (Nat.le_of_ble_eq_true rfl) hf (fun v5 h6 hf => ?_)
  refine v_istore ok dX0_doubtOf_23 (by decide) ?_
  refine v_aload_n ok 0 dX0_doubtOf_25 rfl rfl ?_
  refine v_gR ok fl_X0_31 (by first | exact Or.inl ⟨_, rfl⟩ | exact Or.inr ⟨_, rfl⟩) dX0_doubtOf_26 hf (fun v7 hf => ?_)
  refine v_gRN ok fl_X0_185 (by first | exact Or.inl ⟨_, rfl⟩ | exact Or.inr ⟨_, rfl⟩) dX0_doubtOf_29 hf (fun v8 hf => ?_)
  refine v_ifnonnull ok 46 dX0_doubtOf_32 rfl hf (fun hf => ?_) (fun hf => ?_)
  ·
    refine v_aload_n ok 0 dX0_doubtOf_46 rfl rfl ?_
    refine v_gR ok fl_X0_55 (by first | exact Or.inl ⟨_, rfl⟩ | exact Or.inr ⟨_, rfl⟩) dX0_doubtOf_47 hf (fun v9 hf => ?_)
    refine v_gRN ok fl_X0_191 (by first | exact Or.inl ⟨_, rfl⟩ | exact Or.inr ⟨_, rfl⟩) dX0_doubtOf_50 hf (fun v10 hf => ?_)
    refine v_iconst ok 0 dX0_doubtOf_53 rfl ?_
    refine v_iload_n ok 3 dX0_doubtOf_54 rfl rfl ?_
    refine v_i2l ok dX0_doubtOf_55 ?_
    refine v_last ok rfl dX0_doubtOf_56 hf (fun h11 hf => ?_)
    refine v_aload_n ok 0 dX0_doubtOf_57 rfl rfl ?_
    refine v_gR ok fl_X0_55 (by first | exact Or.inl ⟨_, rfl⟩ | exact Or.inr ⟨_, rfl⟩) dX0_doubtOf_58 hf (fun v12 hf => ?_)
    refine v_gRN ok fl_X0_191 (by first | exact Or.inl ⟨_, rfl⟩ | exact Or.inr ⟨_, rfl⟩) dX0_doubtOf_61 hf (fun v13 hf => ?_)
    refine v_iconst ok 1 dX0_doubtOf_64 rfl ?_
    refine v_iload ok dX0_doubtOf_65 rfl ?_
    refine v_i2l ok dX0_doubtOf_67 ?_
    refine v_last ok rfl dX0_doubtOf_68 hf (fun h14 hf => ?_)
    refine v_aload_n ok 0 dX0_doubtOf_69 rfl rfl ?_
    refine v_gR ok fl_X0_55 (by first | exact Or.inl ⟨_, rfl⟩ | exact Or.inr ⟨_, rfl⟩) dX0_doubtOf_70 hf (fun v15 hf => ?_)
    refine v_gRN ok fl_X0_191 (by first | exact Or.inl ⟨_, rfl⟩ | exact Or.inr ⟨_, rfl⟩) dX0_doubtOf_73 hf (fun v16 hf => ?_)
    refine v_iconst ok 2 dX0_doubtOf_76 rfl ?_
    refine v_aload_n ok 1 dX0_doubtOf_77 rfl rfl ?_
    refine v_cVi ok (RX8, TX8, 2) cf_8.1 [] (F := fun a => X8_ink a h14) (fun a v h1 _ hv => M_X8_ink ok.2.2.2.2.2.2.1 (d := 2) (Nat.le_refl _) hv) (by omega) cw_X8_ink q1361 q1362 q1363 dX0_doubtOf_78 [vi 2, vr v16] rfl (Nat.le_of_ble_eq_true rfl) hf (fun v17 h18 hf => ?_)
    refine v_i2l ok dX0_doubtOf_81 ?_
    refine v_last ok rfl dX0_doubtOf_82 hf (fun h19 hf => ?_)
    refine v_lconst ok 0 dX0_doubtOf_83 rfl ?_
    refine v_aload_n ok 0 dX0_doubtOf_84 rfl rfl ?_
    refine v_gR ok fl_X0_31 (by first | exact Or.inl ⟨_, rfl⟩ | exact Or.inr ⟨_, rfl⟩) dX0_doubtOf_85 hf (fun v20 hf => ?_)
    refine v_gRN ok fl_X0_185 (by first | exact Or.inl ⟨_, rfl⟩ | exact Or.inr ⟨_, rfl⟩) dX0_doubtOf_88 hf (fun v21 hf => ?_)
    refine v_aload_n ok 0 dX0_doubtOf_91 rfl rfl ?_
    refine v_gR ok fl_X0_55 (by first | exact Or.inl ⟨_, rfl⟩ | exact Or.inr ⟨_, rfl⟩) dX0_doubtOf_92 hf (fun v22 hf => ?_)
    refine v_dva ok hva (by omega) q1417 dX0_doubtOf_95 (Nat.le_of_ble_eq_true rfl) hf (fun v23 h24 hf => ?_)
    refine v_cSl ok [vl 0, vl v23] (F := J4_max_2 0 v23 h24) (fun v h1 hv => M_J4_max_2 ok.2.2.2.2.2.2.1 (d := 1) (Nat.le_refl _) hv) (by omega) cw_J4_max_2 q1431 q1432 dX0_doubtOf_98 [] rfl (Nat.le_of_ble_eq_true rfl) hf (fun v25 h26 hf => ?_)
    exact v_lret ok hr (by cases hf; exact hk) dX0_doubtOf_101
  ·
    refine v_iload_n ok 3 dX0_doubtOf_35 rfl rfl ?_
    refine v_i2l ok dX0_doubtOf_36 ?_
    refine v_ldc2 ok q1416 dX0_doubtOf_37 ?_
    refine v_iload ok dX0_doubtOf_40 rfl ?_
    refine v_i2l ok dX0_doubtOf_42 ?_
    refine v_lmul ok dX0_doubtOf_43 ?_
    refine v_ladd ok dX0_doubtOf_44 ?_
    exact v_lret ok hr (by cases hf; exact hk) dX0_doubtOf_45
theorem M_X0_doubtOf {G : GT} {l : Launch} (hG : Glob G) {va : VaT} {e : Nat} (hva : DVA G l e va) {d : Nat} (hd : e + 3 ≤ d) {a0 : Nat} {x1 : Option Nat} {x2 : Int32} {h : AH} {v : Int64} {h' : AH} (hf : X0_doubtOf va a0 x1 x2 h = some (v, h')) : MM G l yX0_doubtOf cX0_doubtOf 5 (Option.some Jvm.ClassFile.FieldType.long) d [vr (some a0), vr x1, vi x2] h (some (vl v)) h' := by
  refine mm_of hG (plainFor_of_name (by decide)) (Nat.le_of_ble_eq_true rfl) (fun X hX ok hr hnm => ?_)
  subst hX
  exact W_X0_doubtOf ok hr hva hd hf rfl ⟨rfl, rfl, rfl, trivial⟩
theorem cw_X0_doubt : CW yX0_doubt cX0_doubt 4 (Option.some Jvm.ClassFile.FieldType.long) 3 := ⟨q1410, q168, ⟨by decide, by decide⟩, by decide +kernel, by decide⟩
theorem W_X0_doubt_34 {G : GT} {X : CX} {d : Nat} {h0 : AH} {Q : State → Prop} (ok : Ok G X RX0 cX0_doubt 4 d h0) (hr : (cxm X).sig.returnType = (Option.some Jvm.ClassFile.FieldType.long)) {va : VaT} {e : Nat} (hva : DVA G X.2.1 e va) (hd : e + 6 ≤ d) {h : AH} {z : (Int64 × AH)} (hf : X0_doubt_34 va h = some z) (hk : Q = QM G X h0 (some (vl z.1)) z.2) {lv : List (Nat × AV)} (hl : lle lv []) : V G X 4 h0 Q h 34 lv [] := by
  refine V.sub hl ?_
  unfold X0_doubt_34 at hf
  refine v_ldc2 ok q1531 dX0_doubt_34 ?_
  exact v_lret ok hr (by cases hf; exact hk) dX0_doubt_37
theorem W_X0_doubt {G : GT} {X : CX} {d : Nat} {h0 : AH} {Q : State → Prop} (ok : Ok G X RX0 cX0_doubt 4 d h0) (hr : (cxm X).sig.returnType = (Option.some Jvm.ClassFile.FieldType.long)) {va : VaT} {e : Nat} (hva : DVA G X.2.1 e va) (hd : e + 6 ≤ d) {a0 : Nat} {x1 : Int32} {x2 : Int32} {x3 : Int32} {h : AH} {z : (Int64 × AH)} (hf : X0_doubt va a0 x1 x2 x3 h = some z) (hk : Q = QM G X h0 (some (vl z.1)) z.2) {lv : List (Nat × AV)} (hl : lle lv [(0, vr (some a0)), (1, vi x1), (2, vi x2), (3, vi x3)]) : V G X 4 h0 Q h 0 lv [] := by
  refine V.sub hl ?_
  unfold X0_doubt at hf
  refine v_aload_n ok 0 dX0_doubt_0 rfl rfl ?_
  refine v_iload_n ok 1 dX0_doubt_1 rfl rfl ?_
  refine v_iload_n ok 2 dX0_doubt_2 rfl rfl ?_
  refine v_cVi ok (RX0, TX0, 18) cf_0.1 [vi x1, vi x2] (F := fun a => X0_isLetterOf a x1 x2 h) (fun a v h1 _ hv => M_X0_isLetterOf ok.2.2.2.2.2.2.1 (d := 5) (Nat.le_refl _) hv) (by omega) cw_X0_isLetterOf q1348 q1350 qs37 dX0_doubt_3 [] rfl (Nat.le_of_ble_eq_true rfl) hf (fun v1 h2 hf => ?_)
  refine v_if_eq ok 34 dX0_doubt_6 rfl hf (fun hf => ?_) (fun hf => ?_)
  ·
    exact W_X0_doubt_34 ok hr hva hd hf hk trivial
  ·
    refine v_iload_n ok 3 dX0_doubt_9 rfl rfl ?_
    refine v_iconst ok 0 dX0_doubt_10 rfl ?_
    refine v_sipush ok 32767 dX0_doubt_11 rfl ?_
    refine v_cSi ok [vi x3, vi 0, vi 32767] (F := X0_is x3 0 32767 h2) (fun v h1 hv => M_X0_is ok.2.2.2.2.2.2.1 (d := 1) (Nat.le_refl _) hv) (by omega) cw_X0_is q1355 q899 dX0_doubt_14 [] rfl (Nat.le_of_ble_eq_true rfl) hf (fun v3 h4 hf => ?_)
    refine v_if_eq ok 34 dX0_doubt_17 rfl hf (fun hf => ?_) (fun hf => ?_)
    ·
      exact W_X0_doubt_34 ok hr hva hd hf hk trivial
    ·
      refine v_aload_n ok 0 dX0_doubt_20 rfl rfl ?_
      refine v_aload_n ok 0 dX0_doubt_21 rfl rfl ?_
      refine v_iload_n ok 1 dX0_doubt_22 rfl rfl ?_
      refine v_iload_n ok 2 dX0_doubt_23 rfl rfl ?_
      refine v_cVr ok (RX0, TX0, 18) cf_0.1 [vi x1, vi x2] (F := fun a => X0_letterOf a x1 x2 h4) (fun a v h1 _ hv => M_X0_letterOf ok.2.2.2.2.2.2.1 (d := 4) (Nat.le_refl _) hv) (by omega) cw_X0_letterOf q1356 q1358 qs38 dX0_doubt_24 [vr (some a0)] rfl (Nat.le_of_ble_eq_true rfl) hf (fun v5 h6 hf => ?_)
      refine v_iload_n ok 3 dX0_doubt_27 rfl rfl ?_
      refine v_cVl ok (RX0, TX0, 18) cf_0.1 [vr v5, vi x3] (F := fun a => X0_doubtOf va a v5 x3 h6) (fun a v h1 _ hv => M_X0_doubtOf ok.2.2.2.2.2.2.1 hva (d := e + 3) (Nat.le_refl _) hv) (by omega) cw_X0_doubtOf q1411 q1413 qs42 dX0_doubt_28 [] rfl (Nat.le_of_ble_eq_true rfl) hf (fun v7 h8 hf => ?_)
      refine v_goto ok 37 dX0_doubt_31 rfl ?_
      exact v_lret ok hr (by cases hf; exact hk) dX0_doubt_37
theorem M_X0_doubt {G : GT} {l : Launch} (hG : Glob G) {va : VaT} {e : Nat} (hva : DVA G l e va) {d : Nat} (hd : e + 6 ≤ d) {a0 : Nat} {x1 : Int32} {x2 : Int32} {x3 : Int32} {h : AH} {v : Int64} {h' : AH} (hf : X0_doubt va a0 x1 x2 x3 h = some (v, h')) : MM G l yX0_doubt cX0_doubt 4 (Option.some Jvm.ClassFile.FieldType.long) d [vr (some a0), vi x1, vi x2, vi x3] h (some (vl v)) h' := by
  refine mm_of hG (plainFor_of_name (by decide)) (Nat.le_of_ble_eq_true rfl) (fun X hX ok hr hnm => ?_)
  subst hX
  exact W_X0_doubt ok hr hva hd hf rfl ⟨rfl, rfl, rfl, rfl, trivial⟩
theorem cw_X0_held : CW yX0_held cX0_held 2 (Option.some Jvm.ClassFile.FieldType.long) 1 := ⟨q1425, q168, ⟨by decide, by decide⟩, by decide +kernel, by decide⟩
theorem W_X0_held {G : GT} {X : CX} {d : Nat} {h0 : AH} {Q : State → Prop} (ok : Ok G X RX0 cX0_held 2 d h0) (hr : (cxm X).sig.returnType = (Option.some Jvm.ClassFile.FieldType.long)) (hd : 2 ≤ d) {x0 : Int64} {h : AH} {z : (Int64 × AH)} (hf : X0_held x0 h = some z) (hk : Q = QM G X h0 (some (vl z.1)) z.2) {lv : List (Nat × AV)} (hl : lle lv [(0, vl x0)]) : V G X 2 h0 Q h 0 lv [] := by
  refine V.sub hl ?_
  unfold X0_held at hf
  refine v_ldc2 ok q1426 dX0_held_0 ?_
  refine v_ldc2 ok q1427 dX0_held_3 ?_
  refine v_lload_n ok 0 dX0_held_6 rfl rfl ?_
  refine v_cSl ok [vl 1000000, vl x0] (F := J4_min_2 1000000 x0 h) (fun v h1 hv => M_J4_min_2 ok.2.2.2.2.2.2.1 (d := 1) (Nat.le_refl _) hv) (by exact Nat.le_trans (by decide) hd) cw_J4_min_2 q1428 q1429 dX0_held_7 [vl (-1000000)] rfl (Nat.le_of_ble_eq_true rfl) hf (fun v1 h2 hf => ?_)
  refine v_cSl ok [vl (-1000000), vl v1] (F := J4_max_2 (-1000000) v1 h2) (fun v h1 hv => M_J4_max_2 ok.2.2.2.2.2.2.1 (d := 1) (Nat.le_refl _) hv) (by exact Nat.le_trans (by decide) hd) cw_J4_max_2 q1431 q1432 dX0_held_10 [] rfl (Nat.le_of_ble_eq_true rfl) hf (fun v3 h4 hf => ?_)
  exact v_lret ok hr (by cases hf; exact hk) dX0_held_13
theorem M_X0_held {G : GT} {l : Launch} (hG : Glob G) {d : Nat} (hd : 2 ≤ d) {x0 : Int64} {h : AH} {v : Int64} {h' : AH} (hf : X0_held x0 h = some (v, h')) : MM G l yX0_held cX0_held 2 (Option.some Jvm.ClassFile.FieldType.long) d [vl x0] h (some (vl v)) h' := by
  refine mm_of hG (plainFor_of_name (by decide)) (Nat.le_of_ble_eq_true rfl) (fun X hX ok hr hnm => ?_)
  subst hX
  exact W_X0_held ok hr hd hf rfl ⟨rfl, trivial⟩
theorem cw_X6_alone : CW yX6_alone cX6_alone 2 (Option.some Jvm.ClassFile.FieldType.int) 1 := ⟨q1501, q184, ⟨by decide, by decide⟩, by decide +kernel, by decide⟩
theorem W_X6_alone {G : GT} {X : CX} {d : Nat} {h0 : AH} {Q : State → Prop} (ok : Ok G X RX6 cX6_alone 2 d h0) (hr : (cxm X).sig.returnType = (Option.some Jvm.ClassFile.FieldType.int)) (hd : 2 ≤ d) {a0 : Nat} {x1 : Int32} {h : AH} {z : (Int32 × AH)} (hf : X6_alone a0 x1 h = some z) (hk : Q = QM G X h0 (some (vi z.1)) z.2) {lv : List (Nat × AV)} (hl : lle lv [(0, vr (some a0)), (1, vi x1)]) : V G X 2 h0 Q h 0 lv [] := by
  refine V.sub hl ?_
  unfold X6_alone at hf
  refine v_aload_n ok 0 dX6_alone_0 rfl rfl ?_
  refine v_gR ok fl_X6_3 (by first | exact Or.inl ⟨_, rfl⟩ | exact Or.inr ⟨_, rfl⟩) dX6_alone_1 hf (fun v1 hf => ?_)
  refine v_gRN ok fl_X6_27 (by first | exact Or.inl ⟨_, rfl⟩ | exact Or.inr ⟨_, rfl⟩) dX6_alone_4 hf (fun v2 hf => ?_)
  refine v_gIN ok fl_X6_101 (fun _ _ _ => rfl) dX6_alone_7 hf (fun v3 hf => ?_)
  refine v_sipush ok 1000 dX6_alone_10 rfl ?_
  refine v_imul ok dX6_alone_13 ?_
  refine v_iload_n ok 1 dX6_alone_14 rfl rfl ?_
  refine v_cSi ok [vi x1] (F := J16_bitCount x1 h) (fun v h1 hv => M_J16_bitCount ok.2.2.2.2.2.2.1 (d := 1) (Nat.le_refl _) hv) (by exact Nat.le_trans (by decide) hd) cw_J16_bitCount q1496 q1339 dX6_alone_15 [vi (v3 * 1000)] rfl (Nat.le_of_ble_eq_true rfl) hf (fun v4 h5 hf => ?_)
  refine v_iadd ok dX6_alone_18 ?_
  exact v_iret ok hr (by cases hf; exact hk) dX6_alone_19
theorem M_X6_alone {G : GT} {l : Launch} (hG : Glob G) {d : Nat} (hd : 2 ≤ d) {a0 : Nat} {x1 : Int32} {h : AH} {v : Int32} {h' : AH} (hf : X6_alone a0 x1 h = some (v, h')) : MM G l yX6_alone cX6_alone 2 (Option.some Jvm.ClassFile.FieldType.int) d [vr (some a0), vi x1] h (some (vi v)) h' := by
  refine mm_of hG (plainFor_of_name (by decide)) (Nat.le_of_ble_eq_true rfl) (fun X hX ok hr hnm => ?_)
  subst hX
  exact W_X6_alone ok hr hd hf rfl ⟨rfl, rfl, trivial⟩
theorem cw_X0_isForgiven : CW yX0_isForgiven cX0_isForgiven 3 (Option.some Jvm.ClassFile.FieldType.boolean) 1 := ⟨q1495, q168, ⟨by decide, by decide⟩, by decide +kernel, by decide⟩
theorem W_X0_isForgiven {G : GT} {X : CX} {d : Nat} {h0 : AH} {Q : State → Prop} (ok : Ok G X RX0 cX0_isForgiven 3 d h0) (hr : (cxm X).sig.returnType = (Option.some Jvm.ClassFile.FieldType.boolean)) (hd : 1 ≤ d) {a0 : Nat} {x1 : Int64} {h : AH} {z : (Int32 × AH)} (hf : X0_isForgiven a0 x1 h = some z) (hk : Q = QM G X h0 (some (vi z.1)) z.2) {lv : List (Nat × AV)} (hl : lle lv [(0, vr (some a0)), (1, vl x1)]) : V G X 3 h0 Q h 0 lv [] := by
  refine V.sub hl ?_
  unfold X0_isForgiven at hf
  refine v_lload_n ok 1 dX0_isForgiven_0 rfl rfl ?_
  refine v_aload_n ok 0 dX0_isForgiven_1 rfl rfl ?_
  refine v_gR ok fl_X0_31 (by first | exact Or.inl ⟨_, rfl⟩ | exact Or.inr ⟨_, rfl⟩) dX0_isForgiven_2 hf (fun v1 hf => ?_)
  refine v_gIN ok fl_X0_204 (fun _ _ _ => rfl) dX0_isForgiven_5 hf (fun v2 hf => ?_)
  refine v_i2l ok dX0_isForgiven_8 ?_
  refine v_lcmp ok dX0_isForgiven_9 ?_
  refine v_if_gt ok 17 dX0_isForgiven_10 rfl hf (fun hf => ?_) (fun hf => ?_)
  ·
    refine v_iconst ok 0 dX0_isForgiven_17 rfl ?_
    exact v_zretL ok hr (by decide) (by decide) (by cases hf; exact hk) dX0_isForgiven_18
  ·
    refine v_iconst ok 1 dX0_isForgiven_13 rfl ?_
    refine v_goto ok 18 dX0_isForgiven_14 rfl ?_
    exact v_zretL ok hr (by decide) (by decide) (by cases hf; exact hk) dX0_isForgiven_18
theorem M_X0_isForgiven {G : GT} {l : Launch} (hG : Glob G) {d : Nat} (hd : 1 ≤ d) {a0 : Nat} {x1 : Int64} {h : AH} {v : Int32} {h' : AH} (hf : X0_isForgiven a0 x1 h = some (v, h')) : MM G l yX0_isForgiven cX0_isForgiven 3 (Option.some Jvm.ClassFile.FieldType.boolean) d [vr (some a0), vl x1] h (some (vi v)) h' := by
  refine mm_of hG (plainFor_of_name (by decide)) (Nat.le_of_ble_eq_true rfl) (fun X hX ok hr hnm => ?_)
  subst hX
  exact W_X0_isForgiven ok hr hd hf rfl ⟨rfl, rfl, trivial⟩
theorem cw_X6_first : CW yX6_first cX6_first 2 (Option.some Jvm.ClassFile.FieldType.int) 1 := ⟨q1477, q184, ⟨by decide, by decide⟩, by decide +kernel, by decide⟩
theorem W_X6_first {G : GT} {X : CX} {d : Nat} {h0 : AH} {Q : State → Prop} (ok : Ok G X RX6 cX6_first 2 d h0) (hr : (cxm X).sig.returnType = (Option.some Jvm.ClassFile.FieldType.int)) (hd : 8 ≤ d) {a0 : Nat} {x1 : Int32} {h : AH} {z : (Int32 × AH)} (hf : X6_first a0 x1 h = some z) (hk : Q = QM G X h0 (some (vi z.1)) z.2) {lv : List (Nat × AV)} (hl : lle lv [(0, vr (some a0)), (1, vi x1)]) : V G X 2 h0 Q h 0 lv [] := by
  refine V.sub hl ?_
  unfold X6_first at hf
  refine v_aload_n ok 0 dX6_first_0 rfl rfl ?_
  refine v_gR ok fl_X6_3 (by first | exact Or.inl ⟨_, rfl⟩ | exact Or.inr ⟨_, rfl⟩) dX6_first_1 hf (fun v1 hf => ?_)
  refine v_gRN ok fl_X6_27 (by first | exact Or.inl ⟨_, rfl⟩ | exact Or.inr ⟨_, rfl⟩) dX6_first_4 hf (fun v2 hf => ?_)
  refine v_aload_n ok 0 dX6_first_7 rfl rfl ?_
  refine v_gI ok fl_X6_31 (fun _ _ _ => rfl) dX6_first_8 hf (fun v3 hf => ?_)
  refine v_aload_n ok 0 dX6_first_11 rfl rfl ?_
  refine v_gI ok fl_X6_35 (fun _ _ _ => rfl) dX6_first_12 hf (fun v4 hf => ?_)
  refine v_iload_n ok 1 dX6_first_15 rfl rfl ?_
  refine v_cVi ok (RX1, TX1, 9) cf_1.1 [vi v3, vi v4, vi x1] (F := fun a => X1_glyph a v3 v4 x1 h) (fun a v h1 _ hv => M_X1_glyph ok.2.2.2.2.2.2.1 (d := 7) (Nat.le_refl _) hv) (by exact Nat.le_trans (by decide) hd) cw_X1_glyph q1478 q1311 q1312 dX6_first_16 [] rfl (Nat.le_of_ble_eq_true rfl) hf (fun v5 h6 hf => ?_)
  exact v_iret ok hr (by cases hf; exact hk) dX6_first_19
theorem M_X6_first {G : GT} {l : Launch} (hG : Glob G) {d : Nat} (hd : 8 ≤ d) {a0 : Nat} {x1 : Int32} {h : AH} {v : Int32} {h' : AH} (hf : X6_first a0 x1 h = some (v, h')) : MM G l yX6_first cX6_first 2 (Option.some Jvm.ClassFile.FieldType.int) d [vr (some a0), vi x1] h (some (vi v)) h' := by
  refine mm_of hG (plainFor_of_name (by decide)) (Nat.le_of_ble_eq_true rfl) (fun X hX ok hr hnm => ?_)
  subst hX
  exact W_X6_first ok hr hd hf rfl ⟨rfl, rfl, trivial⟩
theorem cw_X6_second : CW yX6_second cX6_second 2 (Option.some Jvm.ClassFile.FieldType.int) 1 := ⟨q1482, q184, ⟨by decide, by decide⟩, by decide +kernel, by decide⟩
theorem W_X6_second {G : GT} {X : CX} {d : Nat} {h0 : AH} {Q : State → Prop} (ok : Ok G X RX6 cX6_second 2 d h0) (hr : (cxm X).sig.returnType = (Option.some Jvm.ClassFile.FieldType.int)) (hd : 8 ≤ d) {a0 : Nat} {x1 : Int32} {h : AH} {z : (Int32 × AH)} (hf : X6_second a0 x1 h = some z) (hk : Q = QM G X h0 (some (vi z.1)) z.2) {lv : List (Nat × AV)} (hl : lle lv [(0, vr (some a0)), (1, vi x1)]) : V G X 2 h0 Q h 0 lv [] := by
  refine V.sub hl ?_
  unfold X6_second at hf
  refine v_aload_n ok 0 dX6_second_0 rfl rfl ?_
  refine v_gR ok fl_X6_3 (by first | exact Or.inl ⟨_, rfl⟩ | exact Or.inr ⟨_, rfl⟩) dX6_second_1 hf (fun v1 hf => ?_)
  refine v_gRN ok fl_X6_27 (by first | exact Or.inl ⟨_, rfl⟩ | exact Or.inr ⟨_, rfl⟩) dX6_second_4 hf (fun v2 hf => ?_)
  refine v_aload_n ok 0 dX6_second_7 rfl rfl ?_
  refine v_gI ok fl_X6_31 (fun _ _ _ => rfl) dX6_second_8 hf (fun v3 hf => ?_)
  refine v_aload_n ok 0 dX6_second_11 rfl rfl ?_
  refine v_gI ok fl_X6_43 (fun _ _ _ => rfl) dX6_second_12 hf (fun v4 hf => ?_)
  refine v_aload_n ok 0 dX6_second_15 rfl rfl ?_
  refine v_gI ok fl_X6_46 (fun _ _ _ => rfl) dX6_second_16 hf (fun v5 hf => ?_)
  refine v_iconst ok 1 dX6_second_19 rfl ?_
  refine v_isub ok dX6_second_20 ?_
  refine v_iload_n ok 1 dX6_second_21 rfl rfl ?_
  refine v_isub ok dX6_second_22 ?_
  refine v_cVi ok (RX1, TX1, 9) cf_1.1 [vi v3, vi v4, vi ((v5 - 1) - x1)] (F := fun a => X1_glyph a v3 v4 ((v5 - 1) - x1) h) (fun a v h1 _ hv => M_X1_glyph ok.2.2.2.2.2.2.1 (d := 7) (Nat.le_refl _) hv) (by exact Nat.le_trans (by decide) hd) cw_X1_glyph q1478 q1311 q1312 dX6_second_23 [] rfl (Nat.le_of_ble_eq_true rfl) hf (fun v6 h7 hf => ?_)
  refine v_iconst ok 1 dX6_second_26 rfl ?_
  refine v_cSNi ok [vi v6, vi 1] (F := X0_turned v6 1 h7) (fun v h1 hv => M_X0_turned ok.2.2.2.2.2.2.1 (d := 1) (Nat.le_refl _) hv) (by exact Nat.le_trans (by decide) hd) cw_X0_turned q1483 q1405 dX6_second_27 [] rfl (Nat.le_of_ble_eq_true rfl) hf (fun v8 h9 hf => ?_)
  exact v_iret ok hr (by cases hf; exact hk) dX6_second_30
theorem M_X6_second {G : GT} {l : Launch} (hG : Glob G) {d : Nat} (hd : 8 ≤ d) {a0 : Nat} {x1 : Int32} {h : AH} {v : Int32} {h' : AH} (hf : X6_second a0 x1 h = some (v, h')) : MM G l yX6_second cX6_second 2 (Option.some Jvm.ClassFile.FieldType.int) d [vr (some a0), vi x1] h (some (vi v)) h' := by
  refine mm_of hG (plainFor_of_name (by decide)) (Nat.le_of_ble_eq_true rfl) (fun X hX ok hr hnm => ?_)
  subst hX
  exact W_X6_second ok hr hd hf rfl ⟨rfl, rfl, trivial⟩
theorem cw_X6_choice : CW yX6_choice cX6_choice 6 (Option.some Jvm.ClassFile.FieldType.int) 3 := ⟨q1473, q184, ⟨by decide, by decide⟩, by decide +kernel, by decide⟩
theorem W_X6_choice {G : GT} {X : CX} {d : Nat} {h0 : AH} {Q : State → Prop} (ok : Ok G X RX6 cX6_choice 6 d h0) (hr : (cxm X).sig.returnType = (Option.some Jvm.ClassFile.FieldType.int)) (hd : 9 ≤ d) {a0 : Nat} {x1 : Int32} {x2 : Int32} {x3 : Int32} {h : AH} {z : (Int32 × AH)} (hf : X6_choice a0 x1 x2 x3 h = some z) (hk : Q = QM G X h0 (some (vi z.1)) z.2) {lv : List (Nat × AV)} (hl : lle lv [(0, vr (some a0)), (1, vi x1), (2, vi x2), (3, vi x3)]) : V G X 6 h0 Q h 0 lv [] := by
  refine V.sub hl ?_
  unfold X6_choice at hf
  refine v_aload_n ok 0 dX6_choice_0 rfl rfl ?_
  refine v_iload_n ok 1 dX6_choice_1 rfl rfl ?_
  refine v_cVi ok (RX6, TX6, 10) cf_6.1 [vi x1] (F := fun a => X6_first a x1 h) (fun a v h1 _ hv => M_X6_first ok.2.2.2.2.2.2.1 (d := 8) (Nat.le_refl _) hv) (by exact Nat.le_trans (by decide) hd) cw_X6_first q1474 q1476 qs47 dX6_choice_2 [] rfl (Nat.le_of_ble_eq_true rfl) hf (fun v1 h2 hf => ?_)
  refine v_istore ok dX6_choice_5 (by decide) ?_
  refine v_aload_n ok 0 dX6_choice_7 rfl rfl ?_
  refine v_iload_n ok 2 dX6_choice_8 rfl rfl ?_
  refine v_cVi ok (RX6, TX6, 10) cf_6.1 [vi x2] (F := fun a => X6_second a x2 h2) (fun a v h1 _ hv => M_X6_second ok.2.2.2.2.2.2.1 (d := 8) (Nat.le_refl _) hv) (by exact Nat.le_trans (by decide) hd) cw_X6_second q1479 q1481 qs48 dX6_choice_9 [] rfl (Nat.le_of_ble_eq_true rfl) hf (fun v3 h4 hf => ?_)
  refine v_istore ok dX6_choice_12 (by decide) ?_
  refine v_iload_n ok 3 dX6_choice_14 rfl rfl ?_
  refine v_if_ne ok 23 dX6_choice_15 rfl hf (fun hf => ?_) (fun hf => ?_)
  ·
    refine v_iload_n ok 3 dX6_choice_23 rfl rfl ?_
    refine v_iconst ok 1 dX6_choice_24 rfl ?_
    refine v_icmp_ne ok 33 dX6_choice_25 rfl hf (fun hf => ?_) (fun hf => ?_)
    ·
      refine v_iload_n ok 3 dX6_choice_33 rfl rfl ?_
      refine v_iconst ok 2 dX6_choice_34 rfl ?_
      refine v_icmp_ne ok 46 dX6_choice_35 rfl hf (fun hf => ?_) (fun hf => ?_)
      ·
        refine v_iload ok dX6_choice_46 rfl ?_
        refine v_iload ok dX6_choice_48 rfl ?_
        refine v_iand ok dX6_choice_50 ?_
        exact v_iret ok hr (by cases hf; exact hk) dX6_choice_51
      ·
        refine v_iload ok dX6_choice_38 rfl ?_
        refine v_iload ok dX6_choice_40 rfl ?_
        refine v_ior ok dX6_choice_42 ?_
        refine v_goto ok 51 dX6_choice_43 rfl ?_
        exact v_iret ok hr (by cases hf; exact hk) dX6_choice_51
    ·
      refine v_iload ok dX6_choice_28 rfl ?_
      refine v_goto ok 51 dX6_choice_30 rfl ?_
      exact v_iret ok hr (by cases hf; exact hk) dX6_choice_51
  ·
    refine v_iload ok dX6_choice_18 rfl ?_
    refine v_goto ok 51 dX6_choice_20 rfl ?_
    exact v_iret ok hr (by cases hf; exact hk) dX6_choice_51
theorem M_X6_choice {G : GT} {l : Launch} (hG : Glob G) {d : Nat} (hd : 9 ≤ d) {a0 : Nat} {x1 : Int32} {x2 : Int32} {x3 : Int32} {h : AH} {v : Int32} {h' : AH} (hf : X6_choice a0 x1 x2 x3 h = some (v, h')) : MM G l yX6_choice cX6_choice 6 (Option.some Jvm.ClassFile.FieldType.int) d [vr (some a0), vi x1, vi x2, vi x3] h (some (vi v)) h' := by
  refine mm_of hG (plainFor_of_name (by decide)) (Nat.le_of_ble_eq_true rfl) (fun X hX ok hr hnm => ?_)
  subst hX
  exact W_X6_choice ok hr hd hf rfl ⟨rfl, rfl, rfl, rfl, trivial⟩
theorem cw_X6_letter : CW yX6_letter cX6_letter 3 (Option.some (Jvm.ClassFile.FieldType.object "TurnedBoards$Letter")) 2 := ⟨q1487, q184, ⟨by decide, by decide⟩, by decide +kernel, by decide⟩
theorem W_X6_letter {G : GT} {X : CX} {d : Nat} {h0 : AH} {Q : State → Prop} (ok : Ok G X RX6 cX6_letter 3 d h0) (hr : (cxm X).sig.returnType = (Option.some (Jvm.ClassFile.FieldType.object "TurnedBoards$Letter"))) (hd : 7 ≤ d) {a0 : Nat} {x1 : Int32} {x2 : Int32} {h : AH} {z : (Option Nat × AH)} (hf : X6_letter a0 x1 x2 h = some z) (hk : Q = QM G X h0 (some (vr z.1)) z.2) {lv : List (Nat × AV)} (hl : lle lv [(0, vr (some a0)), (1, vi x1), (2, vi x2)]) : V G X 3 h0 Q h 0 lv [] := by
  refine V.sub hl ?_
  unfold X6_letter at hf
  refine v_aload_n ok 0 dX6_letter_0 rfl rfl ?_
  refine v_gR ok fl_X6_3 (by first | exact Or.inl ⟨_, rfl⟩ | exact Or.inr ⟨_, rfl⟩) dX6_letter_1 hf (fun v1 hf => ?_)
  refine v_aload_n ok 0 dX6_letter_4 rfl rfl ?_
  refine v_gI ok fl_X6_31 (fun _ _ _ => rfl) dX6_letter_5 hf (fun v2 hf => ?_)
  refine v_aload_n ok 0 dX6_letter_8 rfl rfl ?_
  refine v_gR ok fl_X6_3 (by first | exact Or.inl ⟨_, rfl⟩ | exact Or.inr ⟨_, rfl⟩) dX6_letter_9 hf (fun v3 hf => ?_)
  refine v_gRN ok fl_X6_27 (by first | exact Or.inl ⟨_, rfl⟩ | exact Or.inr ⟨_, rfl⟩) dX6_letter_12 hf (fun v4 hf => ?_)
  refine v_aload_n ok 0 dX6_letter_15 rfl rfl ?_
  refine v_gI ok fl_X6_31 (fun _ _ _ => rfl) dX6_letter_16 hf (fun v5 hf => ?_)
  refine v_aload_n ok 0 dX6_letter_19 rfl rfl ?_
  refine v_gR ok fl_X6_3 (by first | exact Or.inl ⟨_, rfl⟩ | exact Or.inr ⟨_, rfl⟩) dX6_letter_20 hf (fun v6 hf => ?_)
  refine v_gRN ok fl_X6_27 (by first | exact Or.inl ⟨_, rfl⟩ | exact Or.inr ⟨_, rfl⟩) dX6_letter_23 hf (fun v7 hf => ?_)
  refine v_gRN ok fl_X6_60 (by first | exact Or.inl ⟨_, rfl⟩ | exact Or.inr ⟨_, rfl⟩) dX6_letter_26 hf (fun v8 hf => ?_)
  refine v_iload_n ok 1 dX6_letter_29 rfl rfl ?_
  refine v_cFr ok (RJ2, TJ2, 3) cf_23.1 [vi x1] (F := fun a => J2_get a x1 h) (fun a v h1 _ hv => M_J2_get ok.2.2.2.2.2.2.1 (d := 3) (Nat.le_refl _) hv) (by exact Nat.le_trans (by decide) hd) cw_J2_get q1458 q907 cwf_J2_get dX6_letter_30 [vi v5, vr v4, vi v2, vr v1] rfl (Nat.le_of_ble_eq_true rfl) hf (fun v9 h10 hf => ?_)
  refine v_cast_ ok ck_TurnedBoards_Word q1459 dX6_letter_35 hf (fun hf => ?_)
  refine v_iload_n ok 2 dX6_letter_38 rfl rfl ?_
  refine v_cVi ok (RX9, TX9, 1) cf_9.1 [vi x2] (F := fun a => X9_at a x2 h10) (fun a v h1 _ hv => M_X9_at ok.2.2.2.2.2.2.1 (d := 6) (Nat.le_refl _) hv) (by exact Nat.le_trans (by decide) hd) cw_X9_at q1488 q994 q995 dX6_letter_39 [vi v5, vr v4, vi v2, vr v1] rfl (Nat.le_of_ble_eq_true rfl) hf (fun v11 h12 hf => ?_)
  refine v_cVi ok (RX1, TX1, 9) cf_1.1 [vi v5, vi v11] (F := fun a => X1_letter a v5 v11 h12) (fun a v h1 _ hv => M_X1_letter ok.2.2.2.2.2.2.1 (d := 4) (Nat.le_refl _) hv) (by exact Nat.le_trans (by decide) hd) cw_X1_letter q1489 q929 q930 dX6_letter_42 [vi v2, vr v1] rfl (Nat.le_of_ble_eq_true rfl) hf (fun v13 h14 hf => ?_)
  refine v_cVNr ok (RX0, TX0, 18) cf_0.1 [vi v2, vi v13] (F := fun a => X0_letterOf a v2 v13 h14) (fun a v h1 _ hv => M_X0_letterOf ok.2.2.2.2.2.2.1 (d := 4) (Nat.le_refl _) hv) (by exact Nat.le_trans (by decide) hd) cw_X0_letterOf q1490 q1358 qs38 dX6_letter_45 [] rfl (Nat.le_of_ble_eq_true rfl) hf (fun v15 h16 hf => ?_)
  exact v_aret ok hr (by first | exact Or.inl ⟨_, rfl⟩ | exact Or.inr ⟨_, rfl⟩) (by cases hf; exact hk) dX6_letter_48
theorem M_X6_letter {G : GT} {l : Launch} (hG : Glob G) {d : Nat} (hd : 7 ≤ d) {a0 : Nat} {x1 : Int32} {x2 : Int32} {h : AH} {v : Option Nat} {h' : AH} (hf : X6_letter a0 x1 x2 h = some (v, h')) : MM G l yX6_letter cX6_letter 3 (Option.some (Jvm.ClassFile.FieldType.object "TurnedBoards$Letter")) d [vr (some a0), vi x1, vi x2] h (some (vr v)) h' := by
  refine mm_of hG (plainFor_of_name (by decide)) (Nat.le_of_ble_eq_true rfl) (fun X hX ok hr hnm => ?_)
  subst hX
  exact W_X6_letter ok hr hd hf rfl ⟨rfl, rfl, rfl, trivial⟩
theorem cw_X6_both : CW yX6_both cX6_both 9 (Option.some Jvm.ClassFile.FieldType.int) 3 := ⟨q1469, q184, ⟨by decide, by decide⟩, by decide +kernel, by decide⟩
theorem W_X6_both_103 {G : GT} {X : CX} {d : Nat} {h0 : AH} {Q : State → Prop} (ok : Ok G X RX6 cX6_both 9 d h0) (hr : (cxm X).sig.returnType = (Option.some Jvm.ClassFile.FieldType.int)) {va : VaT} {e : Nat} (hva : DVA G X.2.1 e va) (hd : e + 10 ≤ d) {h : AH} {z : (Int32 × AH)} (hf : X6_both_103 va h = some z) (hk : Q = QM G X h0 (some (vi z.1)) z.2) {lv : List (Nat × AV)} (hl : lle lv []) : V G X 9 h0 Q h 103 lv [] := by
  refine V.sub hl ?_
  unfold X6_both_103 at hf
  refine v_ldc ok q1465 dX6_both_103 ?_
  exact v_iret ok hr (by cases hf; exact hk) dX6_both_105
theorem W_X6_both {G : GT} {X : CX} {d : Nat} {h0 : AH} {Q : State → Prop} (ok : Ok G X RX6 cX6_both 9 d h0) (hr : (cxm X).sig.returnType = (Option.some Jvm.ClassFile.FieldType.int)) {va : VaT} {e : Nat} (hva : DVA G X.2.1 e va) (hd : e + 10 ≤ d) {a0 : Nat} {x1 : Int32} {x2 : Int32} {x3 : Int32} {h : AH} {z : (Int32 × AH)} (hf : X6_both va a0 x1 x2 x3 h = some z) (hk : Q = QM G X h0 (some (vi z.1)) z.2) {lv : List (Nat × AV)} (hl : lle lv [(0, vr (some a0)), (1, vi x1), (2, vi x2), (3, vi x3)]) : V G X 9 h0 Q h 0 lv [] := by
  refine V.sub hl ?_
  unfold X6_both at hf
  refine v_aload_n ok 0 dX6_both_0 rfl rfl ?_
  refine v_iload_n ok 1 dX6_both_1 rfl rfl ?_
  refine v_iload_n ok 2 dX6_both_2 rfl rfl ?_
  refine v_iload_n ok 3 dX6_both_3 rfl rfl ?_
  refine v_cVi ok (RX6, TX6, 10) cf_6.1 [vi x1, vi x2, vi x3] (F := fun a => X6_choice a x1 x2 x3 h) (fun a v h1 _ hv => M_X6_choice ok.2.2.2.2.2.2.1 (d := 9) (Nat.le_refl _) hv) (by omega) cw_X6_choice q1470 q1472 qs46 dX6_both_4 [] rfl (Nat.le_of_ble_eq_true rfl) hf (fun v1 h2 hf => ?_)
  refine v_istore ok dX6_both_7 (by decide) ?_
  refine v_aload_n ok 0 dX6_both_9 rfl rfl ?_
  refine v_gR ok fl_X6_3 (by first | exact Or.inl ⟨_, rfl⟩ | exact Or.inr ⟨_, rfl⟩) dX6_both_10 hf (fun v3 hf => ?_)
  refine v_aload_n ok 0 dX6_both_13 rfl rfl ?_
  refine v_aload_n ok 0 dX6_both_14 rfl rfl ?_
  refine v_gI ok fl_X6_35 (fun _ _ _ => rfl) dX6_both_15 hf (fun v4 hf => ?_)
  refine v_iload_n ok 1 dX6_both_18 rfl rfl ?_
  refine v_cVr ok (RX6, TX6, 10) cf_6.1 [vi v4, vi x1] (F := fun a => X6_letter a v4 x1 h2) (fun a v h1 _ hv => M_X6_letter ok.2.2.2.2.2.2.1 (d := 7) (Nat.le_refl _) hv) (by omega) cw_X6_letter q1484 q1486 qs49 dX6_both_19 [vr v3] rfl (Nat.le_of_ble_eq_true rfl) hf (fun v5 h6 hf => ?_)
  refine v_iload ok dX6_both_22 rfl ?_
  refine v_cVNl ok (RX0, TX0, 18) cf_0.1 [vr v5, vi v1] (F := fun a => X0_doubtOf va a v5 v1 h6) (fun a v h1 _ hv => M_X0_doubtOf ok.2.2.2.2.2.2.1 hva (d := e + 3) (Nat.le_refl _) hv) (by omega) cw_X0_doubtOf q1491 q1413 qs42 dX6_both_24 [] rfl (Nat.le_of_ble_eq_true rfl) hf (fun v7 h8 hf => ?_)
  refine v_lstore ok dX6_both_27 (by decide) ?_
  refine v_aload_n ok 0 dX6_both_29 rfl rfl ?_
  refine v_gR ok fl_X6_3 (by first | exact Or.inl ⟨_, rfl⟩ | exact Or.inr ⟨_, rfl⟩) dX6_both_30 hf (fun v9 hf => ?_)
  refine v_aload_n ok 0 dX6_both_33 rfl rfl ?_
  refine v_aload_n ok 0 dX6_both_34 rfl rfl ?_
  refine v_gI ok fl_X6_43 (fun _ _ _ => rfl) dX6_both_35 hf (fun v10 hf => ?_)
  refine v_aload_n ok 0 dX6_both_38 rfl rfl ?_
  refine v_gI ok fl_X6_46 (fun _ _ _ => rfl) dX6_both_39 hf (fun v11 hf => ?_)
  refine v_iconst ok 1 dX6_both_42 rfl ?_
  refine v_isub ok dX6_both_43 ?_
  refine v_iload_n ok 2 dX6_both_44 rfl rfl ?_
  refine v_isub ok dX6_both_45 ?_
  refine v_cVr ok (RX6, TX6, 10) cf_6.1 [vi v10, vi ((v11 - 1) - x2)] (F := fun a => X6_letter a v10 ((v11 - 1) - x2) h8) (fun a v h1 _ hv => M_X6_letter ok.2.2.2.2.2.2.1 (d := 7) (Nat.le_refl _) hv) (by omega) cw_X6_letter q1484 q1486 qs49 dX6_both_46 [vr v9] rfl (Nat.le_of_ble_eq_true rfl) hf (fun v12 h13 hf => ?_)
  refine v_iload ok dX6_both_49 rfl ?_
  refine v_iconst ok 1 dX6_both_51 rfl ?_
  refine v_cSNi ok [vi v1, vi 1] (F := X0_turned v1 1 h13) (fun v h1 hv => M_X0_turned ok.2.2.2.2.2.2.1 (d := 1) (Nat.le_refl _) hv) (by omega) cw_X0_turned q1483 q1405 dX6_both_52 [vr v12, vr v9] rfl (Nat.le_of_ble_eq_true rfl) hf (fun v14 h15 hf => ?_)
  refine v_cVNl ok (RX0, TX0, 18) cf_0.1 [vr v12, vi v14] (F := fun a => X0_doubtOf va a v12 v14 h15) (fun a v h1 _ hv => M_X0_doubtOf ok.2.2.2.2.2.2.1 hva (d := e + 3) (Nat.le_refl _) hv) (by omega) cw_X0_doubtOf q1491 q1413 qs42 dX6_both_55 [] rfl (Nat.le_of_ble_eq_true rfl) hf (fun v16 h17 hf => ?_)
  refine v_lstore ok dX6_both_58 (by decide) ?_
  refine v_aload_n ok 0 dX6_both_60 rfl rfl ?_
  refine v_gR ok fl_X6_3 (by first | exact Or.inl ⟨_, rfl⟩ | exact Or.inr ⟨_, rfl⟩) dX6_both_61 hf (fun v18 hf => ?_)
  refine v_lload ok dX6_both_64 rfl ?_
  refine v_cVNi ok (RX0, TX0, 18) cf_0.1 [vl v7] (F := fun a => X0_isForgiven a v7 h17) (fun a v h1 _ hv => M_X0_isForgiven ok.2.2.2.2.2.2.1 (d := 1) (Nat.le_refl _) hv) (by omega) cw_X0_isForgiven q1492 q1494 qs50 dX6_both_66 [] rfl (Nat.le_of_ble_eq_true rfl) hf (fun v19 h20 hf => ?_)
  refine v_if_eq ok 103 dX6_both_69 rfl hf (fun hf => ?_) (fun hf => ?_)
  ·
    exact W_X6_both_103 ok hr hva hd hf hk trivial
  ·
    refine v_aload_n ok 0 dX6_both_72 rfl rfl ?_
    refine v_gR ok fl_X6_3 (by first | exact Or.inl ⟨_, rfl⟩ | exact Or.inr ⟨_, rfl⟩) dX6_both_73 hf (fun v21 hf => ?_)
    refine v_lload ok dX6_both_76 rfl ?_
    refine v_cVNi ok (RX0, TX0, 18) cf_0.1 [vl v16] (F := fun a => X0_isForgiven a v16 h20) (fun a v h1 _ hv => M_X0_isForgiven ok.2.2.2.2.2.2.1 (d := 1) (Nat.le_refl _) hv) (by omega) cw_X0_isForgiven q1492 q1494 qs50 dX6_both_78 [] rfl (Nat.le_of_ble_eq_true rfl) hf (fun v22 h23 hf => ?_)
    refine v_if_eq ok 103 dX6_both_81 rfl hf (fun hf => ?_) (fun hf => ?_)
    ·
      exact W_X6_both_103 ok hr hva hd hf hk trivial
    ·
      refine v_lload ok dX6_both_84 rfl ?_
      refine v_lload ok dX6_both_86 rfl ?_
      refine v_ladd ok dX6_both_88 ?_
      refine v_l2i ok dX6_both_89 ?_
      refine v_sipush ok 1000 dX6_both_90 rfl ?_
      refine v_imul ok dX6_both_93 ?_
      refine v_iload ok dX6_both_94 rfl ?_
      refine v_cSi ok [vi v1] (F := J16_bitCount v1 h23) (fun v h1 hv => M_J16_bitCount ok.2.2.2.2.2.2.1 (d := 1) (Nat.le_refl _) hv) (by omega) cw_J16_bitCount q1496 q1339 dX6_both_96 [vi ((Int64.toInt32 (v7 + v16)) * 1000)] rfl (Nat.le_of_ble_eq_true rfl) hf (fun v24 h25 hf => ?_)
      refine v_iadd ok dX6_both_99 ?_
      refine v_goto ok 105 dX6_both_100 rfl ?_
      exact v_iret ok hr (by cases hf; exact hk) dX6_both_105
theorem M_X6_both {G : GT} {l : Launch} (hG : Glob G) {va : VaT} {e : Nat} (hva : DVA G l e va) {d : Nat} (hd : e + 10 ≤ d) {a0 : Nat} {x1 : Int32} {x2 : Int32} {x3 : Int32} {h : AH} {v : Int32} {h' : AH} (hf : X6_both va a0 x1 x2 x3 h = some (v, h')) : MM G l yX6_both cX6_both 9 (Option.some Jvm.ClassFile.FieldType.int) d [vr (some a0), vi x1, vi x2, vi x3] h (some (vi v)) h' := by
  refine mm_of hG (plainFor_of_name (by decide)) (Nat.le_of_ble_eq_true rfl) (fun X hX ok hr hnm => ?_)
  subst hX
  exact W_X6_both ok hr hva hd hf rfl ⟨rfl, rfl, rfl, rfl, trivial⟩
theorem cw_X6_reckons : CW yX6_reckons cX6_reckons 5 none 2 := ⟨q1464, q184, ⟨by decide, by decide⟩, by decide +kernel, by decide⟩
def pkX6_reckons_26 (G : GT) (X : CX) (h0 : AH) (Q : State → Prop) (a0 : Nat) (x1 : Int32) (x2 : Int32) (o : ((Int32 × Int32 × AH) ⊕ (AH))) : Prop := match o with
  | .inl s => ∀ lv : List (Nat × AV), lle lv [(0, vr (some a0)), (1, vi x1), (2, vi x2), (3, vi s.1), (4, vi s.2.1)] → V G X 5 h0 Q s.2.2 26 lv []
  | .inr z => Q = QM G X h0 none z
theorem W_X6_reckons_146 {G : GT} {X : CX} {d : Nat} {h0 : AH} {Q : State → Prop} (ok : Ok G X RX6 cX6_reckons 5 d h0) (hr : (cxm X).sig.returnType = none) {va : VaT} {e : Nat} (hva : DVA G X.2.1 e va) (hd : e + 11 ≤ d) {a0 : Nat} {x1 : Int32} {x2 : Int32} {x3 : Int32} {h : AH} {z : (AH)} (hf : X6_reckons_146 va a0 x1 x2 x3 h = some z) (hk : Q = QM G X h0 none z) {lv : List (Nat × AV)} (hl : lle lv [(0, vr (some a0)), (1, vi x1), (2, vi x2), (3, vi x3)]) : V G X 5 h0 Q h 146 lv [] := by
  refine V.sub hl ?_
  unfold X6_reckons_146 at hf
  refine v_aload_n ok 0 dX6_reckons_146 rfl rfl ?_
  refine v_gR ok fl_X6_17 (by first | exact Or.inl ⟨_, rfl⟩ | exact Or.inr ⟨_, rfl⟩) dX6_reckons_147 hf (fun v1 hf => ?_)
  refine v_iload_n ok 1 dX6_reckons_150 rfl rfl ?_
  refine v_aald6 ok rfl dX6_reckons_151 hf (fun v2 hf => ?_)
  refine v_iload_n ok 2 dX6_reckons_152 rfl rfl ?_
  refine v_iload_n ok 3 dX6_reckons_153 rfl rfl ?_
  refine v_iast ok rfl dX6_reckons_154 hf (fun h3 hf => ?_)
  exact v_vret ok hr (by cases hf; exact hk) dX6_reckons_155
theorem W_X6_reckons_113 {G : GT} {X : CX} {d : Nat} {h0 : AH} {Q : State → Prop} (ok : Ok G X RX6 cX6_reckons 5 d h0) (hr : (cxm X).sig.returnType = none) {va : VaT} {e : Nat} (hva : DVA G X.2.1 e va) (hd : e + 11 ≤ d) {a0 : Nat} {x1 : Int32} {x2 : Int32} {x3 : Int32} {h : AH} {z : (AH)} (hf : X6_reckons_113 va a0 x1 x2 x3 h = some z) (hk : Q = QM G X h0 none z) {lv : List (Nat × AV)} (hl : lle lv [(0, vr (some a0)), (1, vi x1), (2, vi x2), (3, vi x3)]) : V G X 5 h0 Q h 113 lv [] := by
  refine V.sub hl ?_
  unfold X6_reckons_113 at hf
  refine v_iload_n ok 2 dX6_reckons_113 rfl rfl ?_
  refine v_aload_n ok 0 dX6_reckons_114 rfl rfl ?_
  refine v_gI ok fl_X6_46 (fun _ _ _ => rfl) dX6_reckons_115 hf (fun v4 hf => ?_)
  refine v_icmp_ge ok 146 dX6_reckons_118 rfl hf (fun hf => ?_) (fun hf => ?_)
  ·
    exact W_X6_reckons_146 ok hr hva hd hf hk ⟨rfl, rfl, rfl, rfl, trivial⟩
  ·
    refine v_iload_n ok 3 dX6_reckons_121 rfl rfl ?_
    refine v_aload_n ok 0 dX6_reckons_122 rfl rfl ?_
    refine v_aload_n ok 0 dX6_reckons_123 rfl rfl ?_
    refine v_iload_n ok 2 dX6_reckons_124 rfl rfl ?_
    refine v_cVi ok (RX6, TX6, 10) cf_6.1 [vi x2] (F := fun a => X6_second a x2 h) (fun a v h1 _ hv => M_X6_second ok.2.2.2.2.2.2.1 (d := 8) (Nat.le_refl _) hv) (by omega) cw_X6_second q1479 q1481 qs48 dX6_reckons_125 [vr (some a0), vi x3] rfl (Nat.le_of_ble_eq_true rfl) hf (fun v5 h6 hf => ?_)
    refine v_cVi ok (RX6, TX6, 10) cf_6.1 [vi v5] (F := fun a => X6_alone a v5 h6) (fun a v h1 _ hv => M_X6_alone ok.2.2.2.2.2.2.1 (d := 2) (Nat.le_refl _) hv) (by omega) cw_X6_alone q1498 q1500 qs51 dX6_reckons_128 [vi x3] rfl (Nat.le_of_ble_eq_true rfl) hf (fun v7 h8 hf => ?_)
    refine v_aload_n ok 0 dX6_reckons_131 rfl rfl ?_
    refine v_gR ok fl_X6_17 (by first | exact Or.inl ⟨_, rfl⟩ | exact Or.inr ⟨_, rfl⟩) dX6_reckons_132 hf (fun v9 hf => ?_)
    refine v_iload_n ok 1 dX6_reckons_135 rfl rfl ?_
    refine v_aald6 ok rfl dX6_reckons_136 hf (fun v10 hf => ?_)
    refine v_iload_n ok 2 dX6_reckons_137 rfl rfl ?_
    refine v_iconst ok 1 dX6_reckons_138 rfl ?_
    refine v_iadd ok dX6_reckons_139 ?_
    refine v_iald ok rfl dX6_reckons_140 hf (fun v11 hf => ?_)
    refine v_iadd ok dX6_reckons_141 ?_
    refine v_cSi ok [vi x3, vi (v7 + v11)] (F := J4_min x3 (v7 + v11) h8) (fun v h1 hv => M_J4_min ok.2.2.2.2.2.2.1 (d := 1) (Nat.le_refl _) hv) (by omega) cw_J4_min q1497 q323 dX6_reckons_142 [] rfl (Nat.le_of_ble_eq_true rfl) hf (fun v12 h13 hf => ?_)
    refine v_istore_n ok 3 dX6_reckons_145 rfl (by decide) ?_
    exact W_X6_reckons_146 ok hr hva hd hf hk ⟨rfl, rfl, rfl, rfl, trivial⟩
theorem W_X6_reckons_80 {G : GT} {X : CX} {d : Nat} {h0 : AH} {Q : State → Prop} (ok : Ok G X RX6 cX6_reckons 5 d h0) (hr : (cxm X).sig.returnType = none) {va : VaT} {e : Nat} (hva : DVA G X.2.1 e va) (hd : e + 11 ≤ d) {a0 : Nat} {x1 : Int32} {x2 : Int32} {x3 : Int32} {h : AH} {z : (AH)} (hf : X6_reckons_80 va a0 x1 x2 x3 h = some z) (hk : Q = QM G X h0 none z) {lv : List (Nat × AV)} (hl : lle lv [(0, vr (some a0)), (1, vi x1), (2, vi x2), (3, vi x3)]) : V G X 5 h0 Q h 80 lv [] := by
  refine V.sub hl ?_
  unfold X6_reckons_80 at hf
  refine v_iload_n ok 1 dX6_reckons_80 rfl rfl ?_
  refine v_aload_n ok 0 dX6_reckons_81 rfl rfl ?_
  refine v_gI ok fl_X6_104 (fun _ _ _ => rfl) dX6_reckons_82 hf (fun v14 hf => ?_)
  refine v_icmp_ge ok 113 dX6_reckons_85 rfl hf (fun hf => ?_) (fun hf => ?_)
  ·
    exact W_X6_reckons_113 ok hr hva hd hf hk ⟨rfl, rfl, rfl, rfl, trivial⟩
  ·
    refine v_iload_n ok 3 dX6_reckons_88 rfl rfl ?_
    refine v_aload_n ok 0 dX6_reckons_89 rfl rfl ?_
    refine v_aload_n ok 0 dX6_reckons_90 rfl rfl ?_
    refine v_iload_n ok 1 dX6_reckons_91 rfl rfl ?_
    refine v_cVi ok (RX6, TX6, 10) cf_6.1 [vi x1] (F := fun a => X6_first a x1 h) (fun a v h1 _ hv => M_X6_first ok.2.2.2.2.2.2.1 (d := 8) (Nat.le_refl _) hv) (by omega) cw_X6_first q1474 q1476 qs47 dX6_reckons_92 [vr (some a0), vi x3] rfl (Nat.le_of_ble_eq_true rfl) hf (fun v15 h16 hf => ?_)
    refine v_cVi ok (RX6, TX6, 10) cf_6.1 [vi v15] (F := fun a => X6_alone a v15 h16) (fun a v h1 _ hv => M_X6_alone ok.2.2.2.2.2.2.1 (d := 2) (Nat.le_refl _) hv) (by omega) cw_X6_alone q1498 q1500 qs51 dX6_reckons_95 [vi x3] rfl (Nat.le_of_ble_eq_true rfl) hf (fun v17 h18 hf => ?_)
    refine v_aload_n ok 0 dX6_reckons_98 rfl rfl ?_
    refine v_gR ok fl_X6_17 (by first | exact Or.inl ⟨_, rfl⟩ | exact Or.inr ⟨_, rfl⟩) dX6_reckons_99 hf (fun v19 hf => ?_)
    refine v_iload_n ok 1 dX6_reckons_102 rfl rfl ?_
    refine v_iconst ok 1 dX6_reckons_103 rfl ?_
    refine v_iadd ok dX6_reckons_104 ?_
    refine v_aald6 ok rfl dX6_reckons_105 hf (fun v20 hf => ?_)
    refine v_iload_n ok 2 dX6_reckons_106 rfl rfl ?_
    refine v_iald ok rfl dX6_reckons_107 hf (fun v21 hf => ?_)
    refine v_iadd ok dX6_reckons_108 ?_
    refine v_cSi ok [vi x3, vi (v17 + v21)] (F := J4_min x3 (v17 + v21) h18) (fun v h1 hv => M_J4_min ok.2.2.2.2.2.2.1 (d := 1) (Nat.le_refl _) hv) (by omega) cw_J4_min q1497 q323 dX6_reckons_109 [] rfl (Nat.le_of_ble_eq_true rfl) hf (fun v22 h23 hf => ?_)
    refine v_istore_n ok 3 dX6_reckons_112 rfl (by decide) ?_
    exact W_X6_reckons_113 ok hr hva hd hf hk ⟨rfl, rfl, rfl, rfl, trivial⟩
theorem W_X6_reckons_26b {G : GT} {X : CX} {d : Nat} {h0 : AH} {Q : State → Prop} (ok : Ok G X RX6 cX6_reckons 5 d h0) (hr : (cxm X).sig.returnType = none) {va : VaT} {e : Nat} (hva : DVA G X.2.1 e va) (hd : e + 11 ≤ d) {a0 : Nat} {x1 : Int32} {x2 : Int32} {x3 : Int32} {x4 : Int32} {h : AH} {z : ((Int32 × Int32 × AH) ⊕ (AH))} (hf : X6_reckons_26b  va a0 x1 x2 x3 x4 h = some z) (hk : pkX6_reckons_26 G X h0 Q a0 x1 x2 z) {lv : List (Nat × AV)} (hl : lle lv [(0, vr (some a0)), (1, vi x1), (2, vi x2), (3, vi x3), (4, vi x4)]) : V G X 5 h0 Q h 26 lv [] := by
  refine V.sub hl ?_
  unfold X6_reckons_26b at hf
  refine v_iload ok dX6_reckons_26 rfl ?_
  refine v_iconst ok 4 dX6_reckons_28 rfl ?_
  refine v_icmp_ge ok 80 dX6_reckons_29 rfl hf (fun hf => ?_) (fun hf => ?_)
  ·
    obtain ⟨o, ho, hz⟩ := ob hf
    cases hz; exact W_X6_reckons_80 ok hr hva hd ho hk ⟨rfl, rfl, rfl, rfl, trivial⟩
  ·
    refine v_iload_n ok 1 dX6_reckons_32 rfl rfl ?_
    refine v_aload_n ok 0 dX6_reckons_33 rfl rfl ?_
    refine v_gI ok fl_X6_104 (fun _ _ _ => rfl) dX6_reckons_34 hf (fun v24 hf => ?_)
    refine v_icmp_ge ok 80 dX6_reckons_37 rfl hf (fun hf => ?_) (fun hf => ?_)
    ·
      obtain ⟨o, ho, hz⟩ := ob hf
      cases hz; exact W_X6_reckons_80 ok hr hva hd ho hk ⟨rfl, rfl, rfl, rfl, trivial⟩
    ·
      refine v_iload_n ok 2 dX6_reckons_40 rfl rfl ?_
      refine v_aload_n ok 0 dX6_reckons_41 rfl rfl ?_
      refine v_gI ok fl_X6_46 (fun _ _ _ => rfl) dX6_reckons_42 hf (fun v25 hf => ?_)
      refine v_icmp_ge ok 80 dX6_reckons_45 rfl hf (fun hf => ?_) (fun hf => ?_)
      ·
        obtain ⟨o, ho, hz⟩ := ob hf
        cases hz; exact W_X6_reckons_80 ok hr hva hd ho hk ⟨rfl, rfl, rfl, rfl, trivial⟩
      ·
        refine v_iload_n ok 3 dX6_reckons_48 rfl rfl ?_
        refine v_aload_n ok 0 dX6_reckons_49 rfl rfl ?_
        refine v_iload_n ok 1 dX6_reckons_50 rfl rfl ?_
        refine v_iload_n ok 2 dX6_reckons_51 rfl rfl ?_
        refine v_iload ok dX6_reckons_52 rfl ?_
        refine v_cVi ok (RX6, TX6, 10) cf_6.1 [vi x1, vi x2, vi x4] (F := fun a => X6_both va a x1 x2 x4 h) (fun a v h1 _ hv => M_X6_both ok.2.2.2.2.2.2.1 hva (d := e + 10) (Nat.le_refl _) hv) (by omega) cw_X6_both q1466 q1468 qs45 dX6_reckons_54 [vi x3] rfl (Nat.le_of_ble_eq_true rfl) hf (fun v26 h27 hf => ?_)
        refine v_aload_n ok 0 dX6_reckons_57 rfl rfl ?_
        refine v_gR ok fl_X6_17 (by first | exact Or.inl ⟨_, rfl⟩ | exact Or.inr ⟨_, rfl⟩) dX6_reckons_58 hf (fun v28 hf => ?_)
        refine v_iload_n ok 1 dX6_reckons_61 rfl rfl ?_
        refine v_iconst ok 1 dX6_reckons_62 rfl ?_
        refine v_iadd ok dX6_reckons_63 ?_
        refine v_aald6 ok rfl dX6_reckons_64 hf (fun v29 hf => ?_)
        refine v_iload_n ok 2 dX6_reckons_65 rfl rfl ?_
        refine v_iconst ok 1 dX6_reckons_66 rfl ?_
        refine v_iadd ok dX6_reckons_67 ?_
        refine v_iald ok rfl dX6_reckons_68 hf (fun v30 hf => ?_)
        refine v_iadd ok dX6_reckons_69 ?_
        refine v_cSi ok [vi x3, vi (v26 + v30)] (F := J4_min x3 (v26 + v30) h27) (fun v h1 hv => M_J4_min ok.2.2.2.2.2.2.1 (d := 1) (Nat.le_refl _) hv) (by omega) cw_J4_min q1497 q323 dX6_reckons_70 [] rfl (Nat.le_of_ble_eq_true rfl) hf (fun v31 h32 hf => ?_)
        refine v_istore_n ok 3 dX6_reckons_73 rfl (by decide) ?_
        refine v_iinc ok x4 (x4 + 1) dX6_reckons_74 rfl rfl (by decide) ?_
        refine v_goto ok 26 dX6_reckons_77 rfl ?_
        cases hf; exact hk _ ⟨rfl, rfl, rfl, rfl, rfl, trivial⟩
theorem W_X6_reckons_26 {G : GT} {X : CX} {d : Nat} {h0 : AH} {Q : State → Prop} (ok : Ok G X RX6 cX6_reckons 5 d h0) (hr : (cxm X).sig.returnType = none) {va : VaT} {e : Nat} (hva : DVA G X.2.1 e va) (hd : e + 11 ≤ d) {a0 : Nat} {x1 : Int32} {x2 : Int32} {x3 : Int32} {x4 : Int32} {h : AH} {z : (AH)} (hf : X6_reckons_26  va a0 x1 x2 x3 x4 h = some z) (hk : Q = QM G X h0 none z) {lv : List (Nat × AV)} (hl : lle lv [(0, vr (some a0)), (1, vi x1), (2, vi x2), (3, vi x3), (4, vi x4)]) : V G X 5 h0 Q h 26 lv [] := by
  unfold X6_reckons_26 at hf
  exact loopC_walk (Wh := fun s : Int32 × Int32 × AH => ∀ lv : List (Nat × AV), lle lv [(0, vr (some a0)), (1, vi x1), (2, vi x2), (3, vi s.1), (4, vi s.2.1)] → V G X 5 h0 Q s.2.2 26 lv []) (PK := fun z => Q = QM G X h0 none z) (fun s o hf hk lv hl => W_X6_reckons_26b ok hr hva hd hf (by cases o <;> exact hk) hl) _ z hf hk lv hl
theorem W_X6_reckons_20 {G : GT} {X : CX} {d : Nat} {h0 : AH} {Q : State → Prop} (ok : Ok G X RX6 cX6_reckons 5 d h0) (hr : (cxm X).sig.returnType = none) {va : VaT} {e : Nat} (hva : DVA G X.2.1 e va) (hd : e + 11 ≤ d) {a0 : Nat} {x1 : Int32} {x2 : Int32} {h : AH} {z : (AH)} (hf : X6_reckons_20 va a0 x1 x2 h = some z) (hk : Q = QM G X h0 none z) {lv : List (Nat × AV)} (hl : lle lv [(0, vr (some a0)), (1, vi x1), (2, vi x2)]) : V G X 5 h0 Q h 20 lv [] := by
  refine V.sub hl ?_
  unfold X6_reckons_20 at hf
  refine v_ldc ok q1465 dX6_reckons_20 ?_
  refine v_istore_n ok 3 dX6_reckons_22 rfl (by decide) ?_
  refine v_iconst ok 0 dX6_reckons_23 rfl ?_
  refine v_istore ok dX6_reckons_24 (by decide) ?_
  exact W_X6_reckons_26 ok hr hva hd hf hk ⟨rfl, rfl, rfl, rfl, rfl, trivial⟩
theorem W_X6_reckons {G : GT} {X : CX} {d : Nat} {h0 : AH} {Q : State → Prop} (ok : Ok G X RX6 cX6_reckons 5 d h0) (hr : (cxm X).sig.returnType = none) {va : VaT} {e : Nat} (hva : DVA G X.2.1 e va) (hd : e + 11 ≤ d) {a0 : Nat} {x1 : Int32} {x2 : Int32} {h : AH} {z : (AH)} (hf : X6_reckons va a0 x1 x2 h = some z) (hk : Q = QM G X h0 none z) {lv : List (Nat × AV)} (hl : lle lv [(0, vr (some a0)), (1, vi x1), (2, vi x2)]) : V G X 5 h0 Q h 0 lv [] := by
  refine V.sub hl ?_
  unfold X6_reckons at hf
  refine v_iload_n ok 1 dX6_reckons_0 rfl rfl ?_
  refine v_aload_n ok 0 dX6_reckons_1 rfl rfl ?_
  refine v_gI ok fl_X6_104 (fun _ _ _ => rfl) dX6_reckons_2 hf (fun v33 hf => ?_)
  refine v_icmp_ne ok 20 dX6_reckons_5 rfl hf (fun hf => ?_) (fun hf => ?_)
  ·
    exact W_X6_reckons_20 ok hr hva hd hf hk ⟨rfl, rfl, rfl, trivial⟩
  ·
    refine v_iload_n ok 2 dX6_reckons_8 rfl rfl ?_
    refine v_aload_n ok 0 dX6_reckons_9 rfl rfl ?_
    refine v_gI ok fl_X6_46 (fun _ _ _ => rfl) dX6_reckons_10 hf (fun v34 hf => ?_)
    refine v_icmp_ne ok 20 dX6_reckons_13 rfl hf (fun hf => ?_) (fun hf => ?_)
    ·
      exact W_X6_reckons_20 ok hr hva hd hf hk ⟨rfl, rfl, rfl, trivial⟩
    ·
      refine v_iconst ok 0 dX6_reckons_16 rfl ?_
      refine v_goto ok 22 dX6_reckons_17 rfl ?_
      refine v_istore_n ok 3 dX6_reckons_22 rfl (by decide) ?_
      refine v_iconst ok 0 dX6_reckons_23 rfl ?_
      refine v_istore ok dX6_reckons_24 (by decide) ?_
      exact W_X6_reckons_26 ok hr hva hd hf hk ⟨rfl, rfl, rfl, rfl, rfl, trivial⟩
theorem M_X6_reckons {G : GT} {l : Launch} (hG : Glob G) {va : VaT} {e : Nat} (hva : DVA G l e va) {d : Nat} (hd : e + 11 ≤ d) {a0 : Nat} {x1 : Int32} {x2 : Int32} {h : AH} {h' : AH} (hf : X6_reckons va a0 x1 x2 h = some h') : MM G l yX6_reckons cX6_reckons 5 none d [vr (some a0), vi x1, vi x2] h none h' := by
  refine mm_of hG (plainFor_of_name (by decide)) (Nat.le_of_ble_eq_true rfl) (fun X hX ok hr hnm => ?_)
  subst hX
  exact W_X6_reckons ok hr hva hd hf rfl ⟨rfl, rfl, rfl, trivial⟩
theorem cw_X6_by : CW yX6_by cX6_by 6 (Option.some (Jvm.ClassFile.FieldType.object "TurnedBoards$Line")) 3 := ⟨q1456, q184, ⟨by decide, by decide⟩, by decide +kernel, by decide⟩
def pkX6_by_73 (G : GT) (X : CX) (h0 : AH) (Q : State → Prop) (a0 : Nat) (o : ((Int32 × AH) ⊕ (Option Nat × AH))) : Prop := match o with
  | .inl s => ∀ lv : List (Nat × AV), lle lv [(0, vr (some a0)), (4, vi s.1)] → V G X 6 h0 Q s.2 73 lv []
  | .inr z => Q = QM G X h0 (some (vr z.1)) z.2
def pkX6_by_84 (G : GT) (X : CX) (h0 : AH) (Q : State → Prop) (a0 : Nat) (x4 : Int32) (o : ((Int32 × AH) ⊕ ((Int32 × AH) ⊕ (Option Nat × AH)))) : Prop := match o with
  | .inl s => ∀ lv : List (Nat × AV), lle lv [(0, vr (some a0)), (4, vi x4), (5, vi s.1)] → V G X 6 h0 Q s.2 84 lv []
  | .inr z => pkX6_by_73 G X h0 Q a0 z
theorem W_X6_by_84b {G : GT} {X : CX} {d : Nat} {h0 : AH} {Q : State → Prop} (ok : Ok G X RX6 cX6_by 6 d h0) (hr : (cxm X).sig.returnType = (Option.some (Jvm.ClassFile.FieldType.object "TurnedBoards$Line"))) {va : VaT} {e : Nat} (hva : DVA G X.2.1 e va) (hd : e + 12 ≤ d) {a0 : Nat} {x4 : Int32} {x5 : Int32} {h : AH} {z : ((Int32 × AH) ⊕ ((Int32 × AH) ⊕ (Option Nat × AH)))} (hf : X6_by_84b  va a0 x4 x5 h = some z) (hk : pkX6_by_84 G X h0 Q a0 x4 z) {lv : List (Nat × AV)} (hl : lle lv [(0, vr (some a0)), (4, vi x4), (5, vi x5)]) : V G X 6 h0 Q h 84 lv [] := by
  refine V.sub hl ?_
  unfold X6_by_84b at hf
  refine v_iload ok dX6_by_84 rfl ?_
  refine v_if_lt ok 103 dX6_by_86 rfl hf (fun hf => ?_) (fun hf => ?_)
  ·
    refine v_iinc ok x4 (x4 + (-1)) dX6_by_103 rfl rfl (by decide) ?_
    refine v_goto ok 73 dX6_by_106 rfl ?_
    cases hf; exact hk _ ⟨rfl, rfl, trivial⟩
  ·
    refine v_aload_n ok 0 dX6_by_89 rfl rfl ?_
    refine v_iload ok dX6_by_90 rfl ?_
    refine v_iload ok dX6_by_92 rfl ?_
    refine v_cVv ok (RX6, TX6, 10) cf_6.1 [vi x4, vi x5] (F := fun a => X6_reckons va a x4 x5 h) (fun a h1 _ hv => M_X6_reckons ok.2.2.2.2.2.2.1 hva (d := e + 11) (Nat.le_refl _) hv) (by omega) cw_X6_reckons q1461 q1463 qs44 dX6_by_94 [] rfl (Nat.le_of_ble_eq_true rfl) hf (fun h1 hf => ?_)
    refine v_iinc ok x5 (x5 + (-1)) dX6_by_97 rfl rfl (by decide) ?_
    refine v_goto ok 84 dX6_by_100 rfl ?_
    cases hf; exact hk _ ⟨rfl, rfl, rfl, trivial⟩
theorem W_X6_by_84 {G : GT} {X : CX} {d : Nat} {h0 : AH} {Q : State → Prop} (ok : Ok G X RX6 cX6_by 6 d h0) (hr : (cxm X).sig.returnType = (Option.some (Jvm.ClassFile.FieldType.object "TurnedBoards$Line"))) {va : VaT} {e : Nat} (hva : DVA G X.2.1 e va) (hd : e + 12 ≤ d) {a0 : Nat} {x4 : Int32} {x5 : Int32} {h : AH} {z : ((Int32 × AH) ⊕ (Option Nat × AH))} (hf : X6_by_84  va a0 x4 x5 h = some z) (hk : pkX6_by_73 G X h0 Q a0 z) {lv : List (Nat × AV)} (hl : lle lv [(0, vr (some a0)), (4, vi x4), (5, vi x5)]) : V G X 6 h0 Q h 84 lv [] := by
  unfold X6_by_84 at hf
  exact loopC_walk (Wh := fun s : Int32 × AH => ∀ lv : List (Nat × AV), lle lv [(0, vr (some a0)), (4, vi x4), (5, vi s.1)] → V G X 6 h0 Q s.2 84 lv []) (PK := fun z => pkX6_by_73 G X h0 Q a0 z) (fun s o hf hk lv hl => W_X6_by_84b ok hr hva hd hf (by cases o <;> exact hk) hl) _ z hf hk lv hl
theorem W_X6_by_73b {G : GT} {X : CX} {d : Nat} {h0 : AH} {Q : State → Prop} (ok : Ok G X RX6 cX6_by 6 d h0) (hr : (cxm X).sig.returnType = (Option.some (Jvm.ClassFile.FieldType.object "TurnedBoards$Line"))) {va : VaT} {e : Nat} (hva : DVA G X.2.1 e va) (hd : e + 12 ≤ d) {a0 : Nat} {x4 : Int32} {h : AH} {z : ((Int32 × AH) ⊕ (Option Nat × AH))} (hf : X6_by_73b  va a0 x4 h = some z) (hk : pkX6_by_73 G X h0 Q a0 z) {lv : List (Nat × AV)} (hl : lle lv [(0, vr (some a0)), (4, vi x4)]) : V G X 6 h0 Q h 73 lv [] := by
  refine V.sub hl ?_
  unfold X6_by_73b at hf
  refine v_iload ok dX6_by_73 rfl ?_
  refine v_if_lt ok 109 dX6_by_75 rfl hf (fun hf => ?_) (fun hf => ?_)
  ·
    refine v_aload_n ok 0 dX6_by_109 rfl rfl ?_
    exact v_aret ok hr (by first | exact Or.inl ⟨_, rfl⟩ | exact Or.inr ⟨_, rfl⟩) (by cases hf; exact hk) dX6_by_110
  ·
    refine v_aload_n ok 0 dX6_by_78 rfl rfl ?_
    refine v_gI ok fl_X6_46 (fun _ _ _ => rfl) dX6_by_79 hf (fun v2 hf => ?_)
    refine v_istore ok dX6_by_82 (by decide) ?_
    exact W_X6_by_84 ok hr hva hd hf hk ⟨rfl, rfl, rfl, trivial⟩
theorem W_X6_by_73 {G : GT} {X : CX} {d : Nat} {h0 : AH} {Q : State → Prop} (ok : Ok G X RX6 cX6_by 6 d h0) (hr : (cxm X).sig.returnType = (Option.some (Jvm.ClassFile.FieldType.object "TurnedBoards$Line"))) {va : VaT} {e : Nat} (hva : DVA G X.2.1 e va) (hd : e + 12 ≤ d) {a0 : Nat} {x4 : Int32} {h : AH} {z : (Option Nat × AH)} (hf : X6_by_73  va a0 x4 h = some z) (hk : Q = QM G X h0 (some (vr z.1)) z.2) {lv : List (Nat × AV)} (hl : lle lv [(0, vr (some a0)), (4, vi x4)]) : V G X 6 h0 Q h 73 lv [] := by
  unfold X6_by_73 at hf
  exact loopC_walk (Wh := fun s : Int32 × AH => ∀ lv : List (Nat × AV), lle lv [(0, vr (some a0)), (4, vi s.1)] → V G X 6 h0 Q s.2 73 lv []) (PK := fun z => Q = QM G X h0 (some (vr z.1)) z.2) (fun s o hf hk lv hl => W_X6_by_73b ok hr hva hd hf (by cases o <;> exact hk) hl) _ z hf hk lv hl
theorem W_X6_by {G : GT} {X : CX} {d : Nat} {h0 : AH} {Q : State → Prop} (ok : Ok G X RX6 cX6_by 6 d h0) (hr : (cxm X).sig.returnType = (Option.some (Jvm.ClassFile.FieldType.object "TurnedBoards$Line"))) {va : VaT} {e : Nat} (hva : DVA G X.2.1 e va) (hd : e + 12 ≤ d) {a0 : Nat} {x1 : Int32} {x2 : Int32} {x3 : Int32} {h : AH} {z : (Option Nat × AH)} (hf : X6_by va a0 x1 x2 x3 h = some z) (hk : Q = QM G X h0 (some (vr z.1)) z.2) {lv : List (Nat × AV)} (hl : lle lv [(0, vr (some a0)), (1, vi x1), (2, vi x2), (3, vi x3)]) : V G X 6 h0 Q h 0 lv [] := by
  refine V.sub hl ?_
  unfold X6_by at hf
  refine v_aload_n ok 0 dX6_by_0 rfl rfl ?_
  refine v_iload_n ok 1 dX6_by_1 rfl rfl ?_
  refine v_pI ok fl_X6_35 ⟨fun _ _ _ => rfl, rfl⟩ (FN.of cf_6.1 rfl) dX6_by_2 hf (fun h3 hf => ?_)
  refine v_aload_n ok 0 dX6_by_5 rfl rfl ?_
  refine v_iload_n ok 2 dX6_by_6 rfl rfl ?_
  refine v_pI ok fl_X6_43 ⟨fun _ _ _ => rfl, rfl⟩ (FN.of cf_6.1 rfl) dX6_by_7 hf (fun h4 hf => ?_)
  refine v_aload_n ok 0 dX6_by_10 rfl rfl ?_
  refine v_iload_n ok 3 dX6_by_11 rfl rfl ?_
  refine v_pI ok fl_X6_31 ⟨fun _ _ _ => rfl, rfl⟩ (FN.of cf_6.1 rfl) dX6_by_12 hf (fun h5 hf => ?_)
  refine v_aload_n ok 0 dX6_by_15 rfl rfl ?_
  refine v_aload_n ok 0 dX6_by_16 rfl rfl ?_
  refine v_gR ok fl_X6_3 (by first | exact Or.inl ⟨_, rfl⟩ | exact Or.inr ⟨_, rfl⟩) dX6_by_17 hf (fun v6 hf => ?_)
  refine v_gRN ok fl_X6_27 (by first | exact Or.inl ⟨_, rfl⟩ | exact Or.inr ⟨_, rfl⟩) dX6_by_20 hf (fun v7 hf => ?_)
  refine v_gRN ok fl_X6_60 (by first | exact Or.inl ⟨_, rfl⟩ | exact Or.inr ⟨_, rfl⟩) dX6_by_23 hf (fun v8 hf => ?_)
  refine v_iload_n ok 1 dX6_by_26 rfl rfl ?_
  refine v_cFr ok (RJ2, TJ2, 3) cf_23.1 [vi x1] (F := fun a => J2_get a x1 h5) (fun a v h1 _ hv => M_J2_get ok.2.2.2.2.2.2.1 (d := 3) (Nat.le_refl _) hv) (by omega) cw_J2_get q1458 q907 cwf_J2_get dX6_by_27 [vr (some a0)] rfl (Nat.le_of_ble_eq_true rfl) hf (fun v9 h10 hf => ?_)
  refine v_cast_ ok ck_TurnedBoards_Word q1459 dX6_by_32 hf (fun hf => ?_)
  refine v_cVi ok (RX9, TX9, 1) cf_9.1 [] (F := fun a => X9_size a h10) (fun a v h1 _ hv => M_X9_size ok.2.2.2.2.2.2.1 (d := 3) (Nat.le_refl _) hv) (by omega) cw_X9_size q1460 q989 q990 dX6_by_35 [vr (some a0)] rfl (Nat.le_of_ble_eq_true rfl) hf (fun v11 h12 hf => ?_)
  refine v_pI ok fl_X6_104 ⟨fun _ _ _ => rfl, rfl⟩ (FN.of cf_6.1 rfl) dX6_by_38 hf (fun h13 hf => ?_)
  refine v_aload_n ok 0 dX6_by_41 rfl rfl ?_
  refine v_aload_n ok 0 dX6_by_42 rfl rfl ?_
  refine v_gR ok fl_X6_3 (by first | exact Or.inl ⟨_, rfl⟩ | exact Or.inr ⟨_, rfl⟩) dX6_by_43 hf (fun v14 hf => ?_)
  refine v_gRN ok fl_X6_27 (by first | exact Or.inl ⟨_, rfl⟩ | exact Or.inr ⟨_, rfl⟩) dX6_by_46 hf (fun v15 hf => ?_)
  refine v_gRN ok fl_X6_60 (by first | exact Or.inl ⟨_, rfl⟩ | exact Or.inr ⟨_, rfl⟩) dX6_by_49 hf (fun v16 hf => ?_)
  refine v_iload_n ok 2 dX6_by_52 rfl rfl ?_
  refine v_cFr ok (RJ2, TJ2, 3) cf_23.1 [vi x2] (F := fun a => J2_get a x2 h13) (fun a v h1 _ hv => M_J2_get ok.2.2.2.2.2.2.1 (d := 3) (Nat.le_refl _) hv) (by omega) cw_J2_get q1458 q907 cwf_J2_get dX6_by_53 [vr (some a0)] rfl (Nat.le_of_ble_eq_true rfl) hf (fun v17 h18 hf => ?_)
  refine v_cast_ ok ck_TurnedBoards_Word q1459 dX6_by_58 hf (fun hf => ?_)
  refine v_cVi ok (RX9, TX9, 1) cf_9.1 [] (F := fun a => X9_size a h18) (fun a v h1 _ hv => M_X9_size ok.2.2.2.2.2.2.1 (d := 3) (Nat.le_refl _) hv) (by omega) cw_X9_size q1460 q989 q990 dX6_by_61 [vr (some a0)] rfl (Nat.le_of_ble_eq_true rfl) hf (fun v19 h20 hf => ?_)
  refine v_pI ok fl_X6_46 ⟨fun _ _ _ => rfl, rfl⟩ (FN.of cf_6.1 rfl) dX6_by_64 hf (fun h21 hf => ?_)
  refine v_aload_n ok 0 dX6_by_67 rfl rfl ?_
  refine v_gI ok fl_X6_104 (fun _ _ _ => rfl) dX6_by_68 hf (fun v22 hf => ?_)
  refine v_istore ok dX6_by_71 (by decide) ?_
  exact W_X6_by_73 ok hr hva hd hf hk ⟨rfl, rfl, trivial⟩
theorem M_X6_by {G : GT} {l : Launch} (hG : Glob G) {va : VaT} {e : Nat} (hva : DVA G l e va) {d : Nat} (hd : e + 12 ≤ d) {a0 : Nat} {x1 : Int32} {x2 : Int32} {x3 : Int32} {h : AH} {v : Option Nat} {h' : AH} (hf : X6_by va a0 x1 x2 x3 h = some (v, h')) : MM G l yX6_by cX6_by 6 (Option.some (Jvm.ClassFile.FieldType.object "TurnedBoards$Line")) d [vr (some a0), vi x1, vi x2, vi x3] h (some (vr v)) h' := by
  refine mm_of hG (plainFor_of_name (by decide)) (Nat.le_of_ble_eq_true rfl) (fun X hX ok hr hnm => ?_)
  subst hX
  exact W_X6_by ok hr hva hd hf rfl ⟨rfl, rfl, rfl, rfl, trivial⟩
theorem cw_X6_doubt : CW yX6_doubt cX6_doubt 1 (Option.some Jvm.ClassFile.FieldType.int) 0 := ⟨q1505, q184, ⟨by decide, by decide⟩, by decide +kernel, by decide⟩
theorem W_X6_doubt {G : GT} {X : CX} {d : Nat} {h0 : AH} {Q : State → Prop} (ok : Ok G X RX6 cX6_doubt 1 d h0) (hr : (cxm X).sig.returnType = (Option.some Jvm.ClassFile.FieldType.int)) (hd : 1 ≤ d) {a0 : Nat} {h : AH} {z : (Int32 × AH)} (hf : X6_doubt a0 h = some z) (hk : Q = QM G X h0 (some (vi z.1)) z.2) {lv : List (Nat × AV)} (hl : lle lv [(0, vr (some a0))]) : V G X 1 h0 Q h 0 lv [] := by
  refine V.sub hl ?_
  unfold X6_doubt at hf
  refine v_aload_n ok 0 dX6_doubt_0 rfl rfl ?_
  refine v_gR ok fl_X6_17 (by first | exact Or.inl ⟨_, rfl⟩ | exact Or.inr ⟨_, rfl⟩) dX6_doubt_1 hf (fun v1 hf => ?_)
  refine v_iconst ok 0 dX6_doubt_4 rfl ?_
  refine v_aald6 ok rfl dX6_doubt_5 hf (fun v2 hf => ?_)
  refine v_iconst ok 0 dX6_doubt_6 rfl ?_
  refine v_iald ok rfl dX6_doubt_7 hf (fun v3 hf => ?_)
  refine v_sipush ok 1000 dX6_doubt_8 rfl ?_
  refine v_idiv ok dX6_doubt_11 hf (fun hf => ?_)
  exact v_iret ok hr (by cases hf; exact hk) dX6_doubt_12
theorem M_X6_doubt {G : GT} {l : Launch} (hG : Glob G) {d : Nat} (hd : 1 ≤ d) {a0 : Nat} {h : AH} {v : Int32} {h' : AH} (hf : X6_doubt a0 h = some (v, h')) : MM G l yX6_doubt cX6_doubt 1 (Option.some Jvm.ClassFile.FieldType.int) d [vr (some a0)] h (some (vi v)) h' := by
  refine mm_of hG (plainFor_of_name (by decide)) (Nat.le_of_ble_eq_true rfl) (fun X hX ok hr hnm => ?_)
  subst hX
  exact W_X6_doubt ok hr hd hf rfl ⟨rfl, trivial⟩
theorem cw_X0_looked : CW yX0_looked cX0_looked 4 (Option.some Jvm.ClassFile.FieldType.long) 2 := ⟨q1452, q168, ⟨by decide, by decide⟩, by decide +kernel, by decide⟩
theorem W_X0_looked_41 {G : GT} {X : CX} {d : Nat} {h0 : AH} {Q : State → Prop} (ok : Ok G X RX0 cX0_looked 4 d h0) (hr : (cxm X).sig.returnType = (Option.some Jvm.ClassFile.FieldType.long)) {va : VaT} {e : Nat} (hva : DVA G X.2.1 e va) (hd : e + 13 ≤ d) {h : AH} {z : (Int64 × AH)} (hf : X0_looked_41 va h = some z) (hk : Q = QM G X h0 (some (vl z.1)) z.2) {lv : List (Nat × AV)} (hl : lle lv []) : V G X 4 h0 Q h 41 lv [] := by
  refine V.sub hl ?_
  unfold X0_looked_41 at hf
  refine v_ldc2 ok q1506 dX0_looked_41 ?_
  exact v_lret ok hr (by cases hf; exact hk) dX0_looked_44
theorem W_X0_looked_107 {G : GT} {X : CX} {d : Nat} {h0 : AH} {Q : State → Prop} (ok : Ok G X RX0 cX0_looked 4 d h0) (hr : (cxm X).sig.returnType = (Option.some Jvm.ClassFile.FieldType.long)) {va : VaT} {e : Nat} (hva : DVA G X.2.1 e va) (hd : e + 13 ≤ d) {h : AH} {z : (Int64 × AH)} (hf : X0_looked_107 va h = some z) (hk : Q = QM G X h0 (some (vl z.1)) z.2) {lv : List (Nat × AV)} (hl : lle lv []) : V G X 4 h0 Q h 107 lv [] := by
  refine V.sub hl ?_
  unfold X0_looked_107 at hf
  refine v_ldc2 ok q1506 dX0_looked_107 ?_
  exact v_lret ok hr (by cases hf; exact hk) dX0_looked_110
theorem W_X0_looked {G : GT} {X : CX} {d : Nat} {h0 : AH} {Q : State → Prop} (ok : Ok G X RX0 cX0_looked 4 d h0) (hr : (cxm X).sig.returnType = (Option.some Jvm.ClassFile.FieldType.long)) {va : VaT} {e : Nat} (hva : DVA G X.2.1 e va) (hd : e + 13 ≤ d) {a0 : Nat} {x1 : Int32} {x2 : Int64} {h : AH} {z : (Int64 × AH)} (hf : X0_looked va a0 x1 x2 h = some z) (hk : Q = QM G X h0 (some (vl z.1)) z.2) {lv : List (Nat × AV)} (hl : lle lv [(0, vr (some a0)), (1, vi x1), (2, vl x2)]) : V G X 4 h0 Q h 0 lv [] := by
  refine V.sub hl ?_
  unfold X0_looked at hf
  refine v_iload_n ok 1 dX0_looked_0 rfl rfl ?_
  refine v_if_ne ok 45 dX0_looked_1 rfl hf (fun hf => ?_) (fun hf => ?_)
  ·
    refine v_lload_n ok 2 dX0_looked_45 rfl rfl ?_
    refine v_lconst ok 0 dX0_looked_46 rfl ?_
    refine v_lcmp ok dX0_looked_47 ?_
    refine v_if_lt ok 107 dX0_looked_48 rfl hf (fun hf => ?_) (fun hf => ?_)
    ·
      exact W_X0_looked_107 ok hr hva hd hf hk trivial
    ·
      refine v_lload_n ok 2 dX0_looked_51 rfl rfl ?_
      refine v_aload_n ok 0 dX0_looked_52 rfl rfl ?_
      refine v_gR ok fl_X0_31 (by first | exact Or.inl ⟨_, rfl⟩ | exact Or.inr ⟨_, rfl⟩) dX0_looked_53 hf (fun v1 hf => ?_)
      refine v_gRN ok fl_X0_133 (by first | exact Or.inl ⟨_, rfl⟩ | exact Or.inr ⟨_, rfl⟩) dX0_looked_56 hf (fun v2 hf => ?_)
      refine v_aload_n ok 0 dX0_looked_59 rfl rfl ?_
      refine v_gI ok fl_X0_347 (fun _ _ _ => rfl) dX0_looked_60 hf (fun v3 hf => ?_)
      refine v_cFr ok (RJ2, TJ2, 3) cf_23.1 [vi v3] (F := fun a => J2_get a v3 h) (fun a v h1 _ hv => M_J2_get ok.2.2.2.2.2.2.1 (d := 3) (Nat.le_refl _) hv) (by omega) cw_J2_get q1327 q907 cwf_J2_get dX0_looked_63 [vl x2] rfl (Nat.le_of_ble_eq_true rfl) hf (fun v4 h5 hf => ?_)
      refine v_cast_ ok ck_TurnedBoards_Word q1374 dX0_looked_68 hf (fun hf => ?_)
      refine v_cVi ok (RX9, TX9, 1) cf_9.1 [] (F := fun a => X9_size a h5) (fun a v h1 _ hv => M_X9_size ok.2.2.2.2.2.2.1 (d := 3) (Nat.le_refl _) hv) (by omega) cw_X9_size q1507 q989 q990 dX0_looked_71 [vl x2] rfl (Nat.le_of_ble_eq_true rfl) hf (fun v6 h7 hf => ?_)
      refine v_i2l ok dX0_looked_74 ?_
      refine v_lcmp ok dX0_looked_75 ?_
      refine v_if_ge ok 107 dX0_looked_76 rfl hf (fun hf => ?_) (fun hf => ?_)
      ·
        exact W_X0_looked_107 ok hr hva hd hf hk trivial
      ·
        refine v_aload_n ok 0 dX0_looked_79 rfl rfl ?_
        refine v_gR ok fl_X0_31 (by first | exact Or.inl ⟨_, rfl⟩ | exact Or.inr ⟨_, rfl⟩) dX0_looked_80 hf (fun v8 hf => ?_)
        refine v_gRN ok fl_X0_133 (by first | exact Or.inl ⟨_, rfl⟩ | exact Or.inr ⟨_, rfl⟩) dX0_looked_83 hf (fun v9 hf => ?_)
        refine v_aload_n ok 0 dX0_looked_86 rfl rfl ?_
        refine v_gI ok fl_X0_347 (fun _ _ _ => rfl) dX0_looked_87 hf (fun v10 hf => ?_)
        refine v_cFr ok (RJ2, TJ2, 3) cf_23.1 [vi v10] (F := fun a => J2_get a v10 h7) (fun a v h1 _ hv => M_J2_get ok.2.2.2.2.2.2.1 (d := 3) (Nat.le_refl _) hv) (by omega) cw_J2_get q1327 q907 cwf_J2_get dX0_looked_90 [] rfl (Nat.le_of_ble_eq_true rfl) hf (fun v11 h12 hf => ?_)
        refine v_cast_ ok ck_TurnedBoards_Word q1374 dX0_looked_95 hf (fun hf => ?_)
        refine v_lload_n ok 2 dX0_looked_98 rfl rfl ?_
        refine v_l2i ok dX0_looked_99 ?_
        refine v_cVi ok (RX9, TX9, 1) cf_9.1 [vi (Int64.toInt32 x2)] (F := fun a => X9_at a (Int64.toInt32 x2) h12) (fun a v h1 _ hv => M_X9_at ok.2.2.2.2.2.2.1 (d := 6) (Nat.le_refl _) hv) (by omega) cw_X9_at q1375 q994 q995 dX0_looked_100 [] rfl (Nat.le_of_ble_eq_true rfl) hf (fun v13 h14 hf => ?_)
        refine v_i2l ok dX0_looked_103 ?_
        refine v_goto ok 110 dX0_looked_104 rfl ?_
        exact v_lret ok hr (by cases hf; exact hk) dX0_looked_110
  ·
    refine v_lload_n ok 2 dX0_looked_4 rfl rfl ?_
    refine v_lconst ok 0 dX0_looked_5 rfl ?_
    refine v_lcmp ok dX0_looked_6 ?_
    refine v_if_lt ok 41 dX0_looked_7 rfl hf (fun hf => ?_) (fun hf => ?_)
    ·
      exact W_X0_looked_41 ok hr hva hd hf hk trivial
    ·
      refine v_lload_n ok 2 dX0_looked_10 rfl rfl ?_
      refine v_aload_n ok 0 dX0_looked_11 rfl rfl ?_
      refine v_cVi ok (RX0, TX0, 18) cf_0.1 [] (F := fun a => X0_words a h) (fun a v h1 _ hv => M_X0_words ok.2.2.2.2.2.2.1 (d := 2) (Nat.le_refl _) hv) (by omega) cw_X0_words q1329 q1331 qs36 dX0_looked_12 [vl x2] rfl (Nat.le_of_ble_eq_true rfl) hf (fun v15 h16 hf => ?_)
      refine v_i2l ok dX0_looked_15 ?_
      refine v_lcmp ok dX0_looked_16 ?_
      refine v_if_ge ok 41 dX0_looked_17 rfl hf (fun hf => ?_) (fun hf => ?_)
      ·
        exact W_X0_looked_41 ok hr hva hd hf hk trivial
      ·
        refine v_aload_n ok 0 dX0_looked_20 rfl rfl ?_
        refine v_gR ok fl_X0_79 (by first | exact Or.inl ⟨_, rfl⟩ | exact Or.inr ⟨_, rfl⟩) dX0_looked_21 hf (fun v17 hf => ?_)
        refine v_aload_n ok 0 dX0_looked_24 rfl rfl ?_
        refine v_gI ok fl_X0_347 (fun _ _ _ => rfl) dX0_looked_25 hf (fun v18 hf => ?_)
        refine v_lload_n ok 2 dX0_looked_28 rfl rfl ?_
        refine v_l2i ok dX0_looked_29 ?_
        refine v_iconst ok 0 dX0_looked_30 rfl ?_
        refine v_cVr ok (RX6, TX6, 10) cf_6.1 [vi v18, vi (Int64.toInt32 x2), vi 0] (F := fun a => X6_by va a v18 (Int64.toInt32 x2) 0 h16) (fun a v h1 _ hv => M_X6_by ok.2.2.2.2.2.2.1 hva (d := e + 12) (Nat.le_refl _) hv) (by omega) cw_X6_by q1453 q1454 q1455 dX0_looked_31 [] rfl (Nat.le_of_ble_eq_true rfl) hf (fun v19 h20 hf => ?_)
        refine v_cVi ok (RX6, TX6, 10) cf_6.1 [] (F := fun a => X6_doubt a h20) (fun a v h1 _ hv => M_X6_doubt ok.2.2.2.2.2.2.1 (d := 1) (Nat.le_refl _) hv) (by omega) cw_X6_doubt q1502 q1503 q1504 dX0_looked_34 [] rfl (Nat.le_of_ble_eq_true rfl) hf (fun v21 h22 hf => ?_)
        refine v_i2l ok dX0_looked_37 ?_
        refine v_goto ok 44 dX0_looked_38 rfl ?_
        exact v_lret ok hr (by cases hf; exact hk) dX0_looked_44
theorem M_X0_looked {G : GT} {l : Launch} (hG : Glob G) {va : VaT} {e : Nat} (hva : DVA G l e va) {d : Nat} (hd : e + 13 ≤ d) {a0 : Nat} {x1 : Int32} {x2 : Int64} {h : AH} {v : Int64} {h' : AH} (hf : X0_looked va a0 x1 x2 h = some (v, h')) : MM G l yX0_looked cX0_looked 4 (Option.some Jvm.ClassFile.FieldType.long) d [vr (some a0), vi x1, vl x2] h (some (vl v)) h' := by
  refine mm_of hG (plainFor_of_name (by decide)) (Nat.le_of_ble_eq_true rfl) (fun X hX ok hr hnm => ?_)
  subst hX
  exact W_X0_looked ok hr hva hd hf rfl ⟨rfl, rfl, rfl, trivial⟩
theorem cw_X0_readAs : CW yX0_readAs cX0_readAs 9 (Option.some Jvm.ClassFile.FieldType.int) 2 := ⟨q1539, q168, ⟨by decide, by decide⟩, by decide +kernel, by decide⟩
def pkX0_readAs_17 (G : GT) (X : CX) (h0 : AH) (Q : State → Prop) (a0 : Nat) (x1 : Int32) (x2 : Int32) (o : ((Int32 × Int64 × Int32 × AH) ⊕ (Int32 × AH))) : Prop := match o with
  | .inl s => ∀ lv : List (Nat × AV), lle lv [(0, vr (some a0)), (1, vi x1), (2, vi x2), (3, vi s.1), (4, vl s.2.1), (6, vi s.2.2.1)] → V G X 9 h0 Q s.2.2.2 17 lv []
  | .inr z => Q = QM G X h0 (some (vi z.1)) z.2
theorem W_X0_readAs_17b {G : GT} {X : CX} {d : Nat} {h0 : AH} {Q : State → Prop} (ok : Ok G X RX0 cX0_readAs 9 d h0) (hr : (cxm X).sig.returnType = (Option.some Jvm.ClassFile.FieldType.int)) {va : VaT} {e : Nat} (hva : DVA G X.2.1 e va) (hd : e + 5 ≤ d) {a0 : Nat} {x1 : Int32} {x2 : Int32} {x3 : Int32} {x4 : Int64} {x6 : Int32} {h : AH} {z : ((Int32 × Int64 × Int32 × AH) ⊕ (Int32 × AH))} (hf : X0_readAs_17b  va a0 x1 x2 x3 x4 x6 h = some z) (hk : pkX0_readAs_17 G X h0 Q a0 x1 x2 z) {lv : List (Nat × AV)} (hl : lle lv [(0, vr (some a0)), (1, vi x1), (2, vi x2), (3, vi x3), (4, vl x4), (6, vi x6)]) : V G X 9 h0 Q h 17 lv [] := by
  refine V.sub hl ?_
  unfold X0_readAs_17b at hf
  refine v_iload ok dX0_readAs_17 rfl ?_
  refine v_aload_n ok 0 dX0_readAs_19 rfl rfl ?_
  refine v_iload_n ok 1 dX0_readAs_20 rfl rfl ?_
  refine v_cVi ok (RX0, TX0, 18) cf_0.1 [vi x1] (F := fun a => X0_letters a x1 h) (fun a v h1 _ hv => M_X0_letters ok.2.2.2.2.2.2.1 (d := 4) (Nat.le_refl _) hv) (by omega) cw_X0_letters q1322 q1324 qs35 dX0_readAs_21 [vi x6] rfl (Nat.le_of_ble_eq_true rfl) hf (fun v1 h2 hf => ?_)
  refine v_icmp_ge ok 73 dX0_readAs_24 rfl hf (fun hf => ?_) (fun hf => ?_)
  ·
    refine v_iload_n ok 3 dX0_readAs_73 rfl rfl ?_
    exact v_iret ok hr (by cases hf; exact hk) dX0_readAs_74
  ·
    refine v_aload_n ok 0 dX0_readAs_27 rfl rfl ?_
    refine v_aload_n ok 0 dX0_readAs_28 rfl rfl ?_
    refine v_iload_n ok 1 dX0_readAs_29 rfl rfl ?_
    refine v_iload ok dX0_readAs_30 rfl ?_
    refine v_cVr ok (RX0, TX0, 18) cf_0.1 [vi x1, vi x6] (F := fun a => X0_letterOf a x1 x6 h2) (fun a v h1 _ hv => M_X0_letterOf ok.2.2.2.2.2.2.1 (d := 4) (Nat.le_refl _) hv) (by omega) cw_X0_letterOf q1356 q1358 qs38 dX0_readAs_32 [vr (some a0)] rfl (Nat.le_of_ble_eq_true rfl) hf (fun v3 h4 hf => ?_)
    refine v_iload_n ok 2 dX0_readAs_35 rfl rfl ?_
    refine v_cVl ok (RX0, TX0, 18) cf_0.1 [vr v3, vi x2] (F := fun a => X0_doubtOf va a v3 x2 h4) (fun a v h1 _ hv => M_X0_doubtOf ok.2.2.2.2.2.2.1 hva (d := e + 3) (Nat.le_refl _) hv) (by omega) cw_X0_doubtOf q1411 q1413 qs42 dX0_readAs_36 [] rfl (Nat.le_of_ble_eq_true rfl) hf (fun v5 h6 hf => ?_)
    refine v_lstore ok dX0_readAs_39 (by decide) ?_
    refine v_lload ok dX0_readAs_41 rfl ?_
    refine v_lload ok dX0_readAs_43 rfl ?_
    refine v_lcmp ok dX0_readAs_45 ?_
    refine v_if_lt ok 52 dX0_readAs_46 rfl hf (fun hf => ?_) (fun hf => ?_)
    ·
      refine v_lload ok dX0_readAs_52 rfl ?_
      refine v_lstore ok dX0_readAs_54 (by decide) ?_
      refine v_aload_n ok 0 dX0_readAs_56 rfl rfl ?_
      refine v_iload_n ok 1 dX0_readAs_57 rfl rfl ?_
      refine v_iload ok dX0_readAs_58 rfl ?_
      refine v_cVr ok (RX0, TX0, 18) cf_0.1 [vi x1, vi x6] (F := fun a => X0_letterOf a x1 x6 h6) (fun a v h1 _ hv => M_X0_letterOf ok.2.2.2.2.2.2.1 (d := 4) (Nat.le_refl _) hv) (by omega) cw_X0_letterOf q1356 q1358 qs38 dX0_readAs_60 [] rfl (Nat.le_of_ble_eq_true rfl) hf (fun v7 h8 hf => ?_)
      refine v_gIN ok fl_X0_215 (fun _ _ _ => rfl) dX0_readAs_63 hf (fun v9 hf => ?_)
      refine v_istore_n ok 3 dX0_readAs_66 rfl (by decide) ?_
      refine v_iinc ok x6 (x6 + 1) dX0_readAs_67 rfl rfl (by decide) ?_
      refine v_goto ok 17 dX0_readAs_70 rfl ?_
      cases hf; exact hk _ ⟨rfl, rfl, rfl, rfl, rfl, rfl, trivial⟩
    ·
      refine v_goto ok 67 dX0_readAs_49 rfl ?_
      refine v_iinc ok x6 (x6 + 1) dX0_readAs_67 rfl rfl (by decide) ?_
      refine v_goto ok 17 dX0_readAs_70 rfl ?_
      cases hf; exact hk _ ⟨rfl, rfl, rfl, rfl, rfl, rfl, trivial⟩
theorem W_X0_readAs_17 {G : GT} {X : CX} {d : Nat} {h0 : AH} {Q : State → Prop} (ok : Ok G X RX0 cX0_readAs 9 d h0) (hr : (cxm X).sig.returnType = (Option.some Jvm.ClassFile.FieldType.int)) {va : VaT} {e : Nat} (hva : DVA G X.2.1 e va) (hd : e + 5 ≤ d) {a0 : Nat} {x1 : Int32} {x2 : Int32} {x3 : Int32} {x4 : Int64} {x6 : Int32} {h : AH} {z : (Int32 × AH)} (hf : X0_readAs_17  va a0 x1 x2 x3 x4 x6 h = some z) (hk : Q = QM G X h0 (some (vi z.1)) z.2) {lv : List (Nat × AV)} (hl : lle lv [(0, vr (some a0)), (1, vi x1), (2, vi x2), (3, vi x3), (4, vl x4), (6, vi x6)]) : V G X 9 h0 Q h 17 lv [] := by
  unfold X0_readAs_17 at hf
  exact loopC_walk (Wh := fun s : Int32 × Int64 × Int32 × AH => ∀ lv : List (Nat × AV), lle lv [(0, vr (some a0)), (1, vi x1), (2, vi x2), (3, vi s.1), (4, vl s.2.1), (6, vi s.2.2.1)] → V G X 9 h0 Q s.2.2.2 17 lv []) (PK := fun z => Q = QM G X h0 (some (vi z.1)) z.2) (fun s o hf hk lv hl => W_X0_readAs_17b ok hr hva hd hf (by cases o <;> exact hk) hl) _ z hf hk lv hl
theorem W_X0_readAs {G : GT} {X : CX} {d : Nat} {h0 : AH} {Q : State → Prop} (ok : Ok G X RX0 cX0_readAs 9 d h0) (hr : (cxm X).sig.returnType = (Option.some Jvm.ClassFile.FieldType.int)) {va : VaT} {e : Nat} (hva : DVA G X.2.1 e va) (hd : e + 5 ≤ d) {a0 : Nat} {x1 : Int32} {x2 : Int32} {h : AH} {z : (Int32 × AH)} (hf : X0_readAs va a0 x1 x2 h = some z) (hk : Q = QM G X h0 (some (vi z.1)) z.2) {lv : List (Nat × AV)} (hl : lle lv [(0, vr (some a0)), (1, vi x1), (2, vi x2)]) : V G X 9 h0 Q h 0 lv [] := by
  refine V.sub hl ?_
  unfold X0_readAs at hf
  refine v_iconst ok 0 dX0_readAs_0 rfl ?_
  refine v_istore_n ok 3 dX0_readAs_1 rfl (by decide) ?_
  refine v_aload_n ok 0 dX0_readAs_2 rfl rfl ?_
  refine v_gR ok fl_X0_31 (by first | exact Or.inl ⟨_, rfl⟩ | exact Or.inr ⟨_, rfl⟩) dX0_readAs_3 hf (fun v10 hf => ?_)
  refine v_gIN ok fl_X0_204 (fun _ _ _ => rfl) dX0_readAs_6 hf (fun v11 hf => ?_)
  refine v_i2l ok dX0_readAs_9 ?_
  refine v_lconst ok 1 dX0_readAs_10 rfl ?_
  refine v_ladd ok dX0_readAs_11 ?_
  refine v_lstore ok dX0_readAs_12 (by decide) ?_
  refine v_iconst ok 0 dX0_readAs_14 rfl ?_
  refine v_istore ok dX0_readAs_15 (by decide) ?_
  exact W_X0_readAs_17 ok hr hva hd hf hk ⟨rfl, rfl, rfl, rfl, rfl, rfl, trivial⟩
theorem M_X0_readAs {G : GT} {l : Launch} (hG : Glob G) {va : VaT} {e : Nat} (hva : DVA G l e va) {d : Nat} (hd : e + 5 ≤ d) {a0 : Nat} {x1 : Int32} {x2 : Int32} {h : AH} {v : Int32} {h' : AH} (hf : X0_readAs va a0 x1 x2 h = some (v, h')) : MM G l yX0_readAs cX0_readAs 9 (Option.some Jvm.ClassFile.FieldType.int) d [vr (some a0), vi x1, vi x2] h (some (vi v)) h' := by
  refine mm_of hG (plainFor_of_name (by decide)) (Nat.le_of_ble_eq_true rfl) (fun X hX ok hr hnm => ?_)
  subst hX
  exact W_X0_readAs ok hr hva hd hf rfl ⟨rfl, rfl, rfl, trivial⟩
theorem cw_X0_reads : CW yX0_reads cX0_reads 4 (Option.some Jvm.ClassFile.FieldType.int) 3 := ⟨q1535, q168, ⟨by decide, by decide⟩, by decide +kernel, by decide⟩
theorem W_X0_reads {G : GT} {X : CX} {d : Nat} {h0 : AH} {Q : State → Prop} (ok : Ok G X RX0 cX0_reads 4 d h0) (hr : (cxm X).sig.returnType = (Option.some Jvm.ClassFile.FieldType.int)) {va : VaT} {e : Nat} (hva : DVA G X.2.1 e va) (hd : e + 6 ≤ d) {a0 : Nat} {x1 : Int32} {x2 : Int32} {x3 : Int32} {h : AH} {z : (Int32 × AH)} (hf : X0_reads va a0 x1 x2 x3 h = some z) (hk : Q = QM G X h0 (some (vi z.1)) z.2) {lv : List (Nat × AV)} (hl : lle lv [(0, vr (some a0)), (1, vi x1), (2, vi x2), (3, vi x3)]) : V G X 4 h0 Q h 0 lv [] := by
  refine V.sub hl ?_
  unfold X0_reads at hf
  refine v_iload_n ok 1 dX0_reads_0 rfl rfl ?_
  refine v_cSi ok [vi x1] (F := X0_isHand x1 h) (fun v h1 hv => M_X0_isHand ok.2.2.2.2.2.2.1 (d := 2) (Nat.le_refl _) hv) (by omega) cw_X0_isHand q1352 q1353 dX0_reads_1 [] rfl (Nat.le_of_ble_eq_true rfl) hf (fun v1 h2 hf => ?_)
  refine v_if_eq ok 28 dX0_reads_4 rfl hf (fun hf => ?_) (fun hf => ?_)
  ·
    refine v_iconst ok (-1) dX0_reads_28 rfl ?_
    exact v_iret ok hr (by cases hf; exact hk) dX0_reads_29
  ·
    refine v_iload_n ok 2 dX0_reads_7 rfl rfl ?_
    refine v_iload_n ok 3 dX0_reads_8 rfl rfl ?_
    refine v_cSi ok [vi x2, vi x3] (F := X0_isSeen x2 x3 h2) (fun v h1 hv => M_X0_isSeen ok.2.2.2.2.2.2.1 (d := 2) (Nat.le_refl _) hv) (by omega) cw_X0_isSeen q1401 q1402 dX0_reads_9 [] rfl (Nat.le_of_ble_eq_true rfl) hf (fun v3 h4 hf => ?_)
    refine v_if_eq ok 28 dX0_reads_12 rfl hf (fun hf => ?_) (fun hf => ?_)
    ·
      refine v_iconst ok (-1) dX0_reads_28 rfl ?_
      exact v_iret ok hr (by cases hf; exact hk) dX0_reads_29
    ·
      refine v_aload_n ok 0 dX0_reads_15 rfl rfl ?_
      refine v_iload_n ok 1 dX0_reads_16 rfl rfl ?_
      refine v_iload_n ok 2 dX0_reads_17 rfl rfl ?_
      refine v_iload_n ok 3 dX0_reads_18 rfl rfl ?_
      refine v_cSi ok [vi x2, vi x3] (F := X0_turned x2 x3 h4) (fun v h1 hv => M_X0_turned ok.2.2.2.2.2.2.1 (d := 1) (Nat.le_refl _) hv) (by omega) cw_X0_turned q1404 q1405 dX0_reads_19 [vi x1, vr (some a0)] rfl (Nat.le_of_ble_eq_true rfl) hf (fun v5 h6 hf => ?_)
      refine v_cVi ok (RX0, TX0, 18) cf_0.1 [vi x1, vi v5] (F := fun a => X0_readAs va a x1 v5 h6) (fun a v h1 _ hv => M_X0_readAs ok.2.2.2.2.2.2.1 hva (d := e + 5) (Nat.le_refl _) hv) (by omega) cw_X0_readAs q1536 q1538 qs52 dX0_reads_22 [] rfl (Nat.le_of_ble_eq_true rfl) hf (fun v7 h8 hf => ?_)
      refine v_goto ok 29 dX0_reads_25 rfl ?_
      exact v_iret ok hr (by cases hf; exact hk) dX0_reads_29
theorem M_X0_reads {G : GT} {l : Launch} (hG : Glob G) {va : VaT} {e : Nat} (hva : DVA G l e va) {d : Nat} (hd : e + 6 ≤ d) {a0 : Nat} {x1 : Int32} {x2 : Int32} {x3 : Int32} {h : AH} {v : Int32} {h' : AH} (hf : X0_reads va a0 x1 x2 x3 h = some (v, h')) : MM G l yX0_reads cX0_reads 4 (Option.some Jvm.ClassFile.FieldType.int) d [vr (some a0), vi x1, vi x2, vi x3] h (some (vi v)) h' := by
  refine mm_of hG (plainFor_of_name (by decide)) (Nat.le_of_ble_eq_true rfl) (fun X hX ok hr hnm => ?_)
  subst hX
  exact W_X0_reads ok hr hva hd hf rfl ⟨rfl, rfl, rfl, rfl, trivial⟩
theorem cw_X0_isAhead : CW yX0_isAhead cX0_isAhead 4 (Option.some Jvm.ClassFile.FieldType.boolean) 3 := ⟨q1547, q168, ⟨by decide, by decide⟩, by decide +kernel, by decide⟩
theorem W_X0_isAhead {G : GT} {X : CX} {d : Nat} {h0 : AH} {Q : State → Prop} (ok : Ok G X RX0 cX0_isAhead 4 d h0) (hr : (cxm X).sig.returnType = (Option.some Jvm.ClassFile.FieldType.boolean)) (hd : 2 ≤ d) {a0 : Nat} {x1 : Int32} {x2 : Int32} {x3 : Int32} {h : AH} {z : (Int32 × AH)} (hf : X0_isAhead a0 x1 x2 x3 h = some z) (hk : Q = QM G X h0 (some (vi z.1)) z.2) {lv : List (Nat × AV)} (hl : lle lv [(0, vr (some a0)), (1, vi x1), (2, vi x2), (3, vi x3)]) : V G X 4 h0 Q h 0 lv [] := by
  refine V.sub hl ?_
  unfold X0_isAhead at hf
  refine v_iload_n ok 1 dX0_isAhead_0 rfl rfl ?_
  refine v_iload_n ok 2 dX0_isAhead_1 rfl rfl ?_
  refine v_iload_n ok 3 dX0_isAhead_2 rfl rfl ?_
  refine v_cSi ok [vi x1, vi x2, vi x3] (F := X0_is x1 x2 x3 h) (fun v h1 hv => M_X0_is ok.2.2.2.2.2.2.1 (d := 1) (Nat.le_refl _) hv) (by exact Nat.le_trans (by decide) hd) cw_X0_is q1355 q899 dX0_isAhead_3 [] rfl (Nat.le_of_ble_eq_true rfl) hf (fun v1 h2 hf => ?_)
  refine v_if_eq ok 28 dX0_isAhead_6 rfl hf (fun hf => ?_) (fun hf => ?_)
  ·
    refine v_iconst ok 0 dX0_isAhead_28 rfl ?_
    exact v_zretL ok hr (by decide) (by decide) (by cases hf; exact hk) dX0_isAhead_29
  ·
    refine v_aload_n ok 0 dX0_isAhead_9 rfl rfl ?_
    refine v_gR ok fl_X0_69 (by first | exact Or.inl ⟨_, rfl⟩ | exact Or.inr ⟨_, rfl⟩) dX0_isAhead_10 hf (fun v3 hf => ?_)
    refine v_gIN ok fl_X0_218 (fun _ _ _ => rfl) dX0_isAhead_13 hf (fun v4 hf => ?_)
    refine v_iload_n ok 1 dX0_isAhead_16 rfl rfl ?_
    refine v_iadd ok dX0_isAhead_17 ?_
    refine v_sipush ok 999 dX0_isAhead_18 rfl ?_
    refine v_icmp_gt ok 28 dX0_isAhead_21 rfl hf (fun hf => ?_) (fun hf => ?_)
    ·
      refine v_iconst ok 0 dX0_isAhead_28 rfl ?_
      exact v_zretL ok hr (by decide) (by decide) (by cases hf; exact hk) dX0_isAhead_29
    ·
      refine v_iconst ok 1 dX0_isAhead_24 rfl ?_
      refine v_goto ok 29 dX0_isAhead_25 rfl ?_
      exact v_zretL ok hr (by decide) (by decide) (by cases hf; exact hk) dX0_isAhead_29
theorem M_X0_isAhead {G : GT} {l : Launch} (hG : Glob G) {d : Nat} (hd : 2 ≤ d) {a0 : Nat} {x1 : Int32} {x2 : Int32} {x3 : Int32} {h : AH} {v : Int32} {h' : AH} (hf : X0_isAhead a0 x1 x2 x3 h = some (v, h')) : MM G l yX0_isAhead cX0_isAhead 4 (Option.some Jvm.ClassFile.FieldType.boolean) d [vr (some a0), vi x1, vi x2, vi x3] h (some (vi v)) h' := by
  refine mm_of hG (plainFor_of_name (by decide)) (Nat.le_of_ble_eq_true rfl) (fun X hX ok hr hnm => ?_)
  subst hX
  exact W_X0_isAhead ok hr hd hf rfl ⟨rfl, rfl, rfl, rfl, trivial⟩
theorem cw_X5_copy : CW yX5_copy cX5_copy 4 (Option.some (Jvm.ClassFile.FieldType.object "TurnedBoards$State")) 1 := ⟨q1551, q183, ⟨by decide, by decide⟩, by decide +kernel, by decide⟩
def pkX5_copy_85 (G : GT) (X : CX) (h0 : AH) (Q : State → Prop) (a0 : Nat) (x1 : Option Nat) (o : ((Int32 × AH) ⊕ (Option Nat × AH))) : Prop := match o with
  | .inl s => ∀ lv : List (Nat × AV), lle lv [(0, vr (some a0)), (1, vr x1), (2, vi s.1)] → V G X 4 h0 Q s.2 85 lv []
  | .inr z => Q = QM G X h0 (some (vr z.1)) z.2
def pkX5_copy_18 (G : GT) (X : CX) (h0 : AH) (Q : State → Prop) (a0 : Nat) (x1 : Option Nat) (o : ((Int32 × AH) ⊕ (Option Nat × AH))) : Prop := match o with
  | .inl s => ∀ lv : List (Nat × AV), lle lv [(0, vr (some a0)), (1, vr x1), (2, vi s.1)] → V G X 4 h0 Q s.2 18 lv []
  | .inr z => Q = QM G X h0 (some (vr z.1)) z.2
def pkX5_copy_49 (G : GT) (X : CX) (h0 : AH) (Q : State → Prop) (a0 : Nat) (x1 : Option Nat) (x2 : Int32) (o : ((Int32 × AH) ⊕ ((Int32 × AH) ⊕ (Option Nat × AH)))) : Prop := match o with
  | .inl s => ∀ lv : List (Nat × AV), lle lv [(0, vr (some a0)), (1, vr x1), (2, vi x2), (3, vi s.1)] → V G X 4 h0 Q s.2 49 lv []
  | .inr z => pkX5_copy_18 G X h0 Q a0 x1 z
def pkX5_copy_95 (G : GT) (X : CX) (h0 : AH) (Q : State → Prop) (a0 : Nat) (x1 : Option Nat) (x2 : Int32) (o : ((Int32 × AH) ⊕ ((Int32 × AH) ⊕ (Option Nat × AH)))) : Prop := match o with
  | .inl s => ∀ lv : List (Nat × AV), lle lv [(0, vr (some a0)), (1, vr x1), (2, vi x2), (3, vi s.1)] → V G X 4 h0 Q s.2 95 lv []
  | .inr z => pkX5_copy_85 G X h0 Q a0 x1 z
theorem W_X5_copy_49b {G : GT} {X : CX} {d : Nat} {h0 : AH} {Q : State → Prop} (ok : Ok G X RX5 cX5_copy 4 d h0) (hr : (cxm X).sig.returnType = (Option.some (Jvm.ClassFile.FieldType.object "TurnedBoards$State"))) (hd : 1 ≤ d) {a0 : Nat} {x1 : Option Nat} {x2 : Int32} {x3 : Int32} {h : AH} {z : ((Int32 × AH) ⊕ ((Int32 × AH) ⊕ (Option Nat × AH)))} (hf : X5_copy_49b  a0 x1 x2 x3 h = some z) (hk : pkX5_copy_49 G X h0 Q a0 x1 x2 z) {lv : List (Nat × AV)} (hl : lle lv [(0, vr (some a0)), (1, vr x1), (2, vi x2), (3, vi x3)]) : V G X 4 h0 Q h 49 lv [] := by
  refine V.sub hl ?_
  unfold X5_copy_49b at hf
  refine v_iload_n ok 3 dX5_copy_49 rfl rfl ?_
  refine v_bipush ok 6 dX5_copy_50 rfl ?_
  refine v_icmp_ge ok 77 dX5_copy_52 rfl hf (fun hf => ?_) (fun hf => ?_)
  ·
    refine v_iinc ok x2 (x2 + 1) dX5_copy_77 rfl rfl (by decide) ?_
    refine v_goto ok 18 dX5_copy_80 rfl ?_
    cases hf; exact hk _ ⟨rfl, rfl, rfl, trivial⟩
  ·
    refine v_aload_n ok 0 dX5_copy_55 rfl rfl ?_
    refine v_gR ok fl_X5_24 (by first | exact Or.inl ⟨_, rfl⟩ | exact Or.inr ⟨_, rfl⟩) dX5_copy_56 hf (fun v1 hf => ?_)
    refine v_iload_n ok 2 dX5_copy_59 rfl rfl ?_
    refine v_aald6 ok rfl dX5_copy_60 hf (fun v2 hf => ?_)
    refine v_iload_n ok 3 dX5_copy_61 rfl rfl ?_
    refine v_aload_n ok 1 dX5_copy_62 rfl rfl ?_
    refine v_gR ok fl_X5_24 (by first | exact Or.inl ⟨_, rfl⟩ | exact Or.inr ⟨_, rfl⟩) dX5_copy_63 hf (fun v3 hf => ?_)
    refine v_iload_n ok 2 dX5_copy_66 rfl rfl ?_
    refine v_aald6 ok rfl dX5_copy_67 hf (fun v4 hf => ?_)
    refine v_iload_n ok 3 dX5_copy_68 rfl rfl ?_
    refine v_iald ok rfl dX5_copy_69 hf (fun v5 hf => ?_)
    refine v_iast ok rfl dX5_copy_70 hf (fun h6 hf => ?_)
    refine v_iinc ok x3 (x3 + 1) dX5_copy_71 rfl rfl (by decide) ?_
    refine v_goto ok 49 dX5_copy_74 rfl ?_
    cases hf; exact hk _ ⟨rfl, rfl, rfl, rfl, trivial⟩
theorem W_X5_copy_49 {G : GT} {X : CX} {d : Nat} {h0 : AH} {Q : State → Prop} (ok : Ok G X RX5 cX5_copy 4 d h0) (hr : (cxm X).sig.returnType = (Option.some (Jvm.ClassFile.FieldType.object "TurnedBoards$State"))) (hd : 1 ≤ d) {a0 : Nat} {x1 : Option Nat} {x2 : Int32} {x3 : Int32} {h : AH} {z : ((Int32 × AH) ⊕ (Option Nat × AH))} (hf : X5_copy_49  a0 x1 x2 x3 h = some z) (hk : pkX5_copy_18 G X h0 Q a0 x1 z) {lv : List (Nat × AV)} (hl : lle lv [(0, vr (some a0)), (1, vr x1), (2, vi x2), (3, vi x3)]) : V G X 4 h0 Q h 49 lv [] := by
  unfold X5_copy_49 at hf
  exact loopC_walk (Wh := fun s : Int32 × AH => ∀ lv : List (Nat × AV), lle lv [(0, vr (some a0)), (1, vr x1), (2, vi x2), (3, vi s.1)] → V G X 4 h0 Q s.2 49 lv []) (PK := fun z => pkX5_copy_18 G X h0 Q a0 x1 z) (fun s o hf hk lv hl => W_X5_copy_49b ok hr hd hf (by cases o <;> exact hk) hl) _ z hf hk lv hl
theorem W_X5_copy_95b {G : GT} {X : CX} {d : Nat} {h0 : AH} {Q : State → Prop} (ok : Ok G X RX5 cX5_copy 4 d h0) (hr : (cxm X).sig.returnType = (Option.some (Jvm.ClassFile.FieldType.object "TurnedBoards$State"))) (hd : 1 ≤ d) {a0 : Nat} {x1 : Option Nat} {x2 : Int32} {x3 : Int32} {h : AH} {z : ((Int32 × AH) ⊕ ((Int32 × AH) ⊕ (Option Nat × AH)))} (hf : X5_copy_95b  a0 x1 x2 x3 h = some z) (hk : pkX5_copy_95 G X h0 Q a0 x1 x2 z) {lv : List (Nat × AV)} (hl : lle lv [(0, vr (some a0)), (1, vr x1), (2, vi x2), (3, vi x3)]) : V G X 4 h0 Q h 95 lv [] := by
  refine V.sub hl ?_
  unfold X5_copy_95b at hf
  refine v_iload_n ok 3 dX5_copy_95 rfl rfl ?_
  refine v_iconst ok 3 dX5_copy_96 rfl ?_
  refine v_icmp_ge ok 122 dX5_copy_97 rfl hf (fun hf => ?_) (fun hf => ?_)
  ·
    refine v_iinc ok x2 (x2 + 1) dX5_copy_122 rfl rfl (by decide) ?_
    refine v_goto ok 85 dX5_copy_125 rfl ?_
    cases hf; exact hk _ ⟨rfl, rfl, rfl, trivial⟩
  ·
    refine v_aload_n ok 0 dX5_copy_100 rfl rfl ?_
    refine v_gR ok fl_X5_27 (by first | exact Or.inl ⟨_, rfl⟩ | exact Or.inr ⟨_, rfl⟩) dX5_copy_101 hf (fun v7 hf => ?_)
    refine v_iload_n ok 2 dX5_copy_104 rfl rfl ?_
    refine v_aald6 ok rfl dX5_copy_105 hf (fun v8 hf => ?_)
    refine v_iload_n ok 3 dX5_copy_106 rfl rfl ?_
    refine v_aload_n ok 1 dX5_copy_107 rfl rfl ?_
    refine v_gR ok fl_X5_27 (by first | exact Or.inl ⟨_, rfl⟩ | exact Or.inr ⟨_, rfl⟩) dX5_copy_108 hf (fun v9 hf => ?_)
    refine v_iload_n ok 2 dX5_copy_111 rfl rfl ?_
    refine v_aald6 ok rfl dX5_copy_112 hf (fun v10 hf => ?_)
    refine v_iload_n ok 3 dX5_copy_113 rfl rfl ?_
    refine v_iald ok rfl dX5_copy_114 hf (fun v11 hf => ?_)
    refine v_iast ok rfl dX5_copy_115 hf (fun h12 hf => ?_)
    refine v_iinc ok x3 (x3 + 1) dX5_copy_116 rfl rfl (by decide) ?_
    refine v_goto ok 95 dX5_copy_119 rfl ?_
    cases hf; exact hk _ ⟨rfl, rfl, rfl, rfl, trivial⟩
theorem W_X5_copy_95 {G : GT} {X : CX} {d : Nat} {h0 : AH} {Q : State → Prop} (ok : Ok G X RX5 cX5_copy 4 d h0) (hr : (cxm X).sig.returnType = (Option.some (Jvm.ClassFile.FieldType.object "TurnedBoards$State"))) (hd : 1 ≤ d) {a0 : Nat} {x1 : Option Nat} {x2 : Int32} {x3 : Int32} {h : AH} {z : ((Int32 × AH) ⊕ (Option Nat × AH))} (hf : X5_copy_95  a0 x1 x2 x3 h = some z) (hk : pkX5_copy_85 G X h0 Q a0 x1 z) {lv : List (Nat × AV)} (hl : lle lv [(0, vr (some a0)), (1, vr x1), (2, vi x2), (3, vi x3)]) : V G X 4 h0 Q h 95 lv [] := by
  unfold X5_copy_95 at hf
  exact loopC_walk (Wh := fun s : Int32 × AH => ∀ lv : List (Nat × AV), lle lv [(0, vr (some a0)), (1, vr x1), (2, vi x2), (3, vi s.1)] → V G X 4 h0 Q s.2 95 lv []) (PK := fun z => pkX5_copy_85 G X h0 Q a0 x1 z) (fun s o hf hk lv hl => W_X5_copy_95b ok hr hd hf (by cases o <;> exact hk) hl) _ z hf hk lv hl
theorem W_X5_copy_85b {G : GT} {X : CX} {d : Nat} {h0 : AH} {Q : State → Prop} (ok : Ok G X RX5 cX5_copy 4 d h0) (hr : (cxm X).sig.returnType = (Option.some (Jvm.ClassFile.FieldType.object "TurnedBoards$State"))) (hd : 1 ≤ d) {a0 : Nat} {x1 : Option Nat} {x2 : Int32} {h : AH} {z : ((Int32 × AH) ⊕ (Option Nat × AH))} (hf : X5_copy_85b  a0 x1 x2 h = some z) (hk : pkX5_copy_85 G X h0 Q a0 x1 z) {lv : List (Nat × AV)} (hl : lle lv [(0, vr (some a0)), (1, vr x1), (2, vi x2)]) : V G X 4 h0 Q h 85 lv [] := by
  refine V.sub hl ?_
  unfold X5_copy_85b at hf
  refine v_iload_n ok 2 dX5_copy_85 rfl rfl ?_
  refine v_aload_n ok 0 dX5_copy_86 rfl rfl ?_
  refine v_gI ok fl_X5_37 (fun _ _ _ => rfl) dX5_copy_87 hf (fun v13 hf => ?_)
  refine v_icmp_ge ok 128 dX5_copy_90 rfl hf (fun hf => ?_) (fun hf => ?_)
  ·
    refine v_aload_n ok 0 dX5_copy_128 rfl rfl ?_
    exact v_aret ok hr (by first | exact Or.inl ⟨_, rfl⟩ | exact Or.inr ⟨_, rfl⟩) (by cases hf; exact hk) dX5_copy_129
  ·
    refine v_iconst ok 0 dX5_copy_93 rfl ?_
    refine v_istore_n ok 3 dX5_copy_94 rfl (by decide) ?_
    exact W_X5_copy_95 ok hr hd hf hk ⟨rfl, rfl, rfl, rfl, trivial⟩
theorem W_X5_copy_85 {G : GT} {X : CX} {d : Nat} {h0 : AH} {Q : State → Prop} (ok : Ok G X RX5 cX5_copy 4 d h0) (hr : (cxm X).sig.returnType = (Option.some (Jvm.ClassFile.FieldType.object "TurnedBoards$State"))) (hd : 1 ≤ d) {a0 : Nat} {x1 : Option Nat} {x2 : Int32} {h : AH} {z : (Option Nat × AH)} (hf : X5_copy_85  a0 x1 x2 h = some z) (hk : Q = QM G X h0 (some (vr z.1)) z.2) {lv : List (Nat × AV)} (hl : lle lv [(0, vr (some a0)), (1, vr x1), (2, vi x2)]) : V G X 4 h0 Q h 85 lv [] := by
  unfold X5_copy_85 at hf
  exact loopC_walk (Wh := fun s : Int32 × AH => ∀ lv : List (Nat × AV), lle lv [(0, vr (some a0)), (1, vr x1), (2, vi s.1)] → V G X 4 h0 Q s.2 85 lv []) (PK := fun z => Q = QM G X h0 (some (vr z.1)) z.2) (fun s o hf hk lv hl => W_X5_copy_85b ok hr hd hf (by cases o <;> exact hk) hl) _ z hf hk lv hl
theorem W_X5_copy_18b {G : GT} {X : CX} {d : Nat} {h0 : AH} {Q : State → Prop} (ok : Ok G X RX5 cX5_copy 4 d h0) (hr : (cxm X).sig.returnType = (Option.some (Jvm.ClassFile.FieldType.object "TurnedBoards$State"))) (hd : 1 ≤ d) {a0 : Nat} {x1 : Option Nat} {x2 : Int32} {h : AH} {z : ((Int32 × AH) ⊕ (Option Nat × AH))} (hf : X5_copy_18b  a0 x1 x2 h = some z) (hk : pkX5_copy_18 G X h0 Q a0 x1 z) {lv : List (Nat × AV)} (hl : lle lv [(0, vr (some a0)), (1, vr x1), (2, vi x2)]) : V G X 4 h0 Q h 18 lv [] := by
  refine V.sub hl ?_
  unfold X5_copy_18b at hf
  refine v_iload_n ok 2 dX5_copy_18 rfl rfl ?_
  refine v_iconst ok 4 dX5_copy_19 rfl ?_
  refine v_icmp_ge ok 83 dX5_copy_20 rfl hf (fun hf => ?_) (fun hf => ?_)
  ·
    refine v_iconst ok 0 dX5_copy_83 rfl ?_
    refine v_istore_n ok 2 dX5_copy_84 rfl (by decide) ?_
    obtain ⟨o, ho, hz⟩ := ob hf
    cases hz; exact W_X5_copy_85 ok hr hd ho hk ⟨rfl, rfl, rfl, trivial⟩
  ·
    refine v_aload_n ok 0 dX5_copy_23 rfl rfl ?_
    refine v_gR ok fl_X5_15 (by first | exact Or.inl ⟨_, rfl⟩ | exact Or.inr ⟨_, rfl⟩) dX5_copy_24 hf (fun v14 hf => ?_)
    refine v_iload_n ok 2 dX5_copy_27 rfl rfl ?_
    refine v_aload_n ok 1 dX5_copy_28 rfl rfl ?_
    refine v_gR ok fl_X5_15 (by first | exact Or.inl ⟨_, rfl⟩ | exact Or.inr ⟨_, rfl⟩) dX5_copy_29 hf (fun v15 hf => ?_)
    refine v_iload_n ok 2 dX5_copy_32 rfl rfl ?_
    refine v_iald ok rfl dX5_copy_33 hf (fun v16 hf => ?_)
    refine v_iast ok rfl dX5_copy_34 hf (fun h17 hf => ?_)
    refine v_aload_n ok 0 dX5_copy_35 rfl rfl ?_
    refine v_gR ok fl_X5_19 (by first | exact Or.inl ⟨_, rfl⟩ | exact Or.inr ⟨_, rfl⟩) dX5_copy_36 hf (fun v18 hf => ?_)
    refine v_iload_n ok 2 dX5_copy_39 rfl rfl ?_
    refine v_aload_n ok 1 dX5_copy_40 rfl rfl ?_
    refine v_gR ok fl_X5_19 (by first | exact Or.inl ⟨_, rfl⟩ | exact Or.inr ⟨_, rfl⟩) dX5_copy_41 hf (fun v19 hf => ?_)
    refine v_iload_n ok 2 dX5_copy_44 rfl rfl ?_
    refine v_iald ok rfl dX5_copy_45 hf (fun v20 hf => ?_)
    refine v_iast ok rfl dX5_copy_46 hf (fun h21 hf => ?_)
    refine v_iconst ok 0 dX5_copy_47 rfl ?_
    refine v_istore_n ok 3 dX5_copy_48 rfl (by decide) ?_
    exact W_X5_copy_49 ok hr hd hf hk ⟨rfl, rfl, rfl, rfl, trivial⟩
theorem W_X5_copy_18 {G : GT} {X : CX} {d : Nat} {h0 : AH} {Q : State → Prop} (ok : Ok G X RX5 cX5_copy 4 d h0) (hr : (cxm X).sig.returnType = (Option.some (Jvm.ClassFile.FieldType.object "TurnedBoards$State"))) (hd : 1 ≤ d) {a0 : Nat} {x1 : Option Nat} {x2 : Int32} {h : AH} {z : (Option Nat × AH)} (hf : X5_copy_18  a0 x1 x2 h = some z) (hk : Q = QM G X h0 (some (vr z.1)) z.2) {lv : List (Nat × AV)} (hl : lle lv [(0, vr (some a0)), (1, vr x1), (2, vi x2)]) : V G X 4 h0 Q h 18 lv [] := by
  unfold X5_copy_18 at hf
  exact loopC_walk (Wh := fun s : Int32 × AH => ∀ lv : List (Nat × AV), lle lv [(0, vr (some a0)), (1, vr x1), (2, vi s.1)] → V G X 4 h0 Q s.2 18 lv []) (PK := fun z => Q = QM G X h0 (some (vr z.1)) z.2) (fun s o hf hk lv hl => W_X5_copy_18b ok hr hd hf (by cases o <;> exact hk) hl) _ z hf hk lv hl
theorem W_X5_copy {G : GT} {X : CX} {d : Nat} {h0 : AH} {Q : State → Prop} (ok : Ok G X RX5 cX5_copy 4 d h0) (hr : (cxm X).sig.returnType = (Option.some (Jvm.ClassFile.FieldType.object "TurnedBoards$State"))) (hd : 1 ≤ d) {a0 : Nat} {x1 : Option Nat} {h : AH} {z : (Option Nat × AH)} (hf : X5_copy a0 x1 h = some z) (hk : Q = QM G X h0 (some (vr z.1)) z.2) {lv : List (Nat × AV)} (hl : lle lv [(0, vr (some a0)), (1, vr x1)]) : V G X 4 h0 Q h 0 lv [] := by
  refine V.sub hl ?_
  unfold X5_copy at hf
  refine v_aload_n ok 0 dX5_copy_0 rfl rfl ?_
  refine v_aload_n ok 1 dX5_copy_1 rfl rfl ?_
  refine v_gI ok fl_X5_33 (fun _ _ _ => rfl) dX5_copy_2 hf (fun v22 hf => ?_)
  refine v_pI ok fl_X5_33 ⟨fun _ _ _ => rfl, rfl⟩ (FN.of cf_5.1 rfl) dX5_copy_5 hf (fun h23 hf => ?_)
  refine v_aload_n ok 0 dX5_copy_8 rfl rfl ?_
  refine v_aload_n ok 1 dX5_copy_9 rfl rfl ?_
  refine v_gI ok fl_X5_37 (fun _ _ _ => rfl) dX5_copy_10 hf (fun v24 hf => ?_)
  refine v_pI ok fl_X5_37 ⟨fun _ _ _ => rfl, rfl⟩ (FN.of cf_5.1 rfl) dX5_copy_13 hf (fun h25 hf => ?_)
  refine v_iconst ok 0 dX5_copy_16 rfl ?_
  refine v_istore_n ok 2 dX5_copy_17 rfl (by decide) ?_
  exact W_X5_copy_18 ok hr hd hf hk ⟨rfl, rfl, rfl, trivial⟩
theorem M_X5_copy {G : GT} {l : Launch} (hG : Glob G) {d : Nat} (hd : 1 ≤ d) {a0 : Nat} {x1 : Option Nat} {h : AH} {v : Option Nat} {h' : AH} (hf : X5_copy a0 x1 h = some (v, h')) : MM G l yX5_copy cX5_copy 4 (Option.some (Jvm.ClassFile.FieldType.object "TurnedBoards$State")) d [vr (some a0), vr x1] h (some (vr v)) h' := by
  refine mm_of hG (plainFor_of_name (by decide)) (Nat.le_of_ble_eq_true rfl) (fun X hX ok hr hnm => ?_)
  subst hX
  exact W_X5_copy ok hr hd hf rfl ⟨rfl, rfl, trivial⟩
theorem cw_X5_says : CW yX5_says cX5_says 4 (Option.some Jvm.ClassFile.FieldType.int) 3 := ⟨q1563, q183, ⟨by decide, by decide⟩, by decide +kernel, by decide⟩
theorem W_X5_says_35 {G : GT} {X : CX} {d : Nat} {h0 : AH} {Q : State → Prop} (ok : Ok G X RX5 cX5_says 4 d h0) (hr : (cxm X).sig.returnType = (Option.some Jvm.ClassFile.FieldType.int)) {va : VaT} {e : Nat} (hva : DVA G X.2.1 e va) (hd : e + 6 ≤ d) {x2 : Int32} {s0 : Option Nat} {s1 : Int32} {s2 : Option Nat} {s3 : Int32} {h : AH} {z : (Int32 × AH)} (hf : X5_says_35 va x2 s0 s1 s2 s3 h = some z) (hk : Q = QM G X h0 (some (vi z.1)) z.2) {lv : List (Nat × AV)} (hl : lle lv [(2, vi x2)]) : V G X 4 h0 Q h 35 lv [vi s3, vr s2, vi s1, vr s0] := by
  refine V.sub hl ?_
  unfold X5_says_35 at hf
  refine v_iald ok rfl dX5_says_35 hf (fun v1 hf => ?_)
  refine v_iload_n ok 2 dX5_says_36 rfl rfl ?_
  refine v_cSNi ok [vi v1, vi x2] (F := X0_turned v1 x2 h) (fun v h1 hv => M_X0_turned ok.2.2.2.2.2.2.1 (d := 1) (Nat.le_refl _) hv) (by omega) cw_X0_turned q1564 q1405 dX5_says_37 [vi s1, vr s0] rfl (Nat.le_of_ble_eq_true rfl) hf (fun v2 h3 hf => ?_)
  refine v_cVNi ok (RX0, TX0, 18) cf_0.1 [vi s1, vi v2] (F := fun a => X0_readAs va a s1 v2 h3) (fun a v h1 _ hv => M_X0_readAs ok.2.2.2.2.2.2.1 hva (d := e + 5) (Nat.le_refl _) hv) (by omega) cw_X0_readAs q1565 q1538 qs52 dX5_says_40 [] rfl (Nat.le_of_ble_eq_true rfl) hf (fun v4 h5 hf => ?_)
  exact v_iret ok hr (by cases hf; exact hk) dX5_says_43
theorem W_X5_says {G : GT} {X : CX} {d : Nat} {h0 : AH} {Q : State → Prop} (ok : Ok G X RX5 cX5_says 4 d h0) (hr : (cxm X).sig.returnType = (Option.some Jvm.ClassFile.FieldType.int)) {va : VaT} {e : Nat} (hva : DVA G X.2.1 e va) (hd : e + 6 ≤ d) {a0 : Nat} {x1 : Int32} {x2 : Int32} {x3 : Int32} {h : AH} {z : (Int32 × AH)} (hf : X5_says va a0 x1 x2 x3 h = some z) (hk : Q = QM G X h0 (some (vi z.1)) z.2) {lv : List (Nat × AV)} (hl : lle lv [(0, vr (some a0)), (1, vi x1), (2, vi x2), (3, vi x3)]) : V G X 4 h0 Q h 0 lv [] := by
  refine V.sub hl ?_
  unfold X5_says at hf
  refine v_aload_n ok 0 dX5_says_0 rfl rfl ?_
  refine v_gR ok fl_X5_3 (by first | exact Or.inl ⟨_, rfl⟩ | exact Or.inr ⟨_, rfl⟩) dX5_says_1 hf (fun v6 hf => ?_)
  refine v_aload_n ok 0 dX5_says_4 rfl rfl ?_
  refine v_gR ok fl_X5_19 (by first | exact Or.inl ⟨_, rfl⟩ | exact Or.inr ⟨_, rfl⟩) dX5_says_5 hf (fun v7 hf => ?_)
  refine v_iload_n ok 1 dX5_says_8 rfl rfl ?_
  refine v_iald ok rfl dX5_says_9 hf (fun v8 hf => ?_)
  refine v_aload_n ok 0 dX5_says_10 rfl rfl ?_
  refine v_gR ok fl_X5_24 (by first | exact Or.inl ⟨_, rfl⟩ | exact Or.inr ⟨_, rfl⟩) dX5_says_11 hf (fun v9 hf => ?_)
  refine v_iload_n ok 1 dX5_says_14 rfl rfl ?_
  refine v_aald6 ok rfl dX5_says_15 hf (fun v10 hf => ?_)
  refine v_iload_n ok 2 dX5_says_16 rfl rfl ?_
  refine v_iconst ok 2 dX5_says_17 rfl ?_
  refine v_irem ok dX5_says_18 hf (fun hf => ?_)
  refine v_if_ne ok 26 dX5_says_19 rfl hf (fun hf => ?_) (fun hf => ?_)
  ·
    refine v_aload_n ok 0 dX5_says_26 rfl rfl ?_
    refine v_iload_n ok 1 dX5_says_27 rfl rfl ?_
    refine v_cVi ok (RX5, TX5, 10) cf_5.1 [vi x1] (F := fun a => X5_places a x1 h) (fun a v h1 _ hv => M_X5_places ok.2.2.2.2.2.2.1 (d := 4) (Nat.le_refl _) hv) (by omega) cw_X5_places q1304 q1305 q1306 dX5_says_28 [vr v10, vi v8, vr v6] rfl (Nat.le_of_ble_eq_true rfl) hf (fun v11 h12 hf => ?_)
    refine v_iconst ok 1 dX5_says_31 rfl ?_
    refine v_isub ok dX5_says_32 ?_
    refine v_iload_n ok 3 dX5_says_33 rfl rfl ?_
    refine v_isub ok dX5_says_34 ?_
    exact W_X5_says_35 ok hr hva hd hf hk ⟨rfl, trivial⟩
  ·
    refine v_iload_n ok 3 dX5_says_22 rfl rfl ?_
    refine v_goto ok 35 dX5_says_23 rfl ?_
    exact W_X5_says_35 ok hr hva hd hf hk ⟨rfl, trivial⟩
theorem M_X5_says {G : GT} {l : Launch} (hG : Glob G) {va : VaT} {e : Nat} (hva : DVA G l e va) {d : Nat} (hd : e + 6 ≤ d) {a0 : Nat} {x1 : Int32} {x2 : Int32} {x3 : Int32} {h : AH} {v : Int32} {h' : AH} (hf : X5_says va a0 x1 x2 x3 h = some (v, h')) : MM G l yX5_says cX5_says 4 (Option.some Jvm.ClassFile.FieldType.int) d [vr (some a0), vi x1, vi x2, vi x3] h (some (vi v)) h' := by
  refine mm_of hG (plainFor_of_name (by decide)) (Nat.le_of_ble_eq_true rfl) (fun X hX ok hr hnm => ?_)
  subst hX
  exact W_X5_says ok hr hva hd hf rfl ⟨rfl, rfl, rfl, rfl, trivial⟩
theorem cw_X0_draw : CW yX0_draw cX0_draw 2 (Option.some Jvm.ClassFile.FieldType.int) 1 := ⟨q1573, q168, ⟨by decide, by decide⟩, by decide +kernel, by decide⟩
theorem W_X0_draw {G : GT} {X : CX} {d : Nat} {h0 : AH} {Q : State → Prop} (ok : Ok G X RX0 cX0_draw 2 d h0) (hr : (cxm X).sig.returnType = (Option.some Jvm.ClassFile.FieldType.int)) (hd : 1 ≤ d) {a0 : Nat} {x1 : Int32} {h : AH} {z : (Int32 × AH)} (hf : X0_draw a0 x1 h = some z) (hk : Q = QM G X h0 (some (vi z.1)) z.2) {lv : List (Nat × AV)} (hl : lle lv [(0, vr (some a0)), (1, vi x1)]) : V G X 2 h0 Q h 0 lv [] := by
  refine V.sub hl ?_
  unfold X0_draw at hf
  refine v_aload_n ok 0 dX0_draw_0 rfl rfl ?_
  refine v_ldc2 ok q1574 dX0_draw_1 ?_
  refine v_aload_n ok 0 dX0_draw_4 rfl rfl ?_
  refine v_gL ok fl_X0_87 rfl dX0_draw_5 hf (fun v1 hf => ?_)
  refine v_lmul ok dX0_draw_8 ?_
  refine v_ldc2 ok q1575 dX0_draw_9 ?_
  refine v_ladd ok dX0_draw_12 ?_
  refine v_ldc2 ok q1576 dX0_draw_13 ?_
  refine v_lrem ok dX0_draw_16 hf (fun hf => ?_)
  refine v_pL ok fl_X0_87 rfl (FN.of cf_0.1 rfl) dX0_draw_17 hf (fun h2 hf => ?_)
  refine v_aload_n ok 0 dX0_draw_20 rfl rfl ?_
  refine v_gL ok fl_X0_87 rfl dX0_draw_21 hf (fun v3 hf => ?_)
  refine v_ldc2 ok q1577 dX0_draw_24 ?_
  refine v_ldiv ok dX0_draw_27 hf (fun hf => ?_)
  refine v_iload_n ok 1 dX0_draw_28 rfl rfl ?_
  refine v_i2l ok dX0_draw_29 ?_
  refine v_lrem ok dX0_draw_30 hf (fun hf => ?_)
  refine v_l2i ok dX0_draw_31 ?_
  exact v_iret ok hr (by cases hf; exact hk) dX0_draw_32
theorem M_X0_draw {G : GT} {l : Launch} (hG : Glob G) {d : Nat} (hd : 1 ≤ d) {a0 : Nat} {x1 : Int32} {h : AH} {v : Int32} {h' : AH} (hf : X0_draw a0 x1 h = some (v, h')) : MM G l yX0_draw cX0_draw 2 (Option.some Jvm.ClassFile.FieldType.int) d [vr (some a0), vi x1] h (some (vi v)) h' := by
  refine mm_of hG (plainFor_of_name (by decide)) (Nat.le_of_ble_eq_true rfl) (fun X hX ok hr hnm => ?_)
  subst hX
  exact W_X0_draw ok hr hd hf rfl ⟨rfl, rfl, trivial⟩
theorem cw_X5_hails : CW yX5_hails cX5_hails 4 none 0 := ⟨q1569, q183, ⟨by decide, by decide⟩, by decide +kernel, by decide⟩
theorem W_X5_hails_63 {G : GT} {X : CX} {d : Nat} {h0 : AH} {Q : State → Prop} (ok : Ok G X RX5 cX5_hails 4 d h0) (hr : (cxm X).sig.returnType = none) (hd : 5 ≤ d) {a0 : Nat} {x1 : Int32} {x2 : Int32} {x3 : Int32} {s0 : Option Nat} {s1 : Int32} {s2 : Int32} {h : AH} {z : (AH)} (hf : X5_hails_63 a0 x1 x2 x3 s0 s1 s2 h = some z) (hk : Q = QM G X h0 none z) {lv : List (Nat × AV)} (hl : lle lv [(0, vr (some a0)), (1, vi x1), (2, vi x2), (3, vi x3)]) : V G X 4 h0 Q h 63 lv [vi s2, vi s1, vr s0] := by
  refine V.sub hl ?_
  unfold X5_hails_63 at hf
  refine v_iadd ok dX5_hails_63 ?_
  refine v_pI ok fl_X5_132 ⟨fun _ _ _ => rfl, rfl⟩ (FN.of cf_5.1 rfl) dX5_hails_64 hf (fun h1 hf => ?_)
  refine v_aload_n ok 0 dX5_hails_67 rfl rfl ?_
  refine v_gR ok fl_X5_24 (by first | exact Or.inl ⟨_, rfl⟩ | exact Or.inr ⟨_, rfl⟩) dX5_hails_68 hf (fun v2 hf => ?_)
  refine v_iload_n ok 1 dX5_hails_71 rfl rfl ?_
  refine v_aald6 ok rfl dX5_hails_72 hf (fun v3 hf => ?_)
  refine v_iload_n ok 2 dX5_hails_73 rfl rfl ?_
  refine v_dup2 ok dX5_hails_74 rfl rfl ?_
  refine v_iald ok rfl dX5_hails_75 hf (fun v4 hf => ?_)
  refine v_iconst ok 1 dX5_hails_76 rfl ?_
  refine v_iload_n ok 3 dX5_hails_77 rfl rfl ?_
  refine v_ishl ok dX5_hails_78 ?_
  refine v_iconst ok (-1) dX5_hails_79 rfl ?_
  refine v_ixor ok dX5_hails_80 ?_
  refine v_iand ok dX5_hails_81 ?_
  refine v_iast ok rfl dX5_hails_82 hf (fun h5 hf => ?_)
  exact v_vret ok hr (by cases hf; exact hk) dX5_hails_83
theorem W_X5_hails {G : GT} {X : CX} {d : Nat} {h0 : AH} {Q : State → Prop} (ok : Ok G X RX5 cX5_hails 4 d h0) (hr : (cxm X).sig.returnType = none) (hd : 5 ≤ d) {a0 : Nat} {h : AH} {z : (AH)} (hf : X5_hails a0 h = some z) (hk : Q = QM G X h0 none z) {lv : List (Nat × AV)} (hl : lle lv [(0, vr (some a0))]) : V G X 4 h0 Q h 0 lv [] := by
  refine V.sub hl ?_
  unfold X5_hails at hf
  refine v_aload_n ok 0 dX5_hails_0 rfl rfl ?_
  refine v_gR ok fl_X5_3 (by first | exact Or.inl ⟨_, rfl⟩ | exact Or.inr ⟨_, rfl⟩) dX5_hails_1 hf (fun v6 hf => ?_)
  refine v_aload_n ok 0 dX5_hails_4 rfl rfl ?_
  refine v_gR ok fl_X5_3 (by first | exact Or.inl ⟨_, rfl⟩ | exact Or.inr ⟨_, rfl⟩) dX5_hails_5 hf (fun v7 hf => ?_)
  refine v_cVNi ok (RX0, TX0, 18) cf_0.1 [] (F := fun a => X0_boards a h) (fun a v h1 _ hv => M_X0_boards ok.2.2.2.2.2.2.1 (d := 2) (Nat.le_refl _) hv) (by exact Nat.le_trans (by decide) hd) cw_X0_boards q1291 q1293 qs34 dX5_hails_8 [vr v6] rfl (Nat.le_of_ble_eq_true rfl) hf (fun v8 h9 hf => ?_)
  refine v_cVNi ok (RX0, TX0, 18) cf_0.1 [vi v8] (F := fun a => X0_draw a v8 h9) (fun a v h1 _ hv => M_X0_draw ok.2.2.2.2.2.2.1 (d := 1) (Nat.le_refl _) hv) (by exact Nat.le_trans (by decide) hd) cw_X0_draw q1570 q1572 qs55 dX5_hails_11 [] rfl (Nat.le_of_ble_eq_true rfl) hf (fun v10 h11 hf => ?_)
  refine v_istore_n ok 1 dX5_hails_14 rfl (by decide) ?_
  refine v_aload_n ok 0 dX5_hails_15 rfl rfl ?_
  refine v_gR ok fl_X5_3 (by first | exact Or.inl ⟨_, rfl⟩ | exact Or.inr ⟨_, rfl⟩) dX5_hails_16 hf (fun v12 hf => ?_)
  refine v_aload_n ok 0 dX5_hails_19 rfl rfl ?_
  refine v_iload_n ok 1 dX5_hails_20 rfl rfl ?_
  refine v_cVi ok (RX5, TX5, 10) cf_5.1 [vi v10] (F := fun a => X5_places a v10 h11) (fun a v h1 _ hv => M_X5_places ok.2.2.2.2.2.2.1 (d := 4) (Nat.le_refl _) hv) (by exact Nat.le_trans (by decide) hd) cw_X5_places q1304 q1305 q1306 dX5_hails_21 [vr v12] rfl (Nat.le_of_ble_eq_true rfl) hf (fun v13 h14 hf => ?_)
  refine v_cVNi ok (RX0, TX0, 18) cf_0.1 [vi v13] (F := fun a => X0_draw a v13 h14) (fun a v h1 _ hv => M_X0_draw ok.2.2.2.2.2.2.1 (d := 1) (Nat.le_refl _) hv) (by exact Nat.le_trans (by decide) hd) cw_X0_draw q1570 q1572 qs55 dX5_hails_24 [] rfl (Nat.le_of_ble_eq_true rfl) hf (fun v15 h16 hf => ?_)
  refine v_istore_n ok 2 dX5_hails_27 rfl (by decide) ?_
  refine v_aload_n ok 0 dX5_hails_28 rfl rfl ?_
  refine v_gR ok fl_X5_3 (by first | exact Or.inl ⟨_, rfl⟩ | exact Or.inr ⟨_, rfl⟩) dX5_hails_29 hf (fun v17 hf => ?_)
  refine v_bipush ok 15 dX5_hails_32 rfl ?_
  refine v_cVNi ok (RX0, TX0, 18) cf_0.1 [vi 15] (F := fun a => X0_draw a 15 h16) (fun a v h1 _ hv => M_X0_draw ok.2.2.2.2.2.2.1 (d := 1) (Nat.le_refl _) hv) (by exact Nat.le_trans (by decide) hd) cw_X0_draw q1570 q1572 qs55 dX5_hails_34 [] rfl (Nat.le_of_ble_eq_true rfl) hf (fun v18 h19 hf => ?_)
  refine v_istore_n ok 3 dX5_hails_37 rfl (by decide) ?_
  refine v_aload_n ok 0 dX5_hails_38 rfl rfl ?_
  refine v_dup ok dX5_hails_39 rfl ?_
  refine v_gI ok fl_X5_132 (fun _ _ _ => rfl) dX5_hails_40 hf (fun v20 hf => ?_)
  refine v_aload_n ok 0 dX5_hails_43 rfl rfl ?_
  refine v_gR ok fl_X5_24 (by first | exact Or.inl ⟨_, rfl⟩ | exact Or.inr ⟨_, rfl⟩) dX5_hails_44 hf (fun v21 hf => ?_)
  refine v_iload_n ok 1 dX5_hails_47 rfl rfl ?_
  refine v_aald6 ok rfl dX5_hails_48 hf (fun v22 hf => ?_)
  refine v_iload_n ok 2 dX5_hails_49 rfl rfl ?_
  refine v_iald ok rfl dX5_hails_50 hf (fun v23 hf => ?_)
  refine v_iload_n ok 3 dX5_hails_51 rfl rfl ?_
  refine v_cSNi ok [vi v23, vi v18] (F := X0_has v23 v18 h19) (fun v h1 hv => M_X0_has ok.2.2.2.2.2.2.1 (d := 1) (Nat.le_refl _) hv) (by exact Nat.le_trans (by decide) hd) cw_X0_has q1578 q1121 dX5_hails_52 [vi v20, vr (some a0)] rfl (Nat.le_of_ble_eq_true rfl) hf (fun v24 h25 hf => ?_)
  refine v_if_eq ok 62 dX5_hails_55 rfl hf (fun hf => ?_) (fun hf => ?_)
  ·
    refine v_iconst ok 0 dX5_hails_62 rfl ?_
    exact W_X5_hails_63 ok hr hd hf hk ⟨rfl, rfl, rfl, rfl, trivial⟩
  ·
    refine v_iconst ok 1 dX5_hails_58 rfl ?_
    refine v_goto ok 63 dX5_hails_59 rfl ?_
    exact W_X5_hails_63 ok hr hd hf hk ⟨rfl, rfl, rfl, rfl, trivial⟩
theorem M_X5_hails {G : GT} {l : Launch} (hG : Glob G) {d : Nat} (hd : 5 ≤ d) {a0 : Nat} {h : AH} {h' : AH} (hf : X5_hails a0 h = some h') : MM G l yX5_hails cX5_hails 4 none d [vr (some a0)] h none h' := by
  refine mm_of hG (plainFor_of_name (by decide)) (Nat.le_of_ble_eq_true rfl) (fun X hX ok hr hnm => ?_)
  subst hX
  exact W_X5_hails ok hr hd hf rfl ⟨rfl, trivial⟩
