set_option maxRecDepth 100000
theorem cw_J14_charAt : CW yJ14_charAt cJ14_charAt 5 (Option.some Jvm.ClassFile.FieldType.char) 1 := ⟨q1517, q196, ⟨by decide, by decide⟩, by decide +kernel, by decide⟩
theorem W_J14_charAt {G : GT} {X : CX} {d : Nat} {h0 : AH} {Q : State → Prop} (ok : Ok G X RJ14 cJ14_charAt 5 d h0) (hr : (cxm X).sig.returnType = (Option.some Jvm.ClassFile.FieldType.char)) (hd : 3 ≤ d) {a0 : Nat} {x1 : Int32} {h : AH} {z : (Int32 × AH)} (hf : J14_charAt a0 x1 h = some z) (hk : Q = QM G X h0 (some (vi z.1)) z.2) {lv : List (Nat × AV)} (hl : lle lv [(0, vr (some a0)), (1, vi x1)]) : V G X 5 h0 Q h 0 lv [] := by
  refine V.sub hl ?_
  unfold J14_charAt at hf
  refine v_aload_n ok 0 dJ14_charAt_0 rfl rfl ?_
  refine v_gI ok fl_J14_22 (fun _ _ _ => rfl) dJ14_charAt_1 hf (fun v1 hf => ?_)
  refine v_istore_n ok 2 dJ14_charAt_4 rfl (by decide) ?_
  refine v_aload_n ok 0 dJ14_charAt_5 rfl rfl ?_
  refine v_gR ok fl_J14_15 (by first | exact Or.inl ⟨_, rfl⟩ | exact Or.inr ⟨_, rfl⟩) dJ14_charAt_6 hf (fun v2 hf => ?_)
  refine v_astore_n ok 3 dJ14_charAt_9 rfl (by decide) ?_
  refine v_aload_n ok 0 dJ14_charAt_10 rfl rfl ?_
  refine v_gI ok fl_J14_79 (fun _ _ _ => rfl) dJ14_charAt_11 hf (fun v3 hf => ?_)
  refine v_aload_n ok 3 dJ14_charAt_14 rfl rfl ?_
  refine v_alen ok dJ14_charAt_15 hf (fun v4 hf => ?_)
  refine v_iload_n ok 2 dJ14_charAt_16 rfl rfl ?_
  refine v_ishr ok dJ14_charAt_17 ?_
  refine v_cSi ok [vi v3, vi (jshr v4 v1)] (F := J4_min v3 (jshr v4 v1) h) (fun v h1 hv => M_J4_min ok.2.2.2.2.2.2.1 (d := 1) (Nat.le_refl _) hv) (by exact Nat.le_trans (by decide) hd) cw_J4_min q1518 q323 dJ14_charAt_18 [] rfl (Nat.le_of_ble_eq_true rfl) hf (fun v5 h6 hf => ?_)
  refine v_istore ok dJ14_charAt_21 (by decide) ?_
  refine v_iload_n ok 1 dJ14_charAt_23 rfl rfl ?_
  refine v_iload ok dJ14_charAt_24 rfl ?_
  refine v_cSv ok [vi x1, vi v5] (F := J9_checkIndex x1 v5 h6) (fun h1 hv => M_J9_checkIndex ok.2.2.2.2.2.2.1 (d := 2) (Nat.le_refl _) hv) (by exact Nat.le_trans (by decide) hd) cw_J9_checkIndex q1519 q873 dJ14_charAt_26 [] rfl (Nat.le_of_ble_eq_true rfl) hf (fun h7 hf => ?_)
  refine v_iload_n ok 2 dJ14_charAt_29 rfl rfl ?_
  refine v_if_ne ok 42 dJ14_charAt_30 rfl hf (fun hf => ?_) (fun hf => ?_)
  ·
    refine v_aload_n ok 3 dJ14_charAt_42 rfl rfl ?_
    refine v_iload_n ok 1 dJ14_charAt_43 rfl rfl ?_
    refine v_cSi ok [vr v2, vi x1] (F := J10_getChar v2 x1 h7) (fun v h1 hv => M_J10_getChar ok.2.2.2.2.2.2.1 (d := 2) (Nat.le_refl _) hv) (by exact Nat.le_trans (by decide) hd) cw_J10_getChar q1520 q746 dJ14_charAt_44 [] rfl (Nat.le_of_ble_eq_true rfl) hf (fun v8 h9 hf => ?_)
    exact v_cret ok hr hf (fun hf => by cases hf; exact hk) dJ14_charAt_47
  ·
    refine v_aload_n ok 3 dJ14_charAt_33 rfl rfl ?_
    refine v_iload_n ok 1 dJ14_charAt_34 rfl rfl ?_
    refine v_bald ok rfl dJ14_charAt_35 hf (fun v12 hf => ?_)
    refine v_sipush ok 255 dJ14_charAt_36 rfl ?_
    refine v_iand ok dJ14_charAt_39 ?_
    refine v_i2c ok dJ14_charAt_40 ?_
    exact v_cret ok hr hf (fun hf => by cases hf; exact hk) dJ14_charAt_41
theorem M_J14_charAt {G : GT} {l : Launch} (hG : Glob G) {d : Nat} (hd : 3 ≤ d) {a0 : Nat} {x1 : Int32} {h : AH} {v : Int32} {h' : AH} (hf : J14_charAt a0 x1 h = some (v, h')) : MM G l yJ14_charAt cJ14_charAt 5 (Option.some Jvm.ClassFile.FieldType.char) d [vr (some a0), vi x1] h (some (vi v)) h' := by
  refine mm_of hG (plainFor_of_name (by decide)) (Nat.le_of_ble_eq_true rfl) (fun X hX ok hr hnm => ?_)
  subst hX
  exact W_J14_charAt ok hr hd hf rfl ⟨rfl, rfl, trivial⟩
theorem cw_J15_init : CW yJ15_init cJ15_init 1 none 0 := ⟨q1046, q197, ⟨by decide, by decide⟩, by decide +kernel, by decide⟩
theorem W_J15_init {G : GT} {X : CX} {d : Nat} {h0 : AH} {Q : State → Prop} (ok : Ok G X RJ15 cJ15_init 1 d h0) (hr : (cxm X).sig.returnType = none) (hd : 4 ≤ d) (hnm : (cxm X).name = "<init>") {a0 : Nat} {h : AH} {z : (AH)} (hf : J15_init a0 h = some z) (hk : Q = QM G X h0 none z) {lv : List (Nat × AV)} (hl : lle lv [(0, vr (some a0))]) : V G X 1 h0 Q h 0 lv [] := by
  refine V.sub hl ?_
  unfold J15_init at hf
  refine v_aload_n ok 0 dJ15_init_0 rfl rfl ?_
  refine v_bipush ok 16 dJ15_init_1 rfl ?_
  refine v_cIv ok [vi 16] rfl (F := fun a => J14_init a 16 h) (fun a h1 _ hv => M_J14_init ok.2.2.2.2.2.2.1 (d := 3) (Nat.le_refl _) hv) (by exact Nat.le_trans (by decide) hd) cw_J14_init q1047 q1048 dJ15_init_3 [] rfl (Nat.le_of_ble_eq_true rfl) hf (fun h1 hf => ?_)
  exact v_vret ok hr (by cases hf; exact hk) dJ15_init_6
theorem M_J15_init {G : GT} {l : Launch} (hG : Glob G) {d : Nat} (hd : 4 ≤ d) {a0 : Nat} {h : AH} {h' : AH} (hf : J15_init a0 h = some h') : MM G l yJ15_init cJ15_init 1 none d [vr (some a0)] h none h' := by
  refine mm_of hG (plainFor_of_name (by decide)) (Nat.le_of_ble_eq_true rfl) (fun X hX ok hr hnm => ?_)
  subst hX
  exact W_J15_init ok hr hd hnm hf rfl ⟨rfl, trivial⟩
theorem cw_J15_append : CW yJ15_append cJ15_append 2 (Option.some (Jvm.ClassFile.FieldType.object "java/lang/StringBuilder")) 1 := ⟨q1164, q197, ⟨by decide, by decide⟩, by decide +kernel, by decide⟩
theorem W_J15_append {G : GT} {X : CX} {d : Nat} {h0 : AH} {Q : State → Prop} (ok : Ok G X RJ15 cJ15_append 2 d h0) (hr : (cxm X).sig.returnType = (Option.some (Jvm.ClassFile.FieldType.object "java/lang/StringBuilder"))) (hd : 8 ≤ d) {a0 : Nat} {x1 : Int32} {h : AH} {z : (Option Nat × AH)} (hf : J15_append a0 x1 h = some z) (hk : Q = QM G X h0 (some (vr z.1)) z.2) {lv : List (Nat × AV)} (hl : lle lv [(0, vr (some a0)), (1, vi x1)]) : V G X 2 h0 Q h 0 lv [] := by
  refine V.sub hl ?_
  unfold J15_append at hf
  refine v_aload_n ok 0 dJ15_append_0 rfl rfl ?_
  refine v_iload_n ok 1 dJ15_append_1 rfl rfl ?_
  refine v_cPr ok (RJ15, TJ15, 4) cf_25.1 [vi x1] (F := fun a => J14_append a x1 h) (fun a v h1 _ hv => M_J14_append ok.2.2.2.2.2.2.1 (d := 7) (Nat.le_refl _) hv) (by exact Nat.le_trans (by decide) hd) cw_J14_append q1165 q1166 q2721 q1064 (by decide) dJ15_append_2 [] rfl (Nat.le_of_ble_eq_true rfl) hf (fun v1 h2 hf => ?_)
  refine v_pop ok dJ15_append_5 rfl ?_
  refine v_aload_n ok 0 dJ15_append_6 rfl rfl ?_
  exact v_aret ok hr (by first | exact Or.inl ⟨_, rfl⟩ | exact Or.inr ⟨_, rfl⟩) (by cases hf; exact hk) dJ15_append_7
theorem M_J15_append {G : GT} {l : Launch} (hG : Glob G) {d : Nat} (hd : 8 ≤ d) {a0 : Nat} {x1 : Int32} {h : AH} {v : Option Nat} {h' : AH} (hf : J15_append a0 x1 h = some (v, h')) : MM G l yJ15_append cJ15_append 2 (Option.some (Jvm.ClassFile.FieldType.object "java/lang/StringBuilder")) d [vr (some a0), vi x1] h (some (vr v)) h' := by
  refine mm_of hG (plainFor_of_name (by decide)) (Nat.le_of_ble_eq_true rfl) (fun X hX ok hr hnm => ?_)
  subst hX
  exact W_J15_append ok hr hd hf rfl ⟨rfl, rfl, trivial⟩
theorem cw_J15_charAt : CW yJ15_charAt cJ15_charAt 2 (Option.some Jvm.ClassFile.FieldType.char) 1 := ⟨q1514, q197, ⟨by decide, by decide⟩, by decide +kernel, by decide⟩
theorem W_J15_charAt {G : GT} {X : CX} {d : Nat} {h0 : AH} {Q : State → Prop} (ok : Ok G X RJ15 cJ15_charAt 2 d h0) (hr : (cxm X).sig.returnType = (Option.some Jvm.ClassFile.FieldType.char)) (hd : 4 ≤ d) {a0 : Nat} {x1 : Int32} {h : AH} {z : (Int32 × AH)} (hf : J15_charAt a0 x1 h = some z) (hk : Q = QM G X h0 (some (vi z.1)) z.2) {lv : List (Nat × AV)} (hl : lle lv [(0, vr (some a0)), (1, vi x1)]) : V G X 2 h0 Q h 0 lv [] := by
  refine V.sub hl ?_
  unfold J15_charAt at hf
  refine v_aload_n ok 0 dJ15_charAt_0 rfl rfl ?_
  refine v_iload_n ok 1 dJ15_charAt_1 rfl rfl ?_
  refine v_cPi ok (RJ15, TJ15, 4) cf_25.1 [vi x1] (F := fun a => J14_charAt a x1 h) (fun a v h1 _ hv => M_J14_charAt ok.2.2.2.2.2.2.1 (d := 3) (Nat.le_refl _) hv) (by exact Nat.le_trans (by decide) hd) cw_J14_charAt q1515 q1516 q2725 q1064 (by decide) dJ15_charAt_2 [] rfl (Nat.le_of_ble_eq_true rfl) hf (fun v1 h2 hf => ?_)
  exact v_cret ok hr hf (fun hf => by cases hf; exact hk) dJ15_charAt_5
theorem M_J15_charAt {G : GT} {l : Launch} (hG : Glob G) {d : Nat} (hd : 4 ≤ d) {a0 : Nat} {x1 : Int32} {h : AH} {v : Int32} {h' : AH} (hf : J15_charAt a0 x1 h = some (v, h')) : MM G l yJ15_charAt cJ15_charAt 2 (Option.some Jvm.ClassFile.FieldType.char) d [vr (some a0), vi x1] h (some (vi v)) h' := by
  refine mm_of hG (plainFor_of_name (by decide)) (Nat.le_of_ble_eq_true rfl) (fun X hX ok hr hnm => ?_)
  subst hX
  exact W_J15_charAt ok hr hd hf rfl ⟨rfl, rfl, trivial⟩
theorem cw_J16_bitCount : CW yJ16_bitCount cJ16_bitCount 1 (Option.some Jvm.ClassFile.FieldType.int) 1 := ⟨q1340, q207, ⟨by decide, by decide⟩, by decide +kernel, by decide⟩
theorem W_J16_bitCount {G : GT} {X : CX} {d : Nat} {h0 : AH} {Q : State → Prop} (ok : Ok G X RJ16 cJ16_bitCount 1 d h0) (hr : (cxm X).sig.returnType = (Option.some Jvm.ClassFile.FieldType.int)) (hd : 1 ≤ d) {x0 : Int32} {h : AH} {z : (Int32 × AH)} (hf : J16_bitCount x0 h = some z) (hk : Q = QM G X h0 (some (vi z.1)) z.2) {lv : List (Nat × AV)} (hl : lle lv [(0, vi x0)]) : V G X 1 h0 Q h 0 lv [] := by
  refine V.sub hl ?_
  unfold J16_bitCount at hf
  refine v_iload_n ok 0 dJ16_bitCount_0 rfl rfl ?_
  refine v_iload_n ok 0 dJ16_bitCount_1 rfl rfl ?_
  refine v_iconst ok 1 dJ16_bitCount_2 rfl ?_
  refine v_iushr ok dJ16_bitCount_3 ?_
  refine v_ldcw ok q1341 dJ16_bitCount_4 ?_
  refine v_iand ok dJ16_bitCount_7 ?_
  refine v_isub ok dJ16_bitCount_8 ?_
  refine v_istore_n ok 0 dJ16_bitCount_9 rfl (by decide) ?_
  refine v_iload_n ok 0 dJ16_bitCount_10 rfl rfl ?_
  refine v_ldcw ok q1342 dJ16_bitCount_11 ?_
  refine v_iand ok dJ16_bitCount_14 ?_
  refine v_iload_n ok 0 dJ16_bitCount_15 rfl rfl ?_
  refine v_iconst ok 2 dJ16_bitCount_16 rfl ?_
  refine v_iushr ok dJ16_bitCount_17 ?_
  refine v_ldcw ok q1342 dJ16_bitCount_18 ?_
  refine v_iand ok dJ16_bitCount_21 ?_
  refine v_iadd ok dJ16_bitCount_22 ?_
  refine v_istore_n ok 0 dJ16_bitCount_23 rfl (by decide) ?_
  refine v_iload_n ok 0 dJ16_bitCount_24 rfl rfl ?_
  refine v_iload_n ok 0 dJ16_bitCount_25 rfl rfl ?_
  refine v_iconst ok 4 dJ16_bitCount_26 rfl ?_
  refine v_iushr ok dJ16_bitCount_27 ?_
  refine v_iadd ok dJ16_bitCount_28 ?_
  refine v_ldcw ok q1343 dJ16_bitCount_29 ?_
  refine v_iand ok dJ16_bitCount_32 ?_
  refine v_istore_n ok 0 dJ16_bitCount_33 rfl (by decide) ?_
  refine v_iload_n ok 0 dJ16_bitCount_34 rfl rfl ?_
  refine v_iload_n ok 0 dJ16_bitCount_35 rfl rfl ?_
  refine v_bipush ok 8 dJ16_bitCount_36 rfl ?_
  refine v_iushr ok dJ16_bitCount_38 ?_
  refine v_iadd ok dJ16_bitCount_39 ?_
  refine v_istore_n ok 0 dJ16_bitCount_40 rfl (by decide) ?_
  refine v_iload_n ok 0 dJ16_bitCount_41 rfl rfl ?_
  refine v_iload_n ok 0 dJ16_bitCount_42 rfl rfl ?_
  refine v_bipush ok 16 dJ16_bitCount_43 rfl ?_
  refine v_iushr ok dJ16_bitCount_45 ?_
  refine v_iadd ok dJ16_bitCount_46 ?_
  refine v_istore_n ok 0 dJ16_bitCount_47 rfl (by decide) ?_
  refine v_iload_n ok 0 dJ16_bitCount_48 rfl rfl ?_
  refine v_bipush ok 63 dJ16_bitCount_49 rfl ?_
  refine v_iand ok dJ16_bitCount_51 ?_
  exact v_iret ok hr (by cases hf; exact hk) dJ16_bitCount_52
theorem M_J16_bitCount {G : GT} {l : Launch} (hG : Glob G) {d : Nat} (hd : 1 ≤ d) {x0 : Int32} {h : AH} {v : Int32} {h' : AH} (hf : J16_bitCount x0 h = some (v, h')) : MM G l yJ16_bitCount cJ16_bitCount 1 (Option.some Jvm.ClassFile.FieldType.int) d [vi x0] h (some (vi v)) h' := by
  refine mm_of hG (plainFor_of_name (by decide)) (Nat.le_of_ble_eq_true rfl) (fun X hX ok hr hnm => ?_)
  subst hX
  exact W_J16_bitCount ok hr hd hf rfl ⟨rfl, trivial⟩
theorem cw_J2_init : CW yJ2_init cJ2_init 2 none 1 := ⟨q227, q172, ⟨by decide, by decide⟩, by decide +kernel, by decide⟩
theorem W_J2_init {G : GT} {X : CX} {d : Nat} {h0 : AH} {Q : State → Prop} (ok : Ok G X RJ2 cJ2_init 2 d h0) (hr : (cxm X).sig.returnType = none) (hd : 3 ≤ d) (hnm : (cxm X).name = "<init>") {a0 : Nat} {x1 : Int32} {h : AH} {z : (AH)} (hf : J2_init a0 x1 h = some z) (hk : Q = QM G X h0 none z) {lv : List (Nat × AV)} (hl : lle lv [(0, vr (some a0)), (1, vi x1)]) : V G X 2 h0 Q h 0 lv [] := by
  refine V.sub hl ?_
  unfold J2_init at hf
  refine v_aload_n ok 0 dJ2_init_0 rfl rfl ?_
  refine v_cIv ok [] rfl (F := fun a => J1_init a h) (fun a h1 _ hv => M_J1_init ok.2.2.2.2.2.2.1 (d := 2) (Nat.le_refl _) hv) (by exact Nat.le_trans (by decide) hd) cw_J1_init q228 q229 dJ2_init_1 [] rfl (Nat.le_of_ble_eq_true rfl) hf (fun h1 hf => ?_)
  refine v_iload_n ok 1 dJ2_init_4 rfl rfl ?_
  refine v_if_le ok 19 dJ2_init_5 rfl hf (fun hf => ?_) (fun hf => ?_)
  ·
    refine v_iload_n ok 1 dJ2_init_19 rfl rfl ?_
    refine v_if_ne ok 33 dJ2_init_20 rfl hf (fun hf => ?_) (fun hf => ?_)
    ·
      cases hf
    ·
      refine v_aload_n ok 0 dJ2_init_23 rfl rfl ?_
      refine v_gets ok (v := vr (hR h1 120 4)) (List.mem_of_getElem? (i := 4) rfl) q237 rfl dJ2_init_24 ?_
      refine v_pR ok fl_J2_9 (by first | exact Or.inl ⟨_, rfl⟩ | exact Or.inr ⟨_, rfl⟩) (FN.of cf_23.1 rfl) dJ2_init_27 hf (fun h2 hf => ?_)
      refine v_goto ok 60 dJ2_init_30 rfl ?_
      exact v_vret ok hr (by cases hf; exact hk) dJ2_init_60
  ·
    refine v_aload_n ok 0 dJ2_init_8 rfl rfl ?_
    refine v_iload_n ok 1 dJ2_init_9 rfl rfl ?_
    refine v_anew ok (t := 104) (by decide) (by decide) rfl q235 q236 dJ2_init_10 hf (fun v3 h4 hf => ?_)
    refine v_pR ok fl_J2_9 (by first | exact Or.inl ⟨_, rfl⟩ | exact Or.inr ⟨_, rfl⟩) (FN.of cf_23.1 rfl) dJ2_init_13 hf (fun h5 hf => ?_)
    refine v_goto ok 60 dJ2_init_16 rfl ?_
    exact v_vret ok hr (by cases hf; exact hk) dJ2_init_60
theorem M_J2_init {G : GT} {l : Launch} (hG : Glob G) {d : Nat} (hd : 3 ≤ d) {a0 : Nat} {x1 : Int32} {h : AH} {h' : AH} (hf : J2_init a0 x1 h = some h') : MM G l yJ2_init cJ2_init 2 none d [vr (some a0), vi x1] h none h' := by
  refine mm_of hG (plainFor_of_name (by decide)) (Nat.le_of_ble_eq_true rfl) (fun X hX ok hr hnm => ?_)
  subst hX
  exact W_J2_init ok hr hd hnm hf rfl ⟨rfl, rfl, trivial⟩
theorem cw_J5_copyOf_2 : CW yJ5_copyOf_2 cJ5_copyOf_2 4 (Option.some (Jvm.ClassFile.FieldType.array (Jvm.ClassFile.FieldType.object "java/lang/Object"))) 3 := ⟨q319, q175, ⟨by decide, by decide⟩, by decide +kernel, by decide⟩
theorem W_J5_copyOf_2 {G : GT} {X : CX} {d : Nat} {h0 : AH} {Q : State → Prop} (ok : Ok G X RJ5 cJ5_copyOf_2 4 d h0) (hr : (cxm X).sig.returnType = (Option.some (Jvm.ClassFile.FieldType.array (Jvm.ClassFile.FieldType.object "java/lang/Object")))) (hd : 2 ≤ d) {x0 : Option Nat} {x1 : Int32} {x2 : Option Nat} {h : AH} {z : (Option Nat × AH)} (hf : J5_copyOf_2 x0 x1 x2 h = some z) (hk : Q = QM G X h0 (some (vr z.1)) z.2) {lv : List (Nat × AV)} (hl : lle lv [(0, vr x0), (1, vi x1), (2, vr x2)]) : V G X 4 h0 Q h 0 lv [] := by
  refine V.sub hl ?_
  unfold J5_copyOf_2 at hf
  refine v_aload_n ok 2 dJ5_copyOf_2_0 rfl rfl ?_
  refine v_ldcM ok q320 dJ5_copyOf_2_1 ?_
  refine v_acmp_ne ok 13 dJ5_copyOf_2_3 rfl hf (fun hf => ?_) (fun hf => ?_)
  ·
    refine v_aload_n ok 2 dJ5_copyOf_2_13 rfl rfl ?_
    cases hf
  ·
    refine v_iload_n ok 1 dJ5_copyOf_2_6 rfl rfl ?_
    refine v_anew ok (t := 104) (by decide) (by decide) rfl q321 q236 dJ5_copyOf_2_7 hf (fun v1 h2 hf => ?_)
    refine v_goto ok 24 dJ5_copyOf_2_10 rfl ?_
    refine v_astore_n ok 3 dJ5_copyOf_2_24 rfl (by decide) ?_
    refine v_aload_n ok 0 dJ5_copyOf_2_25 rfl rfl ?_
    refine v_iconst ok 0 dJ5_copyOf_2_26 rfl ?_
    refine v_aload_n ok 3 dJ5_copyOf_2_27 rfl rfl ?_
    refine v_iconst ok 0 dJ5_copyOf_2_28 rfl ?_
    refine v_aload_n ok 0 dJ5_copyOf_2_29 rfl rfl ?_
    refine v_alen ok dJ5_copyOf_2_30 hf (fun v3 hf => ?_)
    refine v_iload_n ok 1 dJ5_copyOf_2_31 rfl rfl ?_
    refine v_cSi ok [vi v3, vi x1] (F := J4_min v3 x1 h2) (fun v h1 hv => M_J4_min ok.2.2.2.2.2.2.1 (d := 1) (Nat.le_refl _) hv) (by exact Nat.le_trans (by decide) hd) cw_J4_min q322 q323 dJ5_copyOf_2_32 [vi 0, vr v1, vi 0, vr x0] rfl (Nat.le_of_ble_eq_true rfl) hf (fun v4 h5 hf => ?_)
    refine v_acpR ok q325 q327 q326 q176 (by omega) (Nat.le_of_ble_eq_true rfl) dJ5_copyOf_2_35 hf (fun h6 hf => ?_)
    refine v_aload_n ok 3 dJ5_copyOf_2_38 rfl rfl ?_
    exact v_aret ok hr (by first | exact Or.inl ⟨_, rfl⟩ | exact Or.inr ⟨_, rfl⟩) (by cases hf; exact hk) dJ5_copyOf_2_39
theorem M_J5_copyOf_2 {G : GT} {l : Launch} (hG : Glob G) {d : Nat} (hd : 2 ≤ d) {x0 : Option Nat} {x1 : Int32} {x2 : Option Nat} {h : AH} {v : Option Nat} {h' : AH} (hf : J5_copyOf_2 x0 x1 x2 h = some (v, h')) : MM G l yJ5_copyOf_2 cJ5_copyOf_2 4 (Option.some (Jvm.ClassFile.FieldType.array (Jvm.ClassFile.FieldType.object "java/lang/Object"))) d [vr x0, vi x1, vr x2] h (some (vr v)) h' := by
  refine mm_of hG (plainFor_of_name (by decide)) (Nat.le_of_ble_eq_true rfl) (fun X hX ok hr hnm => ?_)
  subst hX
  exact W_J5_copyOf_2 ok hr hd hf rfl ⟨rfl, rfl, rfl, trivial⟩
theorem cw_J5_copyOf : CW yJ5_copyOf cJ5_copyOf 2 (Option.some (Jvm.ClassFile.FieldType.array (Jvm.ClassFile.FieldType.object "java/lang/Object"))) 2 := ⟨q287, q175, ⟨by decide, by decide⟩, by decide +kernel, by decide⟩
theorem W_J5_copyOf {G : GT} {X : CX} {d : Nat} {h0 : AH} {Q : State → Prop} (ok : Ok G X RJ5 cJ5_copyOf 2 d h0) (hr : (cxm X).sig.returnType = (Option.some (Jvm.ClassFile.FieldType.array (Jvm.ClassFile.FieldType.object "java/lang/Object")))) (hd : 3 ≤ d) {x0 : Option Nat} {x1 : Int32} {h : AH} {z : (Option Nat × AH)} (hf : J5_copyOf x0 x1 h = some z) (hk : Q = QM G X h0 (some (vr z.1)) z.2) {lv : List (Nat × AV)} (hl : lle lv [(0, vr x0), (1, vi x1)]) : V G X 2 h0 Q h 0 lv [] := by
  refine V.sub hl ?_
  unfold J5_copyOf at hf
  refine v_aload_n ok 0 dJ5_copyOf_0 rfl rfl ?_
  refine v_iload_n ok 1 dJ5_copyOf_1 rfl rfl ?_
  refine v_aload_n ok 0 dJ5_copyOf_2 rfl rfl ?_
  refine v_getC ok q288 q2764 q2763 q289 q316 (by omega) (Nat.le_of_ble_eq_true rfl) dJ5_copyOf_3 hf (fun _ hf => ?_)
  refine v_cSr ok [vr x0, vi x1, vr (some 116)] (F := J5_copyOf_2 x0 x1 (some 116) h) (fun v h1 hv => M_J5_copyOf_2 ok.2.2.2.2.2.2.1 (d := 2) (Nat.le_refl _) hv) (by exact Nat.le_trans (by decide) hd) cw_J5_copyOf_2 q317 q318 dJ5_copyOf_6 [] rfl (Nat.le_of_ble_eq_true rfl) hf (fun v1 h2 hf => ?_)
  exact v_aret ok hr (by first | exact Or.inl ⟨_, rfl⟩ | exact Or.inr ⟨_, rfl⟩) (by cases hf; exact hk) dJ5_copyOf_9
theorem M_J5_copyOf {G : GT} {l : Launch} (hG : Glob G) {d : Nat} (hd : 3 ≤ d) {x0 : Option Nat} {x1 : Int32} {h : AH} {v : Option Nat} {h' : AH} (hf : J5_copyOf x0 x1 h = some (v, h')) : MM G l yJ5_copyOf cJ5_copyOf 2 (Option.some (Jvm.ClassFile.FieldType.array (Jvm.ClassFile.FieldType.object "java/lang/Object"))) d [vr x0, vi x1] h (some (vr v)) h' := by
  refine mm_of hG (plainFor_of_name (by decide)) (Nat.le_of_ble_eq_true rfl) (fun X hX ok hr hnm => ?_)
  subst hX
  exact W_J5_copyOf ok hr hd hf rfl ⟨rfl, rfl, trivial⟩
theorem cw_J2_grow_2 : CW yJ2_grow_2 cJ2_grow_2 4 (Option.some (Jvm.ClassFile.FieldType.array (Jvm.ClassFile.FieldType.object "java/lang/Object"))) 1 := ⟨q272, q172, ⟨by decide, by decide⟩, by decide +kernel, by decide⟩
theorem W_J2_grow_2_20 {G : GT} {X : CX} {d : Nat} {h0 : AH} {Q : State → Prop} (ok : Ok G X RJ2 cJ2_grow_2 4 d h0) (hr : (cxm X).sig.returnType = (Option.some (Jvm.ClassFile.FieldType.array (Jvm.ClassFile.FieldType.object "java/lang/Object")))) (hd : 4 ≤ d) {a0 : Nat} {x1 : Int32} {x2 : Int32} {h : AH} {z : (Option Nat × AH)} (hf : J2_grow_2_20 a0 x1 x2 h = some z) (hk : Q = QM G X h0 (some (vr z.1)) z.2) {lv : List (Nat × AV)} (hl : lle lv [(0, vr (some a0)), (1, vi x1), (2, vi x2)]) : V G X 4 h0 Q h 20 lv [] := by
  refine V.sub hl ?_
  unfold J2_grow_2_20 at hf
  refine v_iload_n ok 2 dJ2_grow_2_20 rfl rfl ?_
  refine v_iload_n ok 1 dJ2_grow_2_21 rfl rfl ?_
  refine v_iload_n ok 2 dJ2_grow_2_22 rfl rfl ?_
  refine v_isub ok dJ2_grow_2_23 ?_
  refine v_iload_n ok 2 dJ2_grow_2_24 rfl rfl ?_
  refine v_iconst ok 1 dJ2_grow_2_25 rfl ?_
  refine v_ishr ok dJ2_grow_2_26 ?_
  refine v_cSi ok [vi x2, vi (x1 - x2), vi (jshr x2 1)] (F := J3_newLength x2 (x1 - x2) (jshr x2 1) h) (fun v h1 hv => M_J3_newLength ok.2.2.2.2.2.2.1 (d := 2) (Nat.le_refl _) hv) (by exact Nat.le_trans (by decide) hd) cw_J3_newLength q275 q276 dJ2_grow_2_27 [] rfl (Nat.le_of_ble_eq_true rfl) hf (fun v1 h2 hf => ?_)
  refine v_istore_n ok 3 dJ2_grow_2_30 rfl (by decide) ?_
  refine v_aload_n ok 0 dJ2_grow_2_31 rfl rfl ?_
  refine v_aload_n ok 0 dJ2_grow_2_32 rfl rfl ?_
  refine v_gR ok fl_J2_9 (by first | exact Or.inl ⟨_, rfl⟩ | exact Or.inr ⟨_, rfl⟩) dJ2_grow_2_33 hf (fun v3 hf => ?_)
  refine v_iload_n ok 3 dJ2_grow_2_36 rfl rfl ?_
  refine v_cSr ok [vr v3, vi v1] (F := J5_copyOf v3 v1 h2) (fun v h1 hv => M_J5_copyOf ok.2.2.2.2.2.2.1 (d := 3) (Nat.le_refl _) hv) (by exact Nat.le_trans (by decide) hd) cw_J5_copyOf q285 q286 dJ2_grow_2_37 [vr (some a0)] rfl (Nat.le_of_ble_eq_true rfl) hf (fun v4 h5 hf => ?_)
  refine v_dup_x1 ok dJ2_grow_2_40 rfl rfl ?_
  refine v_pR ok fl_J2_9 (by first | exact Or.inl ⟨_, rfl⟩ | exact Or.inr ⟨_, rfl⟩) (FN.of cf_23.1 rfl) dJ2_grow_2_41 hf (fun h6 hf => ?_)
  exact v_aret ok hr (by first | exact Or.inl ⟨_, rfl⟩ | exact Or.inr ⟨_, rfl⟩) (by cases hf; exact hk) dJ2_grow_2_44
theorem W_J2_grow_2 {G : GT} {X : CX} {d : Nat} {h0 : AH} {Q : State → Prop} (ok : Ok G X RJ2 cJ2_grow_2 4 d h0) (hr : (cxm X).sig.returnType = (Option.some (Jvm.ClassFile.FieldType.array (Jvm.ClassFile.FieldType.object "java/lang/Object")))) (hd : 4 ≤ d) {a0 : Nat} {x1 : Int32} {h : AH} {z : (Option Nat × AH)} (hf : J2_grow_2 a0 x1 h = some z) (hk : Q = QM G X h0 (some (vr z.1)) z.2) {lv : List (Nat × AV)} (hl : lle lv [(0, vr (some a0)), (1, vi x1)]) : V G X 4 h0 Q h 0 lv [] := by
  refine V.sub hl ?_
  unfold J2_grow_2 at hf
  refine v_aload_n ok 0 dJ2_grow_2_0 rfl rfl ?_
  refine v_gR ok fl_J2_9 (by first | exact Or.inl ⟨_, rfl⟩ | exact Or.inr ⟨_, rfl⟩) dJ2_grow_2_1 hf (fun v7 hf => ?_)
  refine v_alen ok dJ2_grow_2_4 hf (fun v8 hf => ?_)
  refine v_istore_n ok 2 dJ2_grow_2_5 rfl (by decide) ?_
  refine v_iload_n ok 2 dJ2_grow_2_6 rfl rfl ?_
  refine v_if_gt ok 20 dJ2_grow_2_7 rfl hf (fun hf => ?_) (fun hf => ?_)
  ·
    exact W_J2_grow_2_20 ok hr hd hf hk ⟨rfl, rfl, rfl, trivial⟩
  ·
    refine v_aload_n ok 0 dJ2_grow_2_10 rfl rfl ?_
    refine v_gR ok fl_J2_9 (by first | exact Or.inl ⟨_, rfl⟩ | exact Or.inr ⟨_, rfl⟩) dJ2_grow_2_11 hf (fun v9 hf => ?_)
    refine v_gets ok (v := vr (hR h 120 5)) (List.mem_of_getElem? (i := 5) rfl) q273 rfl dJ2_grow_2_14 ?_
    refine v_acmp_eq ok 45 dJ2_grow_2_17 rfl hf (fun hf => ?_) (fun hf => ?_)
    ·
      refine v_aload_n ok 0 dJ2_grow_2_45 rfl rfl ?_
      refine v_bipush ok 10 dJ2_grow_2_46 rfl ?_
      refine v_iload_n ok 1 dJ2_grow_2_48 rfl rfl ?_
      refine v_cSi ok [vi 10, vi x1] (F := J4_max 10 x1 h) (fun v h1 hv => M_J4_max ok.2.2.2.2.2.2.1 (d := 1) (Nat.le_refl _) hv) (by exact Nat.le_trans (by decide) hd) cw_J4_max q328 q279 dJ2_grow_2_49 [vr (some a0)] rfl (Nat.le_of_ble_eq_true rfl) hf (fun v10 h11 hf => ?_)
      refine v_anew ok (t := 104) (by decide) (by decide) rfl q235 q236 dJ2_grow_2_52 hf (fun v12 h13 hf => ?_)
      refine v_dup_x1 ok dJ2_grow_2_55 rfl rfl ?_
      refine v_pR ok fl_J2_9 (by first | exact Or.inl ⟨_, rfl⟩ | exact Or.inr ⟨_, rfl⟩) (FN.of cf_23.1 rfl) dJ2_grow_2_56 hf (fun h14 hf => ?_)
      exact v_aret ok hr (by first | exact Or.inl ⟨_, rfl⟩ | exact Or.inr ⟨_, rfl⟩) (by cases hf; exact hk) dJ2_grow_2_59
    ·
      exact W_J2_grow_2_20 ok hr hd hf hk ⟨rfl, rfl, rfl, trivial⟩
theorem M_J2_grow_2 {G : GT} {l : Launch} (hG : Glob G) {d : Nat} (hd : 4 ≤ d) {a0 : Nat} {x1 : Int32} {h : AH} {v : Option Nat} {h' : AH} (hf : J2_grow_2 a0 x1 h = some (v, h')) : MM G l yJ2_grow_2 cJ2_grow_2 4 (Option.some (Jvm.ClassFile.FieldType.array (Jvm.ClassFile.FieldType.object "java/lang/Object"))) d [vr (some a0), vi x1] h (some (vr v)) h' := by
  refine mm_of hG (plainFor_of_name (by decide)) (Nat.le_of_ble_eq_true rfl) (fun X hX ok hr hnm => ?_)
  subst hX
  exact W_J2_grow_2 ok hr hd hf rfl ⟨rfl, rfl, trivial⟩
theorem cw_J2_grow : CW yJ2_grow cJ2_grow 1 (Option.some (Jvm.ClassFile.FieldType.array (Jvm.ClassFile.FieldType.object "java/lang/Object"))) 0 := ⟨q268, q172, ⟨by decide, by decide⟩, by decide +kernel, by decide⟩
theorem W_J2_grow {G : GT} {X : CX} {d : Nat} {h0 : AH} {Q : State → Prop} (ok : Ok G X RJ2 cJ2_grow 1 d h0) (hr : (cxm X).sig.returnType = (Option.some (Jvm.ClassFile.FieldType.array (Jvm.ClassFile.FieldType.object "java/lang/Object")))) (hd : 5 ≤ d) {a0 : Nat} {h : AH} {z : (Option Nat × AH)} (hf : J2_grow a0 h = some z) (hk : Q = QM G X h0 (some (vr z.1)) z.2) {lv : List (Nat × AV)} (hl : lle lv [(0, vr (some a0))]) : V G X 1 h0 Q h 0 lv [] := by
  refine V.sub hl ?_
  unfold J2_grow at hf
  refine v_aload_n ok 0 dJ2_grow_0 rfl rfl ?_
  refine v_aload_n ok 0 dJ2_grow_1 rfl rfl ?_
  refine v_gI ok fl_J2_48 (fun _ _ _ => rfl) dJ2_grow_2 hf (fun v1 hf => ?_)
  refine v_iconst ok 1 dJ2_grow_5 rfl ?_
  refine v_iadd ok dJ2_grow_6 ?_
  refine v_cVr ok (RJ2, TJ2, 3) cf_23.1 [vi (v1 + 1)] (F := fun a => J2_grow_2 a (v1 + 1) h) (fun a v h1 _ hv => M_J2_grow_2 ok.2.2.2.2.2.2.1 (d := 4) (Nat.le_refl _) hv) (by exact Nat.le_trans (by decide) hd) cw_J2_grow_2 q269 q271 qs2 dJ2_grow_7 [] rfl (Nat.le_of_ble_eq_true rfl) hf (fun v2 h3 hf => ?_)
  exact v_aret ok hr (by first | exact Or.inl ⟨_, rfl⟩ | exact Or.inr ⟨_, rfl⟩) (by cases hf; exact hk) dJ2_grow_10
theorem M_J2_grow {G : GT} {l : Launch} (hG : Glob G) {d : Nat} (hd : 5 ≤ d) {a0 : Nat} {h : AH} {v : Option Nat} {h' : AH} (hf : J2_grow a0 h = some (v, h')) : MM G l yJ2_grow cJ2_grow 1 (Option.some (Jvm.ClassFile.FieldType.array (Jvm.ClassFile.FieldType.object "java/lang/Object"))) d [vr (some a0)] h (some (vr v)) h' := by
  refine mm_of hG (plainFor_of_name (by decide)) (Nat.le_of_ble_eq_true rfl) (fun X hX ok hr hnm => ?_)
  subst hX
  exact W_J2_grow ok hr hd hf rfl ⟨rfl, trivial⟩
theorem cw_J2_add_2 : CW yJ2_add_2 cJ2_add_2 4 none 3 := ⟨q264, q172, ⟨by decide, by decide⟩, by decide +kernel, by decide⟩
theorem W_J2_add_2_11 {G : GT} {X : CX} {d : Nat} {h0 : AH} {Q : State → Prop} (ok : Ok G X RJ2 cJ2_add_2 4 d h0) (hr : (cxm X).sig.returnType = none) (hd : 6 ≤ d) {a0 : Nat} {x1 : Option Nat} {x2 : Option Nat} {x3 : Int32} {h : AH} {z : (AH)} (hf : J2_add_2_11 a0 x1 x2 x3 h = some z) (hk : Q = QM G X h0 none z) {lv : List (Nat × AV)} (hl : lle lv [(0, vr (some a0)), (1, vr x1), (2, vr x2), (3, vi x3)]) : V G X 4 h0 Q h 11 lv [] := by
  refine V.sub hl ?_
  unfold J2_add_2_11 at hf
  refine v_aload_n ok 2 dJ2_add_2_11 rfl rfl ?_
  refine v_iload_n ok 3 dJ2_add_2_12 rfl rfl ?_
  refine v_aload_n ok 1 dJ2_add_2_13 rfl rfl ?_
  refine v_aast ok (t := 104) (by decide) (by decide) ck_obj dJ2_add_2_14 hf (fun h1 hf => ?_)
  refine v_aload_n ok 0 dJ2_add_2_15 rfl rfl ?_
  refine v_iload_n ok 3 dJ2_add_2_16 rfl rfl ?_
  refine v_iconst ok 1 dJ2_add_2_17 rfl ?_
  refine v_iadd ok dJ2_add_2_18 ?_
  refine v_pI ok fl_J2_48 ⟨fun _ _ _ => rfl, rfl⟩ (FN.of cf_23.1 rfl) dJ2_add_2_19 hf (fun h2 hf => ?_)
  exact v_vret ok hr (by cases hf; exact hk) dJ2_add_2_22
theorem W_J2_add_2 {G : GT} {X : CX} {d : Nat} {h0 : AH} {Q : State → Prop} (ok : Ok G X RJ2 cJ2_add_2 4 d h0) (hr : (cxm X).sig.returnType = none) (hd : 6 ≤ d) {a0 : Nat} {x1 : Option Nat} {x2 : Option Nat} {x3 : Int32} {h : AH} {z : (AH)} (hf : J2_add_2 a0 x1 x2 x3 h = some z) (hk : Q = QM G X h0 none z) {lv : List (Nat × AV)} (hl : lle lv [(0, vr (some a0)), (1, vr x1), (2, vr x2), (3, vi x3)]) : V G X 4 h0 Q h 0 lv [] := by
  refine V.sub hl ?_
  unfold J2_add_2 at hf
  refine v_iload_n ok 3 dJ2_add_2_0 rfl rfl ?_
  refine v_aload_n ok 2 dJ2_add_2_1 rfl rfl ?_
  refine v_alen ok dJ2_add_2_2 hf (fun v3 hf => ?_)
  refine v_icmp_ne ok 11 dJ2_add_2_3 rfl hf (fun hf => ?_) (fun hf => ?_)
  ·
    exact W_J2_add_2_11 ok hr hd hf hk ⟨rfl, rfl, rfl, rfl, trivial⟩
  ·
    refine v_aload_n ok 0 dJ2_add_2_6 rfl rfl ?_
    refine v_cVr ok (RJ2, TJ2, 3) cf_23.1 [] (F := fun a => J2_grow a h) (fun a v h1 _ hv => M_J2_grow ok.2.2.2.2.2.2.1 (d := 5) (Nat.le_refl _) hv) (by exact Nat.le_trans (by decide) hd) cw_J2_grow q265 q267 qs1 dJ2_add_2_7 [] rfl (Nat.le_of_ble_eq_true rfl) hf (fun v4 h5 hf => ?_)
    refine v_astore_n ok 2 dJ2_add_2_10 rfl (by decide) ?_
    exact W_J2_add_2_11 ok hr hd hf hk ⟨rfl, rfl, rfl, rfl, trivial⟩
theorem M_J2_add_2 {G : GT} {l : Launch} (hG : Glob G) {d : Nat} (hd : 6 ≤ d) {a0 : Nat} {x1 : Option Nat} {x2 : Option Nat} {x3 : Int32} {h : AH} {h' : AH} (hf : J2_add_2 a0 x1 x2 x3 h = some h') : MM G l yJ2_add_2 cJ2_add_2 4 none d [vr (some a0), vr x1, vr x2, vi x3] h none h' := by
  refine mm_of hG (plainFor_of_name (by decide)) (Nat.le_of_ble_eq_true rfl) (fun X hX ok hr hnm => ?_)
  subst hX
  exact W_J2_add_2 ok hr hd hf rfl ⟨rfl, rfl, rfl, rfl, trivial⟩
theorem cw_J2_add : CW yJ2_add cJ2_add 2 (Option.some Jvm.ClassFile.FieldType.boolean) 1 := ⟨q260, q172, ⟨by decide, by decide⟩, by decide +kernel, by decide⟩
theorem W_J2_add {G : GT} {X : CX} {d : Nat} {h0 : AH} {Q : State → Prop} (ok : Ok G X RJ2 cJ2_add 2 d h0) (hr : (cxm X).sig.returnType = (Option.some Jvm.ClassFile.FieldType.boolean)) (hd : 7 ≤ d) {a0 : Nat} {x1 : Option Nat} {h : AH} {z : (Int32 × AH)} (hf : J2_add a0 x1 h = some z) (hk : Q = QM G X h0 (some (vi z.1)) z.2) {lv : List (Nat × AV)} (hl : lle lv [(0, vr (some a0)), (1, vr x1)]) : V G X 2 h0 Q h 0 lv [] := by
  refine V.sub hl ?_
  unfold J2_add at hf
  refine v_aload_n ok 0 dJ2_add_0 rfl rfl ?_
  refine v_dup ok dJ2_add_1 rfl ?_
  refine v_gIs ok fl_J2_63 (fun _ _ _ => rfl) dJ2_add_2 hf (fun v1 hf => ?_)
  refine v_iconst ok 1 dJ2_add_5 rfl ?_
  refine v_iadd ok dJ2_add_6 ?_
  refine v_pIs ok fl_J2_63 ⟨fun _ _ _ => rfl, rfl⟩ (fun q hq => by cases cf_23.1.symm.trans hq; rfl) dJ2_add_7 hf (fun h2 hf => ?_)
  refine v_aload_n ok 0 dJ2_add_10 rfl rfl ?_
  refine v_aload_n ok 1 dJ2_add_11 rfl rfl ?_
  refine v_aload_n ok 0 dJ2_add_12 rfl rfl ?_
  refine v_gR ok fl_J2_9 (by first | exact Or.inl ⟨_, rfl⟩ | exact Or.inr ⟨_, rfl⟩) dJ2_add_13 hf (fun v3 hf => ?_)
  refine v_aload_n ok 0 dJ2_add_16 rfl rfl ?_
  refine v_gI ok fl_J2_48 (fun _ _ _ => rfl) dJ2_add_17 hf (fun v4 hf => ?_)
  refine v_cVv ok (RJ2, TJ2, 3) cf_23.1 [vr x1, vr v3, vi v4] (F := fun a => J2_add_2 a x1 v3 v4 h2) (fun a h1 _ hv => M_J2_add_2 ok.2.2.2.2.2.2.1 (d := 6) (Nat.le_refl _) hv) (by exact Nat.le_trans (by decide) hd) cw_J2_add_2 q261 q263 qs0 dJ2_add_20 [] rfl (Nat.le_of_ble_eq_true rfl) hf (fun h5 hf => ?_)
  refine v_iconst ok 1 dJ2_add_23 rfl ?_
  exact v_zretL ok hr (by decide) (by decide) (by cases hf; exact hk) dJ2_add_24
theorem M_J2_add {G : GT} {l : Launch} (hG : Glob G) {d : Nat} (hd : 7 ≤ d) {a0 : Nat} {x1 : Option Nat} {h : AH} {v : Int32} {h' : AH} (hf : J2_add a0 x1 h = some (v, h')) : MM G l yJ2_add cJ2_add 2 (Option.some Jvm.ClassFile.FieldType.boolean) d [vr (some a0), vr x1] h (some (vi v)) h' := by
  refine mm_of hG (plainFor_of_name (by decide)) (Nat.le_of_ble_eq_true rfl) (fun X hX ok hr hnm => ?_)
  subst hX
  exact W_J2_add ok hr hd hf rfl ⟨rfl, rfl, trivial⟩
theorem cw_J2_elementData : CW yJ2_elementData cJ2_elementData 2 (Option.some (Jvm.ClassFile.FieldType.object "java/lang/Object")) 1 := ⟨q917, q172, ⟨by decide, by decide⟩, by decide +kernel, by decide⟩
theorem W_J2_elementData {G : GT} {X : CX} {d : Nat} {h0 : AH} {Q : State → Prop} (ok : Ok G X RJ2 cJ2_elementData 2 d h0) (hr : (cxm X).sig.returnType = (Option.some (Jvm.ClassFile.FieldType.object "java/lang/Object"))) (hd : 1 ≤ d) {a0 : Nat} {x1 : Int32} {h : AH} {z : (Option Nat × AH)} (hf : J2_elementData a0 x1 h = some z) (hk : Q = QM G X h0 (some (vr z.1)) z.2) {lv : List (Nat × AV)} (hl : lle lv [(0, vr (some a0)), (1, vi x1)]) : V G X 2 h0 Q h 0 lv [] := by
  refine V.sub hl ?_
  unfold J2_elementData at hf
  refine v_aload_n ok 0 dJ2_elementData_0 rfl rfl ?_
  refine v_gR ok fl_J2_9 (by first | exact Or.inl ⟨_, rfl⟩ | exact Or.inr ⟨_, rfl⟩) dJ2_elementData_1 hf (fun v1 hf => ?_)
  refine v_iload_n ok 1 dJ2_elementData_4 rfl rfl ?_
  refine v_aald4 ok rfl dJ2_elementData_5 hf (fun v2 hf => ?_)
  exact v_aret ok hr (by first | exact Or.inl ⟨_, rfl⟩ | exact Or.inr ⟨_, rfl⟩) (by cases hf; exact hk) dJ2_elementData_6
theorem M_J2_elementData {G : GT} {l : Launch} (hG : Glob G) {d : Nat} (hd : 1 ≤ d) {a0 : Nat} {x1 : Int32} {h : AH} {v : Option Nat} {h' : AH} (hf : J2_elementData a0 x1 h = some (v, h')) : MM G l yJ2_elementData cJ2_elementData 2 (Option.some (Jvm.ClassFile.FieldType.object "java/lang/Object")) d [vr (some a0), vi x1] h (some (vr v)) h' := by
  refine mm_of hG (plainFor_of_name (by decide)) (Nat.le_of_ble_eq_true rfl) (fun X hX ok hr hnm => ?_)
  subst hX
  exact W_J2_elementData ok hr hd hf rfl ⟨rfl, rfl, trivial⟩
theorem cw_J2_get : CW yJ2_get cJ2_get 2 (Option.some (Jvm.ClassFile.FieldType.object "java/lang/Object")) 1 := ⟨q909, q172, ⟨by decide, by decide⟩, by decide +kernel, by decide⟩
theorem W_J2_get {G : GT} {X : CX} {d : Nat} {h0 : AH} {Q : State → Prop} (ok : Ok G X RJ2 cJ2_get 2 d h0) (hr : (cxm X).sig.returnType = (Option.some (Jvm.ClassFile.FieldType.object "java/lang/Object"))) (hd : 3 ≤ d) {a0 : Nat} {x1 : Int32} {h : AH} {z : (Option Nat × AH)} (hf : J2_get a0 x1 h = some z) (hk : Q = QM G X h0 (some (vr z.1)) z.2) {lv : List (Nat × AV)} (hl : lle lv [(0, vr (some a0)), (1, vi x1)]) : V G X 2 h0 Q h 0 lv [] := by
  refine V.sub hl ?_
  unfold J2_get at hf
  refine v_iload_n ok 1 dJ2_get_0 rfl rfl ?_
  refine v_aload_n ok 0 dJ2_get_1 rfl rfl ?_
  refine v_gI ok fl_J2_48 (fun _ _ _ => rfl) dJ2_get_2 hf (fun v1 hf => ?_)
  refine v_cSi ok [vi x1, vi v1] (F := J13_checkIndex x1 v1 h) (fun v h1 hv => M_J13_checkIndex ok.2.2.2.2.2.2.1 (d := 2) (Nat.le_refl _) hv) (by exact Nat.le_trans (by decide) hd) cw_J13_checkIndex q910 q911 dJ2_get_5 [] rfl (Nat.le_of_ble_eq_true rfl) hf (fun v2 h3 hf => ?_)
  refine v_pop ok dJ2_get_8 rfl ?_
  refine v_aload_n ok 0 dJ2_get_9 rfl rfl ?_
  refine v_iload_n ok 1 dJ2_get_10 rfl rfl ?_
  refine v_cVr ok (RJ2, TJ2, 3) cf_23.1 [vi x1] (F := fun a => J2_elementData a x1 h3) (fun a v h1 _ hv => M_J2_elementData ok.2.2.2.2.2.2.1 (d := 1) (Nat.le_refl _) hv) (by exact Nat.le_trans (by decide) hd) cw_J2_elementData q914 q915 q916 dJ2_get_11 [] rfl (Nat.le_of_ble_eq_true rfl) hf (fun v4 h5 hf => ?_)
  exact v_aret ok hr (by first | exact Or.inl ⟨_, rfl⟩ | exact Or.inr ⟨_, rfl⟩) (by cases hf; exact hk) dJ2_get_14
theorem M_J2_get {G : GT} {l : Launch} (hG : Glob G) {d : Nat} (hd : 3 ≤ d) {a0 : Nat} {x1 : Int32} {h : AH} {v : Option Nat} {h' : AH} (hf : J2_get a0 x1 h = some (v, h')) : MM G l yJ2_get cJ2_get 2 (Option.some (Jvm.ClassFile.FieldType.object "java/lang/Object")) d [vr (some a0), vi x1] h (some (vr v)) h' := by
  refine mm_of hG (plainFor_of_name (by decide)) (Nat.le_of_ble_eq_true rfl) (fun X hX ok hr hnm => ?_)
  subst hX
  exact W_J2_get ok hr hd hf rfl ⟨rfl, rfl, trivial⟩
theorem cw_J2_size : CW yJ2_size cJ2_size 1 (Option.some Jvm.ClassFile.FieldType.int) 0 := ⟨q927, q172, ⟨by decide, by decide⟩, by decide +kernel, by decide⟩
theorem W_J2_size {G : GT} {X : CX} {d : Nat} {h0 : AH} {Q : State → Prop} (ok : Ok G X RJ2 cJ2_size 1 d h0) (hr : (cxm X).sig.returnType = (Option.some Jvm.ClassFile.FieldType.int)) (hd : 1 ≤ d) {a0 : Nat} {h : AH} {z : (Int32 × AH)} (hf : J2_size a0 h = some z) (hk : Q = QM G X h0 (some (vi z.1)) z.2) {lv : List (Nat × AV)} (hl : lle lv [(0, vr (some a0))]) : V G X 1 h0 Q h 0 lv [] := by
  refine V.sub hl ?_
  unfold J2_size at hf
  refine v_aload_n ok 0 dJ2_size_0 rfl rfl ?_
  refine v_gI ok fl_J2_48 (fun _ _ _ => rfl) dJ2_size_1 hf (fun v1 hf => ?_)
  exact v_iret ok hr (by cases hf; exact hk) dJ2_size_4
theorem M_J2_size {G : GT} {l : Launch} (hG : Glob G) {d : Nat} (hd : 1 ≤ d) {a0 : Nat} {h : AH} {v : Int32} {h' : AH} (hf : J2_size a0 h = some (v, h')) : MM G l yJ2_size cJ2_size 1 (Option.some Jvm.ClassFile.FieldType.int) d [vr (some a0)] h (some (vi v)) h' := by
  refine mm_of hG (plainFor_of_name (by decide)) (Nat.le_of_ble_eq_true rfl) (fun X hX ok hr hnm => ?_)
  subst hX
  exact W_J2_size ok hr hd hf rfl ⟨rfl, trivial⟩
theorem cw_J3_hashCode : CW yJ3_hashCode cJ3_hashCode 6 (Option.some Jvm.ClassFile.FieldType.int) 4 := ⟨q821, q173, ⟨by decide, by decide⟩, by decide +kernel, by decide⟩
def pkJ3_hashCode_8 (G : GT) (X : CX) (h0 : AH) (Q : State → Prop) (x1 : Option Nat) (x4 : Int32) (o : ((Int32 × Int32 × AH) ⊕ (Int32 × AH))) : Prop := match o with
  | .inl s => ∀ lv : List (Nat × AV), lle lv [(0, vi s.1), (1, vr x1), (4, vi x4), (5, vi s.2.1)] → V G X 6 h0 Q s.2.2 8 lv []
  | .inr z => Q = QM G X h0 (some (vi z.1)) z.2
theorem W_J3_hashCode_8b {G : GT} {X : CX} {d : Nat} {h0 : AH} {Q : State → Prop} (ok : Ok G X RJ3 cJ3_hashCode 6 d h0) (hr : (cxm X).sig.returnType = (Option.some Jvm.ClassFile.FieldType.int)) (hd : 1 ≤ d) {x1 : Option Nat} {x4 : Int32} {x0 : Int32} {x5 : Int32} {h : AH} {z : ((Int32 × Int32 × AH) ⊕ (Int32 × AH))} (hf : J3_hashCode_8b  x1 x4 x0 x5 h = some z) (hk : pkJ3_hashCode_8 G X h0 Q x1 x4 z) {lv : List (Nat × AV)} (hl : lle lv [(0, vi x0), (1, vr x1), (4, vi x4), (5, vi x5)]) : V G X 6 h0 Q h 8 lv [] := by
  refine V.sub hl ?_
  unfold J3_hashCode_8b at hf
  refine v_iload ok dJ3_hashCode_8 rfl ?_
  refine v_iload ok dJ3_hashCode_10 rfl ?_
  refine v_icmp_ge ok 31 dJ3_hashCode_12 rfl hf (fun hf => ?_) (fun hf => ?_)
  ·
    refine v_iload_n ok 0 dJ3_hashCode_31 rfl rfl ?_
    exact v_iret ok hr (by cases hf; exact hk) dJ3_hashCode_32
  ·
    refine v_bipush ok 31 dJ3_hashCode_15 rfl ?_
    refine v_iload_n ok 0 dJ3_hashCode_17 rfl rfl ?_
    refine v_imul ok dJ3_hashCode_18 ?_
    refine v_aload_n ok 1 dJ3_hashCode_19 rfl rfl ?_
    refine v_iload ok dJ3_hashCode_20 rfl ?_
    refine v_cald ok rfl dJ3_hashCode_22 hf (fun v1 hf => ?_)
    refine v_iadd ok dJ3_hashCode_23 ?_
    refine v_istore_n ok 0 dJ3_hashCode_24 rfl (by decide) ?_
    refine v_iinc ok x5 (x5 + 1) dJ3_hashCode_25 rfl rfl (by decide) ?_
    refine v_goto ok 8 dJ3_hashCode_28 rfl ?_
    cases hf; exact hk _ ⟨rfl, rfl, rfl, rfl, trivial⟩
theorem W_J3_hashCode_8 {G : GT} {X : CX} {d : Nat} {h0 : AH} {Q : State → Prop} (ok : Ok G X RJ3 cJ3_hashCode 6 d h0) (hr : (cxm X).sig.returnType = (Option.some Jvm.ClassFile.FieldType.int)) (hd : 1 ≤ d) {x0 : Int32} {x1 : Option Nat} {x4 : Int32} {x5 : Int32} {h : AH} {z : (Int32 × AH)} (hf : J3_hashCode_8  x0 x1 x4 x5 h = some z) (hk : Q = QM G X h0 (some (vi z.1)) z.2) {lv : List (Nat × AV)} (hl : lle lv [(0, vi x0), (1, vr x1), (4, vi x4), (5, vi x5)]) : V G X 6 h0 Q h 8 lv [] := by
  unfold J3_hashCode_8 at hf
  exact loopC_walk (Wh := fun s : Int32 × Int32 × AH => ∀ lv : List (Nat × AV), lle lv [(0, vi s.1), (1, vr x1), (4, vi x4), (5, vi s.2.1)] → V G X 6 h0 Q s.2.2 8 lv []) (PK := fun z => Q = QM G X h0 (some (vi z.1)) z.2) (fun s o hf hk lv hl => W_J3_hashCode_8b ok hr hd hf (by cases o <;> exact hk) hl) _ z hf hk lv hl
theorem W_J3_hashCode {G : GT} {X : CX} {d : Nat} {h0 : AH} {Q : State → Prop} (ok : Ok G X RJ3 cJ3_hashCode 6 d h0) (hr : (cxm X).sig.returnType = (Option.some Jvm.ClassFile.FieldType.int)) (hd : 1 ≤ d) {x0 : Int32} {x1 : Option Nat} {x2 : Int32} {x3 : Int32} {h : AH} {z : (Int32 × AH)} (hf : J3_hashCode x0 x1 x2 x3 h = some z) (hk : Q = QM G X h0 (some (vi z.1)) z.2) {lv : List (Nat × AV)} (hl : lle lv [(0, vi x0), (1, vr x1), (2, vi x2), (3, vi x3)]) : V G X 6 h0 Q h 0 lv [] := by
  refine V.sub hl ?_
  unfold J3_hashCode at hf
  refine v_iload_n ok 2 dJ3_hashCode_0 rfl rfl ?_
  refine v_iload_n ok 3 dJ3_hashCode_1 rfl rfl ?_
  refine v_iadd ok dJ3_hashCode_2 ?_
  refine v_istore ok dJ3_hashCode_3 (by decide) ?_
  refine v_iload_n ok 2 dJ3_hashCode_5 rfl rfl ?_
  refine v_istore ok dJ3_hashCode_6 (by decide) ?_
  exact W_J3_hashCode_8 ok hr hd hf hk ⟨rfl, rfl, rfl, rfl, trivial⟩
theorem M_J3_hashCode {G : GT} {l : Launch} (hG : Glob G) {d : Nat} (hd : 1 ≤ d) {x0 : Int32} {x1 : Option Nat} {x2 : Int32} {x3 : Int32} {h : AH} {v : Int32} {h' : AH} (hf : J3_hashCode x0 x1 x2 x3 h = some (v, h')) : MM G l yJ3_hashCode cJ3_hashCode 6 (Option.some Jvm.ClassFile.FieldType.int) d [vi x0, vr x1, vi x2, vi x3] h (some (vi v)) h' := by
  refine mm_of hG (plainFor_of_name (by decide)) (Nat.le_of_ble_eq_true rfl) (fun X hX ok hr hnm => ?_)
  subst hX
  exact W_J3_hashCode ok hr hd hf rfl ⟨rfl, rfl, rfl, rfl, trivial⟩
theorem cw_J3_hashCode_3 : CW yJ3_hashCode_3 cJ3_hashCode_3 6 (Option.some Jvm.ClassFile.FieldType.int) 4 := ⟨q828, q173, ⟨by decide, by decide⟩, by decide +kernel, by decide⟩
theorem W_J3_hashCode_3 {G : GT} {X : CX} {d : Nat} {h0 : AH} {Q : State → Prop} (ok : Ok G X RJ3 cJ3_hashCode_3 6 d h0) (hr : (cxm X).sig.returnType = (Option.some Jvm.ClassFile.FieldType.int)) (hd : 1 ≤ d) {x0 : Int32} {x1 : Option Nat} {x2 : Int32} {x3 : Int32} {h : AH} {z : (Int32 × AH)} (hf : J3_hashCode_3 x0 x1 x2 x3 h = some z) (hk : Q = QM G X h0 (some (vi z.1)) z.2) {lv : List (Nat × AV)} (hl : lle lv [(0, vi x0), (1, vr x1), (2, vi x2), (3, vi x3)]) : V G X 6 h0 Q h 0 lv [] := by
  refine V.sub hl ?_
  unfold J3_hashCode_3 at hf
  refine v_iload_n ok 2 dJ3_hashCode_3_0 rfl rfl ?_
  refine v_iload_n ok 3 dJ3_hashCode_3_1 rfl rfl ?_
  refine v_iadd ok dJ3_hashCode_3_2 ?_
  refine v_istore ok dJ3_hashCode_3_3 (by decide) ?_
  refine v_iload_n ok 2 dJ3_hashCode_3_5 rfl rfl ?_
  refine v_istore ok dJ3_hashCode_3_6 (by decide) ?_
  refine v_iload ok dJ3_hashCode_3_8 rfl ?_
  refine v_iload ok dJ3_hashCode_3_10 rfl ?_
  refine v_icmp_ge ok 31 dJ3_hashCode_3_12 rfl hf (fun hf => ?_) (fun hf => ?_)
  ·
    refine v_iload_n ok 0 dJ3_hashCode_3_31 rfl rfl ?_
    exact v_iret ok hr (by cases hf; exact hk) dJ3_hashCode_3_32
  ·
    refine v_bipush ok 31 dJ3_hashCode_3_15 rfl ?_
    refine v_iload_n ok 0 dJ3_hashCode_3_17 rfl rfl ?_
    refine v_imul ok dJ3_hashCode_3_18 ?_
    refine v_aload_n ok 1 dJ3_hashCode_3_19 rfl rfl ?_
    refine v_iload ok dJ3_hashCode_3_20 rfl ?_
    cases hf
theorem M_J3_hashCode_3 {G : GT} {l : Launch} (hG : Glob G) {d : Nat} (hd : 1 ≤ d) {x0 : Int32} {x1 : Option Nat} {x2 : Int32} {x3 : Int32} {h : AH} {v : Int32} {h' : AH} (hf : J3_hashCode_3 x0 x1 x2 x3 h = some (v, h')) : MM G l yJ3_hashCode_3 cJ3_hashCode_3 6 (Option.some Jvm.ClassFile.FieldType.int) d [vi x0, vr x1, vi x2, vi x3] h (some (vi v)) h' := by
  refine mm_of hG (plainFor_of_name (by decide)) (Nat.le_of_ble_eq_true rfl) (fun X hX ok hr hnm => ?_)
  subst hX
  exact W_J3_hashCode_3 ok hr hd hf rfl ⟨rfl, rfl, rfl, rfl, trivial⟩
theorem cw_J3_hashCode_4 : CW yJ3_hashCode_4 cJ3_hashCode_4 6 (Option.some Jvm.ClassFile.FieldType.int) 4 := ⟨q832, q173, ⟨by decide, by decide⟩, by decide +kernel, by decide⟩
def pkJ3_hashCode_4_8 (G : GT) (X : CX) (h0 : AH) (Q : State → Prop) (x1 : Option Nat) (x4 : Int32) (o : ((Int32 × Int32 × AH) ⊕ (Int32 × AH))) : Prop := match o with
  | .inl s => ∀ lv : List (Nat × AV), lle lv [(0, vi s.1), (1, vr x1), (4, vi x4), (5, vi s.2.1)] → V G X 6 h0 Q s.2.2 8 lv []
  | .inr z => Q = QM G X h0 (some (vi z.1)) z.2
theorem W_J3_hashCode_4_8b {G : GT} {X : CX} {d : Nat} {h0 : AH} {Q : State → Prop} (ok : Ok G X RJ3 cJ3_hashCode_4 6 d h0) (hr : (cxm X).sig.returnType = (Option.some Jvm.ClassFile.FieldType.int)) (hd : 1 ≤ d) {x1 : Option Nat} {x4 : Int32} {x0 : Int32} {x5 : Int32} {h : AH} {z : ((Int32 × Int32 × AH) ⊕ (Int32 × AH))} (hf : J3_hashCode_4_8b  x1 x4 x0 x5 h = some z) (hk : pkJ3_hashCode_4_8 G X h0 Q x1 x4 z) {lv : List (Nat × AV)} (hl : lle lv [(0, vi x0), (1, vr x1), (4, vi x4), (5, vi x5)]) : V G X 6 h0 Q h 8 lv [] := by
  refine V.sub hl ?_
  unfold J3_hashCode_4_8b at hf
  refine v_iload ok dJ3_hashCode_4_8 rfl ?_
  refine v_iload ok dJ3_hashCode_4_10 rfl ?_
  refine v_icmp_ge ok 31 dJ3_hashCode_4_12 rfl hf (fun hf => ?_) (fun hf => ?_)
  ·
    refine v_iload_n ok 0 dJ3_hashCode_4_31 rfl rfl ?_
    exact v_iret ok hr (by cases hf; exact hk) dJ3_hashCode_4_32
  ·
    refine v_bipush ok 31 dJ3_hashCode_4_15 rfl ?_
    refine v_iload_n ok 0 dJ3_hashCode_4_17 rfl rfl ?_
    refine v_imul ok dJ3_hashCode_4_18 ?_
    refine v_aload_n ok 1 dJ3_hashCode_4_19 rfl rfl ?_
    refine v_iload ok dJ3_hashCode_4_20 rfl ?_
    refine v_iald ok rfl dJ3_hashCode_4_22 hf (fun v1 hf => ?_)
    refine v_iadd ok dJ3_hashCode_4_23 ?_
    refine v_istore_n ok 0 dJ3_hashCode_4_24 rfl (by decide) ?_
    refine v_iinc ok x5 (x5 + 1) dJ3_hashCode_4_25 rfl rfl (by decide) ?_
    refine v_goto ok 8 dJ3_hashCode_4_28 rfl ?_
    cases hf; exact hk _ ⟨rfl, rfl, rfl, rfl, trivial⟩
theorem W_J3_hashCode_4_8 {G : GT} {X : CX} {d : Nat} {h0 : AH} {Q : State → Prop} (ok : Ok G X RJ3 cJ3_hashCode_4 6 d h0) (hr : (cxm X).sig.returnType = (Option.some Jvm.ClassFile.FieldType.int)) (hd : 1 ≤ d) {x0 : Int32} {x1 : Option Nat} {x4 : Int32} {x5 : Int32} {h : AH} {z : (Int32 × AH)} (hf : J3_hashCode_4_8  x0 x1 x4 x5 h = some z) (hk : Q = QM G X h0 (some (vi z.1)) z.2) {lv : List (Nat × AV)} (hl : lle lv [(0, vi x0), (1, vr x1), (4, vi x4), (5, vi x5)]) : V G X 6 h0 Q h 8 lv [] := by
  unfold J3_hashCode_4_8 at hf
  exact loopC_walk (Wh := fun s : Int32 × Int32 × AH => ∀ lv : List (Nat × AV), lle lv [(0, vi s.1), (1, vr x1), (4, vi x4), (5, vi s.2.1)] → V G X 6 h0 Q s.2.2 8 lv []) (PK := fun z => Q = QM G X h0 (some (vi z.1)) z.2) (fun s o hf hk lv hl => W_J3_hashCode_4_8b ok hr hd hf (by cases o <;> exact hk) hl) _ z hf hk lv hl
theorem W_J3_hashCode_4 {G : GT} {X : CX} {d : Nat} {h0 : AH} {Q : State → Prop} (ok : Ok G X RJ3 cJ3_hashCode_4 6 d h0) (hr : (cxm X).sig.returnType = (Option.some Jvm.ClassFile.FieldType.int)) (hd : 1 ≤ d) {x0 : Int32} {x1 : Option Nat} {x2 : Int32} {x3 : Int32} {h : AH} {z : (Int32 × AH)} (hf : J3_hashCode_4 x0 x1 x2 x3 h = some z) (hk : Q = QM G X h0 (some (vi z.1)) z.2) {lv : List (Nat × AV)} (hl : lle lv [(0, vi x0), (1, vr x1), (2, vi x2), (3, vi x3)]) : V G X 6 h0 Q h 0 lv [] := by
  refine V.sub hl ?_
  unfold J3_hashCode_4 at hf
  refine v_iload_n ok 2 dJ3_hashCode_4_0 rfl rfl ?_
  refine v_iload_n ok 3 dJ3_hashCode_4_1 rfl rfl ?_
  refine v_iadd ok dJ3_hashCode_4_2 ?_
  refine v_istore ok dJ3_hashCode_4_3 (by decide) ?_
  refine v_iload_n ok 2 dJ3_hashCode_4_5 rfl rfl ?_
  refine v_istore ok dJ3_hashCode_4_6 (by decide) ?_
  exact W_J3_hashCode_4_8 ok hr hd hf hk ⟨rfl, rfl, rfl, rfl, trivial⟩
theorem M_J3_hashCode_4 {G : GT} {l : Launch} (hG : Glob G) {d : Nat} (hd : 1 ≤ d) {x0 : Int32} {x1 : Option Nat} {x2 : Int32} {x3 : Int32} {h : AH} {v : Int32} {h' : AH} (hf : J3_hashCode_4 x0 x1 x2 x3 h = some (v, h')) : MM G l yJ3_hashCode_4 cJ3_hashCode_4 6 (Option.some Jvm.ClassFile.FieldType.int) d [vi x0, vr x1, vi x2, vi x3] h (some (vi v)) h' := by
  refine mm_of hG (plainFor_of_name (by decide)) (Nat.le_of_ble_eq_true rfl) (fun X hX ok hr hnm => ?_)
  subst hX
  exact W_J3_hashCode_4 ok hr hd hf rfl ⟨rfl, rfl, rfl, rfl, trivial⟩
theorem cw_J4_min_2 : CW yJ4_min_2 cJ4_min_2 4 (Option.some Jvm.ClassFile.FieldType.long) 2 := ⟨q1430, q174, ⟨by decide, by decide⟩, by decide +kernel, by decide⟩
theorem W_J4_min_2 {G : GT} {X : CX} {d : Nat} {h0 : AH} {Q : State → Prop} (ok : Ok G X RJ4 cJ4_min_2 4 d h0) (hr : (cxm X).sig.returnType = (Option.some Jvm.ClassFile.FieldType.long)) (hd : 1 ≤ d) {x0 : Int64} {x2 : Int64} {h : AH} {z : (Int64 × AH)} (hf : J4_min_2 x0 x2 h = some z) (hk : Q = QM G X h0 (some (vl z.1)) z.2) {lv : List (Nat × AV)} (hl : lle lv [(0, vl x0), (2, vl x2)]) : V G X 4 h0 Q h 0 lv [] := by
  refine V.sub hl ?_
  unfold J4_min_2 at hf
  refine v_lload_n ok 0 dJ4_min_2_0 rfl rfl ?_
  refine v_lload_n ok 2 dJ4_min_2_1 rfl rfl ?_
  refine v_lcmp ok dJ4_min_2_2 ?_
  refine v_if_gt ok 10 dJ4_min_2_3 rfl hf (fun hf => ?_) (fun hf => ?_)
  ·
    refine v_lload_n ok 2 dJ4_min_2_10 rfl rfl ?_
    exact v_lret ok hr (by cases hf; exact hk) dJ4_min_2_11
  ·
    refine v_lload_n ok 0 dJ4_min_2_6 rfl rfl ?_
    refine v_goto ok 11 dJ4_min_2_7 rfl ?_
    exact v_lret ok hr (by cases hf; exact hk) dJ4_min_2_11
theorem M_J4_min_2 {G : GT} {l : Launch} (hG : Glob G) {d : Nat} (hd : 1 ≤ d) {x0 : Int64} {x2 : Int64} {h : AH} {v : Int64} {h' : AH} (hf : J4_min_2 x0 x2 h = some (v, h')) : MM G l yJ4_min_2 cJ4_min_2 4 (Option.some Jvm.ClassFile.FieldType.long) d [vl x0, vl x2] h (some (vl v)) h' := by
  refine mm_of hG (by decide +kernel) (Nat.le_of_ble_eq_true rfl) (fun X hX ok hr hnm => ?_)
  subst hX
  exact W_J4_min_2 ok hr hd hf rfl ⟨rfl, rfl, trivial⟩
theorem cw_J4_max_2 : CW yJ4_max_2 cJ4_max_2 4 (Option.some Jvm.ClassFile.FieldType.long) 2 := ⟨q1433, q174, ⟨by decide, by decide⟩, by decide +kernel, by decide⟩
theorem W_J4_max_2 {G : GT} {X : CX} {d : Nat} {h0 : AH} {Q : State → Prop} (ok : Ok G X RJ4 cJ4_max_2 4 d h0) (hr : (cxm X).sig.returnType = (Option.some Jvm.ClassFile.FieldType.long)) (hd : 1 ≤ d) {x0 : Int64} {x2 : Int64} {h : AH} {z : (Int64 × AH)} (hf : J4_max_2 x0 x2 h = some z) (hk : Q = QM G X h0 (some (vl z.1)) z.2) {lv : List (Nat × AV)} (hl : lle lv [(0, vl x0), (2, vl x2)]) : V G X 4 h0 Q h 0 lv [] := by
  refine V.sub hl ?_
  unfold J4_max_2 at hf
  refine v_lload_n ok 0 dJ4_max_2_0 rfl rfl ?_
  refine v_lload_n ok 2 dJ4_max_2_1 rfl rfl ?_
  refine v_lcmp ok dJ4_max_2_2 ?_
  refine v_if_lt ok 10 dJ4_max_2_3 rfl hf (fun hf => ?_) (fun hf => ?_)
  ·
    refine v_lload_n ok 2 dJ4_max_2_10 rfl rfl ?_
    exact v_lret ok hr (by cases hf; exact hk) dJ4_max_2_11
  ·
    refine v_lload_n ok 0 dJ4_max_2_6 rfl rfl ?_
    refine v_goto ok 11 dJ4_max_2_7 rfl ?_
    exact v_lret ok hr (by cases hf; exact hk) dJ4_max_2_11
theorem M_J4_max_2 {G : GT} {l : Launch} (hG : Glob G) {d : Nat} (hd : 1 ≤ d) {x0 : Int64} {x2 : Int64} {h : AH} {v : Int64} {h' : AH} (hf : J4_max_2 x0 x2 h = some (v, h')) : MM G l yJ4_max_2 cJ4_max_2 4 (Option.some Jvm.ClassFile.FieldType.long) d [vl x0, vl x2] h (some (vl v)) h' := by
  refine mm_of hG (by decide +kernel) (Nat.le_of_ble_eq_true rfl) (fun X hX ok hr hnm => ?_)
  subst hX
  exact W_J4_max_2 ok hr hd hf rfl ⟨rfl, rfl, trivial⟩
theorem cw_J4_floorDiv : CW yJ4_floorDiv cJ4_floorDiv 6 (Option.some Jvm.ClassFile.FieldType.long) 2 := ⟨q1526, q174, ⟨by decide, by decide⟩, by decide +kernel, by decide⟩
theorem W_J4_floorDiv {G : GT} {X : CX} {d : Nat} {h0 : AH} {Q : State → Prop} (ok : Ok G X RJ4 cJ4_floorDiv 6 d h0) (hr : (cxm X).sig.returnType = (Option.some Jvm.ClassFile.FieldType.long)) (hd : 1 ≤ d) {x0 : Int64} {x2 : Int64} {h : AH} {z : (Int64 × AH)} (hf : J4_floorDiv x0 x2 h = some z) (hk : Q = QM G X h0 (some (vl z.1)) z.2) {lv : List (Nat × AV)} (hl : lle lv [(0, vl x0), (2, vl x2)]) : V G X 6 h0 Q h 0 lv [] := by
  refine V.sub hl ?_
  unfold J4_floorDiv at hf
  refine v_lload_n ok 0 dJ4_floorDiv_0 rfl rfl ?_
  refine v_lload_n ok 2 dJ4_floorDiv_1 rfl rfl ?_
  refine v_ldiv ok dJ4_floorDiv_2 hf (fun hf => ?_)
  refine v_lstore ok dJ4_floorDiv_3 (by decide) ?_
  refine v_lload_n ok 0 dJ4_floorDiv_5 rfl rfl ?_
  refine v_lload_n ok 2 dJ4_floorDiv_6 rfl rfl ?_
  refine v_lxor ok dJ4_floorDiv_7 ?_
  refine v_lconst ok 0 dJ4_floorDiv_8 rfl ?_
  refine v_lcmp ok dJ4_floorDiv_9 ?_
  refine v_if_ge ok 27 dJ4_floorDiv_10 rfl hf (fun hf => ?_) (fun hf => ?_)
  ·
    refine v_lload ok dJ4_floorDiv_27 rfl ?_
    exact v_lret ok hr (by cases hf; exact hk) dJ4_floorDiv_29
  ·
    refine v_lload ok dJ4_floorDiv_13 rfl ?_
    refine v_lload_n ok 2 dJ4_floorDiv_15 rfl rfl ?_
    refine v_lmul ok dJ4_floorDiv_16 ?_
    refine v_lload_n ok 0 dJ4_floorDiv_17 rfl rfl ?_
    refine v_lcmp ok dJ4_floorDiv_18 ?_
    refine v_if_eq ok 27 dJ4_floorDiv_19 rfl hf (fun hf => ?_) (fun hf => ?_)
    ·
      refine v_lload ok dJ4_floorDiv_27 rfl ?_
      exact v_lret ok hr (by cases hf; exact hk) dJ4_floorDiv_29
    ·
      refine v_lload ok dJ4_floorDiv_22 rfl ?_
      refine v_lconst ok 1 dJ4_floorDiv_24 rfl ?_
      refine v_lsub ok dJ4_floorDiv_25 ?_
      exact v_lret ok hr (by cases hf; exact hk) dJ4_floorDiv_26
theorem M_J4_floorDiv {G : GT} {l : Launch} (hG : Glob G) {d : Nat} (hd : 1 ≤ d) {x0 : Int64} {x2 : Int64} {h : AH} {v : Int64} {h' : AH} (hf : J4_floorDiv x0 x2 h = some (v, h')) : MM G l yJ4_floorDiv cJ4_floorDiv 6 (Option.some Jvm.ClassFile.FieldType.long) d [vl x0, vl x2] h (some (vl v)) h' := by
  refine mm_of hG (by decide +kernel) (Nat.le_of_ble_eq_true rfl) (fun X hX ok hr hnm => ?_)
  subst hX
  exact W_J4_floorDiv ok hr hd hf rfl ⟨rfl, rfl, trivial⟩
theorem cw_J6_init : CW yJ6_init cJ6_init 1 none 0 := ⟨q404, q178, ⟨by decide, by decide⟩, by decide +kernel, by decide⟩
theorem W_J6_init {G : GT} {X : CX} {d : Nat} {h0 : AH} {Q : State → Prop} (ok : Ok G X RJ6 cJ6_init 1 d h0) (hr : (cxm X).sig.returnType = none) (hd : 1 ≤ d) (hnm : (cxm X).name = "<init>") {a0 : Nat} {h : AH} {z : (AH)} (hf : J6_init a0 h = some z) (hk : Q = QM G X h0 none z) {lv : List (Nat × AV)} (hl : lle lv [(0, vr (some a0))]) : V G X 1 h0 Q h 0 lv [] := by
  refine V.sub hl ?_
  unfold J6_init at hf
  refine v_aload_n ok 0 dJ6_init_0 rfl rfl ?_
  refine v_objInit ok q405 q215 q216 (by omega) (Nat.le_of_ble_eq_true rfl) dJ6_init_1 hf (fun _ hf => ?_)
  refine v_aload_n ok 0 dJ6_init_4 rfl rfl ?_
  refine v_aload_n ok 0 dJ6_init_5 rfl rfl ?_
  refine v_pR ok fl_J6_7 (by first | exact Or.inl ⟨_, rfl⟩ | exact Or.inr ⟨_, rfl⟩) (FN.of cf_3.1 rfl) dJ6_init_6 hf (fun h2 hf => ?_)
  refine v_aload_n ok 0 dJ6_init_9 rfl rfl ?_
  refine v_gets ok (v := vr (hR h2 120 10)) (List.mem_of_getElem? (i := 10) rfl) q406 rfl dJ6_init_10 ?_
  refine v_pR ok fl_J6_17 (by first | exact Or.inl ⟨_, rfl⟩ | exact Or.inr ⟨_, rfl⟩) (FN.of cf_3.1 rfl) dJ6_init_13 hf (fun h3 hf => ?_)
  refine v_aload_n ok 0 dJ6_init_16 rfl rfl ?_
  refine v_gets ok (v := vr (hR h3 120 11)) (List.mem_of_getElem? (i := 11) rfl) q408 rfl dJ6_init_17 ?_
  refine v_pR ok fl_J6_24 (by first | exact Or.inl ⟨_, rfl⟩ | exact Or.inr ⟨_, rfl⟩) (FN.of cf_3.1 rfl) dJ6_init_20 hf (fun h4 hf => ?_)
  refine v_aload_n ok 0 dJ6_init_23 rfl rfl ?_
  cases hf
theorem M_J6_init {G : GT} {l : Launch} (hG : Glob G) {d : Nat} (hd : 1 ≤ d) {a0 : Nat} {h : AH} {h' : AH} (hf : J6_init a0 h = some h') : MM G l yJ6_init cJ6_init 1 none d [vr (some a0)] h none h' := by
  refine mm_of hG (plainFor_of_name (by decide)) (Nat.le_of_ble_eq_true rfl) (fun X hX ok hr hnm => ?_)
  subst hX
  exact W_J6_init ok hr hd hnm hf rfl ⟨rfl, trivial⟩
theorem cw_J6_init_2 : CW yJ6_init_2 cJ6_init_2 5 none 4 := ⟨q430, q178, ⟨by decide, by decide⟩, by decide +kernel, by decide⟩
theorem W_J6_init_2 {G : GT} {X : CX} {d : Nat} {h0 : AH} {Q : State → Prop} (ok : Ok G X RJ6 cJ6_init_2 5 d h0) (hr : (cxm X).sig.returnType = none) (hd : 1 ≤ d) (hnm : (cxm X).name = "<init>") {a0 : Nat} {x1 : Option Nat} {x2 : Option Nat} {x3 : Int32} {x4 : Int32} {h : AH} {z : (AH)} (hf : J6_init_2 a0 x1 x2 x3 x4 h = some z) (hk : Q = QM G X h0 none z) {lv : List (Nat × AV)} (hl : lle lv [(0, vr (some a0)), (1, vr x1), (2, vr x2), (3, vi x3), (4, vi x4)]) : V G X 5 h0 Q h 0 lv [] := by
  refine V.sub hl ?_
  unfold J6_init_2 at hf
  refine v_aload_n ok 0 dJ6_init_2_0 rfl rfl ?_
  refine v_objInit ok q405 q215 q216 (by omega) (Nat.le_of_ble_eq_true rfl) dJ6_init_2_1 hf (fun _ hf => ?_)
  refine v_aload_n ok 0 dJ6_init_2_4 rfl rfl ?_
  refine v_aload_n ok 0 dJ6_init_2_5 rfl rfl ?_
  refine v_pR ok fl_J6_7 (by first | exact Or.inl ⟨_, rfl⟩ | exact Or.inr ⟨_, rfl⟩) (FN.of cf_3.1 rfl) dJ6_init_2_6 hf (fun h2 hf => ?_)
  refine v_aload_n ok 0 dJ6_init_2_9 rfl rfl ?_
  refine v_gets ok (v := vr (hR h2 120 10)) (List.mem_of_getElem? (i := 10) rfl) q406 rfl dJ6_init_2_10 ?_
  refine v_pR ok fl_J6_17 (by first | exact Or.inl ⟨_, rfl⟩ | exact Or.inr ⟨_, rfl⟩) (FN.of cf_3.1 rfl) dJ6_init_2_13 hf (fun h3 hf => ?_)
  refine v_aload_n ok 0 dJ6_init_2_16 rfl rfl ?_
  refine v_gets ok (v := vr (hR h3 120 11)) (List.mem_of_getElem? (i := 11) rfl) q408 rfl dJ6_init_2_17 ?_
  refine v_pR ok fl_J6_24 (by first | exact Or.inl ⟨_, rfl⟩ | exact Or.inr ⟨_, rfl⟩) (FN.of cf_3.1 rfl) dJ6_init_2_20 hf (fun h4 hf => ?_)
  refine v_iload ok dJ6_init_2_23 rfl ?_
  refine v_if_eq ok 36 dJ6_init_2_25 rfl hf (fun hf => ?_) (fun hf => ?_)
  ·
    refine v_aload_n ok 0 dJ6_init_2_36 rfl rfl ?_
    refine v_null ok dJ6_init_2_37 ?_
    refine v_pR ok fl_J6_17 (by first | exact Or.inl ⟨_, rfl⟩ | exact Or.inr ⟨_, rfl⟩) (FN.of cf_3.1 rfl) dJ6_init_2_38 hf (fun h5 hf => ?_)
    refine v_aload_n ok 0 dJ6_init_2_41 rfl rfl ?_
    refine v_aload_n ok 1 dJ6_init_2_42 rfl rfl ?_
    refine v_pR ok fl_J6_31 (by first | exact Or.inl ⟨_, rfl⟩ | exact Or.inr ⟨_, rfl⟩) (FN.of cf_3.1 rfl) dJ6_init_2_43 hf (fun h6 hf => ?_)
    refine v_aload_n ok 0 dJ6_init_2_46 rfl rfl ?_
    refine v_aload_n ok 2 dJ6_init_2_47 rfl rfl ?_
    refine v_pR ok fl_J6_7 (by first | exact Or.inl ⟨_, rfl⟩ | exact Or.inr ⟨_, rfl⟩) (FN.of cf_3.1 rfl) dJ6_init_2_48 hf (fun h7 hf => ?_)
    refine v_iload_n ok 3 dJ6_init_2_51 rfl rfl ?_
    refine v_if_ne ok 60 dJ6_init_2_52 rfl hf (fun hf => ?_) (fun hf => ?_)
    ·
      exact v_vret ok hr (by cases hf; exact hk) dJ6_init_2_60
    ·
      refine v_aload_n ok 0 dJ6_init_2_55 rfl rfl ?_
      refine v_null ok dJ6_init_2_56 ?_
      refine v_pR ok fl_J6_24 (by first | exact Or.inl ⟨_, rfl⟩ | exact Or.inr ⟨_, rfl⟩) (FN.of cf_3.1 rfl) dJ6_init_2_57 hf (fun h8 hf => ?_)
      exact v_vret ok hr (by cases hf; exact hk) dJ6_init_2_60
  ·
    refine v_aload_n ok 0 dJ6_init_2_28 rfl rfl ?_
    cases hf
theorem M_J6_init_2 {G : GT} {l : Launch} (hG : Glob G) {d : Nat} (hd : 1 ≤ d) {a0 : Nat} {x1 : Option Nat} {x2 : Option Nat} {x3 : Int32} {x4 : Int32} {h : AH} {h' : AH} (hf : J6_init_2 a0 x1 x2 x3 x4 h = some h') : MM G l yJ6_init_2 cJ6_init_2 5 none d [vr (some a0), vr x1, vr x2, vi x3, vi x4] h none h' := by
  refine mm_of hG (plainFor_of_name (by decide)) (Nat.le_of_ble_eq_true rfl) (fun X hX ok hr hnm => ?_)
  subst hX
  exact W_J6_init_2 ok hr hd hnm hf rfl ⟨rfl, rfl, rfl, rfl, rfl, trivial⟩
theorem cw_J7_init : CW yJ7_init cJ7_init 5 none 4 := ⟨q427, q179, ⟨by decide, by decide⟩, by decide +kernel, by decide⟩
theorem W_J7_init {G : GT} {X : CX} {d : Nat} {h0 : AH} {Q : State → Prop} (ok : Ok G X RJ7 cJ7_init 5 d h0) (hr : (cxm X).sig.returnType = none) (hd : 2 ≤ d) (hnm : (cxm X).name = "<init>") {a0 : Nat} {x1 : Option Nat} {x2 : Option Nat} {x3 : Int32} {x4 : Int32} {h : AH} {z : (AH)} (hf : J7_init a0 x1 x2 x3 x4 h = some z) (hk : Q = QM G X h0 none z) {lv : List (Nat × AV)} (hl : lle lv [(0, vr (some a0)), (1, vr x1), (2, vr x2), (3, vi x3), (4, vi x4)]) : V G X 5 h0 Q h 0 lv [] := by
  refine V.sub hl ?_
  unfold J7_init at hf
  refine v_aload_n ok 0 dJ7_init_0 rfl rfl ?_
  refine v_aload_n ok 1 dJ7_init_1 rfl rfl ?_
  refine v_aload_n ok 2 dJ7_init_2 rfl rfl ?_
  refine v_iload_n ok 3 dJ7_init_3 rfl rfl ?_
  refine v_iload ok dJ7_init_4 rfl ?_
  refine v_cIv ok [vr x1, vr x2, vi x3, vi x4] rfl (F := fun a => J6_init_2 a x1 x2 x3 x4 h) (fun a h1 _ hv => M_J6_init_2 ok.2.2.2.2.2.2.1 (d := 1) (Nat.le_refl _) hv) (by exact Nat.le_trans (by decide) hd) cw_J6_init_2 q428 q429 dJ7_init_6 [] rfl (Nat.le_of_ble_eq_true rfl) hf (fun h1 hf => ?_)
  exact v_vret ok hr (by cases hf; exact hk) dJ7_init_9
theorem M_J7_init {G : GT} {l : Launch} (hG : Glob G) {d : Nat} (hd : 2 ≤ d) {a0 : Nat} {x1 : Option Nat} {x2 : Option Nat} {x3 : Int32} {x4 : Int32} {h : AH} {h' : AH} (hf : J7_init a0 x1 x2 x3 x4 h = some h') : MM G l yJ7_init cJ7_init 5 none d [vr (some a0), vr x1, vr x2, vi x3, vi x4] h none h' := by
  refine mm_of hG (plainFor_of_name (by decide)) (Nat.le_of_ble_eq_true rfl) (fun X hX ok hr hnm => ?_)
  subst hX
  exact W_J7_init ok hr hd hnm hf rfl ⟨rfl, rfl, rfl, rfl, rfl, trivial⟩
theorem cw_J8_init : CW yJ8_init cJ8_init 5 none 4 := ⟨q424, q180, ⟨by decide, by decide⟩, by decide +kernel, by decide⟩
theorem W_J8_init {G : GT} {X : CX} {d : Nat} {h0 : AH} {Q : State → Prop} (ok : Ok G X RJ8 cJ8_init 5 d h0) (hr : (cxm X).sig.returnType = none) (hd : 3 ≤ d) (hnm : (cxm X).name = "<init>") {a0 : Nat} {x1 : Option Nat} {x2 : Option Nat} {x3 : Int32} {x4 : Int32} {h : AH} {z : (AH)} (hf : J8_init a0 x1 x2 x3 x4 h = some z) (hk : Q = QM G X h0 none z) {lv : List (Nat × AV)} (hl : lle lv [(0, vr (some a0)), (1, vr x1), (2, vr x2), (3, vi x3), (4, vi x4)]) : V G X 5 h0 Q h 0 lv [] := by
  refine V.sub hl ?_
  unfold J8_init at hf
  refine v_aload_n ok 0 dJ8_init_0 rfl rfl ?_
  refine v_aload_n ok 1 dJ8_init_1 rfl rfl ?_
  refine v_aload_n ok 2 dJ8_init_2 rfl rfl ?_
  refine v_iload_n ok 3 dJ8_init_3 rfl rfl ?_
  refine v_iload ok dJ8_init_4 rfl ?_
  refine v_cIv ok [vr x1, vr x2, vi x3, vi x4] rfl (F := fun a => J7_init a x1 x2 x3 x4 h) (fun a h1 _ hv => M_J7_init ok.2.2.2.2.2.2.1 (d := 2) (Nat.le_refl _) hv) (by exact Nat.le_trans (by decide) hd) cw_J7_init q425 q426 dJ8_init_6 [] rfl (Nat.le_of_ble_eq_true rfl) hf (fun h1 hf => ?_)
  exact v_vret ok hr (by cases hf; exact hk) dJ8_init_9
theorem M_J8_init {G : GT} {l : Launch} (hG : Glob G) {d : Nat} (hd : 3 ≤ d) {a0 : Nat} {x1 : Option Nat} {x2 : Option Nat} {x3 : Int32} {x4 : Int32} {h : AH} {h' : AH} (hf : J8_init a0 x1 x2 x3 x4 h = some h') : MM G l yJ8_init cJ8_init 5 none d [vr (some a0), vr x1, vr x2, vi x3, vi x4] h none h' := by
  refine mm_of hG (plainFor_of_name (by decide)) (Nat.le_of_ble_eq_true rfl) (fun X hX ok hr hnm => ?_)
  subst hX
  exact W_J8_init ok hr hd hnm hf rfl ⟨rfl, rfl, rfl, rfl, rfl, trivial⟩
theorem cw_J9_init_2 : CW yJ9_init_2 cJ9_init_2 6 none 4 := ⟨q712, q186, ⟨by decide, by decide⟩, by decide +kernel, by decide⟩
theorem W_J9_init_2 {G : GT} {X : CX} {d : Nat} {h0 : AH} {Q : State → Prop} (ok : Ok G X RJ9 cJ9_init_2 6 d h0) (hr : (cxm X).sig.returnType = none) (hd : 6 ≤ d) (hnm : (cxm X).name = "<init>") {a0 : Nat} {x1 : Option Nat} {x2 : Int32} {x3 : Int32} {x4 : Option Nat} {h : AH} {z : (AH)} (hf : J9_init_2 a0 x1 x2 x3 x4 h = some z) (hk : Q = QM G X h0 none z) {lv : List (Nat × AV)} (hl : lle lv [(0, vr (some a0)), (1, vr x1), (2, vi x2), (3, vi x3), (4, vr x4)]) : V G X 6 h0 Q h 0 lv [] := by
  refine V.sub hl ?_
  unfold J9_init_2 at hf
  refine v_aload_n ok 0 dJ9_init_2_0 rfl rfl ?_
  refine v_objInit ok q713 q215 q216 (by omega) (Nat.le_of_ble_eq_true rfl) dJ9_init_2_1 hf (fun _ hf => ?_)
  refine v_iload_n ok 3 dJ9_init_2_4 rfl rfl ?_
  refine v_if_ne ok 27 dJ9_init_2_5 rfl hf (fun hf => ?_) (fun hf => ?_)
  ·
    refine v_gets ok (v := vi (hI h 120 0)) (List.mem_of_getElem? (i := 0) rfl) q715 rfl dJ9_init_2_27 ?_
    refine v_if_eq ok 58 dJ9_init_2_30 rfl hf (fun hf => ?_) (fun hf => ?_)
    ·
      refine v_aload_n ok 0 dJ9_init_2_58 rfl rfl ?_
      refine v_iconst ok 1 dJ9_init_2_59 rfl ?_
      refine v_pZ ok fl_J9_15 ⟨fun _ _ _ => rfl, by first | exact Or.inl rfl | exact Or.inr rfl⟩ (FN.ini cf_24.1 rfl hnm rfl) dJ9_init_2_60 hf (fun h2 hf => ?_)
      refine v_aload_n ok 0 dJ9_init_2_63 rfl rfl ?_
      refine v_aload_n ok 1 dJ9_init_2_64 rfl rfl ?_
      refine v_iload_n ok 2 dJ9_init_2_65 rfl rfl ?_
      refine v_iload_n ok 3 dJ9_init_2_66 rfl rfl ?_
      refine v_cSr ok [vr x1, vi x2, vi x3] (F := J10_toBytes x1 x2 x3 h2) (fun v h1 hv => M_J10_toBytes ok.2.2.2.2.2.2.1 (d := 3) (Nat.le_refl _) hv) (by exact Nat.le_trans (by decide) hd) cw_J10_toBytes q765 q724 dJ9_init_2_67 [vr (some a0)] rfl (Nat.le_of_ble_eq_true rfl) hf (fun v3 h4 hf => ?_)
      refine v_pR ok fl_J9_9 (by first | exact Or.inl ⟨_, rfl⟩ | exact Or.inr ⟨_, rfl⟩) (FN.ini cf_24.1 rfl hnm rfl) dJ9_init_2_70 hf (fun h5 hf => ?_)
      exact v_vret ok hr (by cases hf; exact hk) dJ9_init_2_73
    ·
      refine v_aload_n ok 1 dJ9_init_2_33 rfl rfl ?_
      refine v_iload_n ok 2 dJ9_init_2_34 rfl rfl ?_
      refine v_iload_n ok 3 dJ9_init_2_35 rfl rfl ?_
      refine v_cSr ok [vr x1, vi x2, vi x3] (F := J10_compress x1 x2 x3 h) (fun v h1 hv => M_J10_compress ok.2.2.2.2.2.2.1 (d := 5) (Nat.le_refl _) hv) (by exact Nat.le_trans (by decide) hd) cw_J10_compress q717 q718 dJ9_init_2_36 [] rfl (Nat.le_of_ble_eq_true rfl) hf (fun v6 h7 hf => ?_)
      refine v_astore ok dJ9_init_2_39 (by decide) ?_
      refine v_aload_n ok 0 dJ9_init_2_41 rfl rfl ?_
      refine v_aload ok dJ9_init_2_42 rfl ?_
      refine v_iload_n ok 3 dJ9_init_2_44 rfl rfl ?_
      refine v_cSi ok [vr v6, vi x3] (F := J10_coderFromArrayLen v6 x3 h7) (fun v h1 hv => M_J10_coderFromArrayLen ok.2.2.2.2.2.2.1 (d := 1) (Nat.le_refl _) hv) (by exact Nat.le_trans (by decide) hd) cw_J10_coderFromArrayLen q762 q763 dJ9_init_2_45 [vr (some a0)] rfl (Nat.le_of_ble_eq_true rfl) hf (fun v8 h9 hf => ?_)
      refine v_pZ ok fl_J9_15 ⟨fun _ _ _ => rfl, by first | exact Or.inl rfl | exact Or.inr rfl⟩ (FN.ini cf_24.1 rfl hnm rfl) dJ9_init_2_48 hf (fun h10 hf => ?_)
      refine v_aload_n ok 0 dJ9_init_2_51 rfl rfl ?_
      refine v_aload ok dJ9_init_2_52 rfl ?_
      refine v_pR ok fl_J9_9 (by first | exact Or.inl ⟨_, rfl⟩ | exact Or.inr ⟨_, rfl⟩) (FN.ini cf_24.1 rfl hnm rfl) dJ9_init_2_54 hf (fun h11 hf => ?_)
      exact v_vret ok hr (by cases hf; exact hk) dJ9_init_2_57
  ·
    refine v_aload_n ok 0 dJ9_init_2_8 rfl rfl ?_
    refine v_ldcS ok (a0 := 0) (tx := "") (List.mem_of_getElem? (i := 50) rfl) (by decide) dJ9_init_2_9 ?_
    refine v_gR ok fl_J9_9 (by first | exact Or.inl ⟨_, rfl⟩ | exact Or.inr ⟨_, rfl⟩) dJ9_init_2_11 hf (fun v12 hf => ?_)
    refine v_pR ok fl_J9_9 (by first | exact Or.inl ⟨_, rfl⟩ | exact Or.inr ⟨_, rfl⟩) (FN.ini cf_24.1 rfl hnm rfl) dJ9_init_2_14 hf (fun h13 hf => ?_)
    refine v_aload_n ok 0 dJ9_init_2_17 rfl rfl ?_
    refine v_ldcS ok (a0 := 0) (tx := "") (List.mem_of_getElem? (i := 50) rfl) (by decide) dJ9_init_2_18 ?_
    refine v_gI ok fl_J9_15 (fun _ _ _ => rfl) dJ9_init_2_20 hf (fun v14 hf => ?_)
    refine v_pZ ok fl_J9_15 ⟨fun _ _ _ => rfl, by first | exact Or.inl rfl | exact Or.inr rfl⟩ (FN.ini cf_24.1 rfl hnm rfl) dJ9_init_2_23 hf (fun h15 hf => ?_)
    exact v_vret ok hr (by cases hf; exact hk) dJ9_init_2_26
theorem M_J9_init_2 {G : GT} {l : Launch} (hG : Glob G) {d : Nat} (hd : 6 ≤ d) {a0 : Nat} {x1 : Option Nat} {x2 : Int32} {x3 : Int32} {x4 : Option Nat} {h : AH} {h' : AH} (hf : J9_init_2 a0 x1 x2 x3 x4 h = some h') : MM G l yJ9_init_2 cJ9_init_2 6 none d [vr (some a0), vr x1, vi x2, vi x3, vr x4] h none h' := by
  refine mm_of hG (plainFor_of_name (by decide)) (Nat.le_of_ble_eq_true rfl) (fun X hX ok hr hnm => ?_)
  subst hX
  exact W_J9_init_2 ok hr hd hnm hf rfl ⟨rfl, rfl, rfl, rfl, rfl, trivial⟩
theorem cw_J9_init : CW yJ9_init cJ9_init 2 none 1 := ⟨q709, q186, ⟨by decide, by decide⟩, by decide +kernel, by decide⟩
theorem W_J9_init {G : GT} {X : CX} {d : Nat} {h0 : AH} {Q : State → Prop} (ok : Ok G X RJ9 cJ9_init 2 d h0) (hr : (cxm X).sig.returnType = none) (hd : 7 ≤ d) (hnm : (cxm X).name = "<init>") {a0 : Nat} {x1 : Option Nat} {h : AH} {z : (AH)} (hf : J9_init a0 x1 h = some z) (hk : Q = QM G X h0 none z) {lv : List (Nat × AV)} (hl : lle lv [(0, vr (some a0)), (1, vr x1)]) : V G X 2 h0 Q h 0 lv [] := by
  refine V.sub hl ?_
  unfold J9_init at hf
  refine v_aload_n ok 0 dJ9_init_0 rfl rfl ?_
  refine v_aload_n ok 1 dJ9_init_1 rfl rfl ?_
  refine v_iconst ok 0 dJ9_init_2 rfl ?_
  refine v_aload_n ok 1 dJ9_init_3 rfl rfl ?_
  refine v_alen ok dJ9_init_4 hf (fun v1 hf => ?_)
  refine v_null ok dJ9_init_5 ?_
  refine v_cIv ok [vr x1, vi 0, vi v1, vr none] rfl (F := fun a => J9_init_2 a x1 0 v1 none h) (fun a h1 _ hv => M_J9_init_2 ok.2.2.2.2.2.2.1 (d := 6) (Nat.le_refl _) hv) (by exact Nat.le_trans (by decide) hd) cw_J9_init_2 q710 q711 dJ9_init_6 [] rfl (Nat.le_of_ble_eq_true rfl) hf (fun h2 hf => ?_)
  exact v_vret ok hr (by cases hf; exact hk) dJ9_init_9
theorem M_J9_init {G : GT} {l : Launch} (hG : Glob G) {d : Nat} (hd : 7 ≤ d) {a0 : Nat} {x1 : Option Nat} {h : AH} {h' : AH} (hf : J9_init a0 x1 h = some h') : MM G l yJ9_init cJ9_init 2 none d [vr (some a0), vr x1] h none h' := by
  refine mm_of hG (plainFor_of_name (by decide)) (Nat.le_of_ble_eq_true rfl) (fun X hX ok hr hnm => ?_)
  subst hX
  exact W_J9_init ok hr hd hnm hf rfl ⟨rfl, rfl, trivial⟩
theorem cw_J9_valueOf : CW yJ9_valueOf cJ9_valueOf 1 (Option.some (Jvm.ClassFile.FieldType.object "java/lang/String")) 1 := ⟨q704, q186, ⟨by decide, by decide⟩, by decide +kernel, by decide⟩
theorem W_J9_valueOf {G : GT} {X : CX} {d : Nat} {h0 : AH} {Q : State → Prop} (ok : Ok G X RJ9 cJ9_valueOf 1 d h0) (hr : (cxm X).sig.returnType = (Option.some (Jvm.ClassFile.FieldType.object "java/lang/String"))) (hd : 8 ≤ d) {x0 : Option Nat} {h : AH} {z : (Option Nat × AH)} (hf : J9_valueOf x0 h = some z) (hk : Q = QM G X h0 (some (vr z.1)) z.2) {lv : List (Nat × AV)} (hl : lle lv [(0, vr x0)]) : V G X 1 h0 Q h 0 lv [] := by
  refine V.sub hl ?_
  unfold J9_valueOf at hf
  refine v_new ok cf_24 rfl q705 q706 q186 df_24 dJ9_valueOf_0 hf (fun v1 h2 hf => ?_)
  refine v_dup ok dJ9_valueOf_3 rfl ?_
  refine v_aload_n ok 0 dJ9_valueOf_4 rfl rfl ?_
  refine v_cIv ok [vr x0] rfl (F := fun a => J9_init a x0 h2) (fun a h1 _ hv => M_J9_init ok.2.2.2.2.2.2.1 (d := 7) (Nat.le_refl _) hv) (by exact Nat.le_trans (by decide) hd) cw_J9_init q707 q708 dJ9_valueOf_5 [vr v1] rfl (Nat.le_of_ble_eq_true rfl) hf (fun h3 hf => ?_)
  exact v_aret ok hr (by first | exact Or.inl ⟨_, rfl⟩ | exact Or.inr ⟨_, rfl⟩) (by cases hf; exact hk) dJ9_valueOf_8
theorem M_J9_valueOf {G : GT} {l : Launch} (hG : Glob G) {d : Nat} (hd : 8 ≤ d) {x0 : Option Nat} {h : AH} {v : Option Nat} {h' : AH} (hf : J9_valueOf x0 h = some (v, h')) : MM G l yJ9_valueOf cJ9_valueOf 1 (Option.some (Jvm.ClassFile.FieldType.object "java/lang/String")) d [vr x0] h (some (vr v)) h' := by
  refine mm_of hG (plainFor_of_name (by decide)) (Nat.le_of_ble_eq_true rfl) (fun X hX ok hr hnm => ?_)
  subst hX
  exact W_J9_valueOf ok hr hd hf rfl ⟨rfl, trivial⟩
theorem cw_J9_isLatin1 : CW yJ9_isLatin1 cJ9_isLatin1 1 (Option.some Jvm.ClassFile.FieldType.boolean) 0 := ⟨q791, q186, ⟨by decide, by decide⟩, by decide +kernel, by decide⟩
theorem W_J9_isLatin1 {G : GT} {X : CX} {d : Nat} {h0 : AH} {Q : State → Prop} (ok : Ok G X RJ9 cJ9_isLatin1 1 d h0) (hr : (cxm X).sig.returnType = (Option.some Jvm.ClassFile.FieldType.boolean)) (hd : 1 ≤ d) {a0 : Nat} {h : AH} {z : (Int32 × AH)} (hf : J9_isLatin1 a0 h = some z) (hk : Q = QM G X h0 (some (vi z.1)) z.2) {lv : List (Nat × AV)} (hl : lle lv [(0, vr (some a0))]) : V G X 1 h0 Q h 0 lv [] := by
  refine V.sub hl ?_
  unfold J9_isLatin1 at hf
  refine v_gets ok (v := vi (hI h 120 0)) (List.mem_of_getElem? (i := 0) rfl) q715 rfl dJ9_isLatin1_0 ?_
  refine v_if_eq ok 17 dJ9_isLatin1_3 rfl hf (fun hf => ?_) (fun hf => ?_)
  ·
    refine v_iconst ok 0 dJ9_isLatin1_17 rfl ?_
    exact v_zretL ok hr (by decide) (by decide) (by cases hf; exact hk) dJ9_isLatin1_18
  ·
    refine v_aload_n ok 0 dJ9_isLatin1_6 rfl rfl ?_
    refine v_gI ok fl_J9_15 (fun _ _ _ => rfl) dJ9_isLatin1_7 hf (fun v1 hf => ?_)
    refine v_if_ne ok 17 dJ9_isLatin1_10 rfl hf (fun hf => ?_) (fun hf => ?_)
    ·
      refine v_iconst ok 0 dJ9_isLatin1_17 rfl ?_
      exact v_zretL ok hr (by decide) (by decide) (by cases hf; exact hk) dJ9_isLatin1_18
    ·
      refine v_iconst ok 1 dJ9_isLatin1_13 rfl ?_
      refine v_goto ok 18 dJ9_isLatin1_14 rfl ?_
      exact v_zretL ok hr (by decide) (by decide) (by cases hf; exact hk) dJ9_isLatin1_18
theorem M_J9_isLatin1 {G : GT} {l : Launch} (hG : Glob G) {d : Nat} (hd : 1 ≤ d) {a0 : Nat} {h : AH} {v : Int32} {h' : AH} (hf : J9_isLatin1 a0 h = some (v, h')) : MM G l yJ9_isLatin1 cJ9_isLatin1 1 (Option.some Jvm.ClassFile.FieldType.boolean) d [vr (some a0)] h (some (vi v)) h' := by
  refine mm_of hG (plainFor_of_name (by decide)) (Nat.le_of_ble_eq_true rfl) (fun X hX ok hr hnm => ?_)
  subst hX
  exact W_J9_isLatin1 ok hr hd hf rfl ⟨rfl, trivial⟩
theorem cw_J9_hashCode : CW yJ9_hashCode cJ9_hashCode 2 (Option.some Jvm.ClassFile.FieldType.int) 0 := ⟨q787, q186, ⟨by decide, by decide⟩, by decide +kernel, by decide⟩
theorem W_J9_hashCode_40 {G : GT} {X : CX} {d : Nat} {h0 : AH} {Q : State → Prop} (ok : Ok G X RJ9 cJ9_hashCode 2 d h0) (hr : (cxm X).sig.returnType = (Option.some Jvm.ClassFile.FieldType.int)) (hd : 4 ≤ d) {a0 : Nat} {s0 : Int32} {h : AH} {z : (Int32 × AH)} (hf : J9_hashCode_40 a0 s0 h = some z) (hk : Q = QM G X h0 (some (vi z.1)) z.2) {lv : List (Nat × AV)} (hl : lle lv [(0, vr (some a0))]) : V G X 2 h0 Q h 40 lv [vi s0] := by
  refine V.sub hl ?_
  unfold J9_hashCode_40 at hf
  refine v_istore_n ok 1 dJ9_hashCode_40 rfl (by decide) ?_
  refine v_iload_n ok 1 dJ9_hashCode_41 rfl rfl ?_
  refine v_if_ne ok 53 dJ9_hashCode_42 rfl hf (fun hf => ?_) (fun hf => ?_)
  ·
    refine v_aload_n ok 0 dJ9_hashCode_53 rfl rfl ?_
    refine v_iload_n ok 1 dJ9_hashCode_54 rfl rfl ?_
    refine v_pI ok fl_J9_19 ⟨fun _ _ _ => rfl, rfl⟩ (FN.of cf_24.1 rfl) dJ9_hashCode_55 hf (fun h1 hf => ?_)
    refine v_iload_n ok 1 dJ9_hashCode_58 rfl rfl ?_
    exact v_iret ok hr (by cases hf; exact hk) dJ9_hashCode_59
  ·
    refine v_aload_n ok 0 dJ9_hashCode_45 rfl rfl ?_
    refine v_iconst ok 1 dJ9_hashCode_46 rfl ?_
    refine v_pZ ok fl_J9_23 ⟨fun _ _ _ => rfl, by first | exact Or.inl rfl | exact Or.inr rfl⟩ (FN.of cf_24.1 rfl) dJ9_hashCode_47 hf (fun h2 hf => ?_)
    refine v_goto ok 58 dJ9_hashCode_50 rfl ?_
    refine v_iload_n ok 1 dJ9_hashCode_58 rfl rfl ?_
    exact v_iret ok hr (by cases hf; exact hk) dJ9_hashCode_59
theorem W_J9_hashCode {G : GT} {X : CX} {d : Nat} {h0 : AH} {Q : State → Prop} (ok : Ok G X RJ9 cJ9_hashCode 2 d h0) (hr : (cxm X).sig.returnType = (Option.some Jvm.ClassFile.FieldType.int)) (hd : 4 ≤ d) {a0 : Nat} {h : AH} {z : (Int32 × AH)} (hf : J9_hashCode a0 h = some z) (hk : Q = QM G X h0 (some (vi z.1)) z.2) {lv : List (Nat × AV)} (hl : lle lv [(0, vr (some a0))]) : V G X 2 h0 Q h 0 lv [] := by
  refine V.sub hl ?_
  unfold J9_hashCode at hf
  refine v_aload_n ok 0 dJ9_hashCode_0 rfl rfl ?_
  refine v_gI ok fl_J9_19 (fun _ _ _ => rfl) dJ9_hashCode_1 hf (fun v3 hf => ?_)
  refine v_istore_n ok 1 dJ9_hashCode_4 rfl (by decide) ?_
  refine v_iload_n ok 1 dJ9_hashCode_5 rfl rfl ?_
  refine v_if_ne ok 58 dJ9_hashCode_6 rfl hf (fun hf => ?_) (fun hf => ?_)
  ·
    refine v_iload_n ok 1 dJ9_hashCode_58 rfl rfl ?_
    exact v_iret ok hr (by cases hf; exact hk) dJ9_hashCode_59
  ·
    refine v_aload_n ok 0 dJ9_hashCode_9 rfl rfl ?_
    refine v_gI ok fl_J9_23 (fun _ _ _ => rfl) dJ9_hashCode_10 hf (fun v4 hf => ?_)
    refine v_if_ne ok 58 dJ9_hashCode_13 rfl hf (fun hf => ?_) (fun hf => ?_)
    ·
      refine v_iload_n ok 1 dJ9_hashCode_58 rfl rfl ?_
      exact v_iret ok hr (by cases hf; exact hk) dJ9_hashCode_59
    ·
      refine v_aload_n ok 0 dJ9_hashCode_16 rfl rfl ?_
      refine v_cVi ok (RJ9, TJ9, 4) cf_24.1 [] (F := fun a => J9_isLatin1 a h) (fun a v h1 _ hv => M_J9_isLatin1 ok.2.2.2.2.2.2.1 (d := 1) (Nat.le_refl _) hv) (by exact Nat.le_trans (by decide) hd) cw_J9_isLatin1 q788 q789 q790 dJ9_hashCode_17 [] rfl (Nat.le_of_ble_eq_true rfl) hf (fun v5 h6 hf => ?_)
      refine v_if_eq ok 33 dJ9_hashCode_20 rfl hf (fun hf => ?_) (fun hf => ?_)
      ·
        refine v_aload_n ok 0 dJ9_hashCode_33 rfl rfl ?_
        refine v_gR ok fl_J9_9 (by first | exact Or.inl ⟨_, rfl⟩ | exact Or.inr ⟨_, rfl⟩) dJ9_hashCode_34 hf (fun v7 hf => ?_)
        refine v_cSi ok [vr v7] (F := J10_hashCode v7 h6) (fun v h1 hv => M_J10_hashCode ok.2.2.2.2.2.2.1 (d := 3) (Nat.le_refl _) hv) (by exact Nat.le_trans (by decide) hd) cw_J10_hashCode q833 q834 dJ9_hashCode_37 [] rfl (Nat.le_of_ble_eq_true rfl) hf (fun v8 h9 hf => ?_)
        exact W_J9_hashCode_40 ok hr hd hf hk ⟨rfl, trivial⟩
      ·
        refine v_aload_n ok 0 dJ9_hashCode_23 rfl rfl ?_
        refine v_gR ok fl_J9_9 (by first | exact Or.inl ⟨_, rfl⟩ | exact Or.inr ⟨_, rfl⟩) dJ9_hashCode_24 hf (fun v10 hf => ?_)
        refine v_cSi ok [vr v10] (F := J12_hashCode v10 h6) (fun v h1 hv => M_J12_hashCode ok.2.2.2.2.2.2.1 (d := 3) (Nat.le_refl _) hv) (by exact Nat.le_trans (by decide) hd) cw_J12_hashCode q792 q793 dJ9_hashCode_27 [] rfl (Nat.le_of_ble_eq_true rfl) hf (fun v11 h12 hf => ?_)
        refine v_goto ok 40 dJ9_hashCode_30 rfl ?_
        exact W_J9_hashCode_40 ok hr hd hf hk ⟨rfl, trivial⟩
theorem M_J9_hashCode {G : GT} {l : Launch} (hG : Glob G) {d : Nat} (hd : 4 ≤ d) {a0 : Nat} {h : AH} {v : Int32} {h' : AH} (hf : J9_hashCode a0 h = some (v, h')) : MM G l yJ9_hashCode cJ9_hashCode 2 (Option.some Jvm.ClassFile.FieldType.int) d [vr (some a0)] h (some (vi v)) h' := by
  refine mm_of hG (plainFor_of_name (by decide)) (Nat.le_of_ble_eq_true rfl) (fun X hX ok hr hnm => ?_)
  subst hX
  exact W_J9_hashCode ok hr hd hf rfl ⟨rfl, trivial⟩
theorem cw_J9_equals : CW yJ9_equals cJ9_equals 3 (Option.some Jvm.ClassFile.FieldType.boolean) 1 := ⟨q841, q186, ⟨by decide, by decide⟩, by decide +kernel, by decide⟩
theorem W_J9_equals_36 {G : GT} {X : CX} {d : Nat} {h0 : AH} {Q : State → Prop} (ok : Ok G X RJ9 cJ9_equals 3 d h0) (hr : (cxm X).sig.returnType = (Option.some Jvm.ClassFile.FieldType.boolean)) (hd : 2 ≤ d) {a0 : Nat} {x2 : Option Nat} {h : AH} {z : (Int32 × AH)} (hf : J9_equals_36 a0 x2 h = some z) (hk : Q = QM G X h0 (some (vi z.1)) z.2) {lv : List (Nat × AV)} (hl : lle lv [(0, vr (some a0)), (2, vr x2)]) : V G X 3 h0 Q h 36 lv [] := by
  refine V.sub hl ?_
  unfold J9_equals_36 at hf
  refine v_aload_n ok 0 dJ9_equals_36 rfl rfl ?_
  refine v_gR ok fl_J9_9 (by first | exact Or.inl ⟨_, rfl⟩ | exact Or.inr ⟨_, rfl⟩) dJ9_equals_37 hf (fun v1 hf => ?_)
  refine v_aload_n ok 2 dJ9_equals_40 rfl rfl ?_
  refine v_gR ok fl_J9_9 (by first | exact Or.inl ⟨_, rfl⟩ | exact Or.inr ⟨_, rfl⟩) dJ9_equals_41 hf (fun v2 hf => ?_)
  refine v_cSi ok [vr v1, vr v2] (F := J12_equals v1 v2 h) (fun v h1 hv => M_J12_equals ok.2.2.2.2.2.2.1 (d := 1) (Nat.le_refl _) hv) (by exact Nat.le_trans (by decide) hd) cw_J12_equals q842 q843 dJ9_equals_44 [] rfl (Nat.le_of_ble_eq_true rfl) hf (fun v3 h4 hf => ?_)
  refine v_if_eq ok 54 dJ9_equals_47 rfl hf (fun hf => ?_) (fun hf => ?_)
  ·
    refine v_iconst ok 0 dJ9_equals_54 rfl ?_
    exact v_zretL ok hr (by decide) (by decide) (by cases hf; exact hk) dJ9_equals_55
  ·
    refine v_iconst ok 1 dJ9_equals_50 rfl ?_
    refine v_goto ok 55 dJ9_equals_51 rfl ?_
    exact v_zretL ok hr (by decide) (by decide) (by cases hf; exact hk) dJ9_equals_55
theorem W_J9_equals {G : GT} {X : CX} {d : Nat} {h0 : AH} {Q : State → Prop} (ok : Ok G X RJ9 cJ9_equals 3 d h0) (hr : (cxm X).sig.returnType = (Option.some Jvm.ClassFile.FieldType.boolean)) (hd : 2 ≤ d) {a0 : Nat} {x1 : Option Nat} {h : AH} {z : (Int32 × AH)} (hf : J9_equals a0 x1 h = some z) (hk : Q = QM G X h0 (some (vi z.1)) z.2) {lv : List (Nat × AV)} (hl : lle lv [(0, vr (some a0)), (1, vr x1)]) : V G X 3 h0 Q h 0 lv [] := by
  refine V.sub hl ?_
  unfold J9_equals at hf
  refine v_aload_n ok 0 dJ9_equals_0 rfl rfl ?_
  refine v_aload_n ok 1 dJ9_equals_1 rfl rfl ?_
  refine v_acmp_ne ok 7 dJ9_equals_2 rfl hf (fun hf => ?_) (fun hf => ?_)
  ·
    refine v_aload_n ok 1 dJ9_equals_7 rfl rfl ?_
    refine v_inst ok ck_java_lang_String q705 dJ9_equals_8 hf (fun v5 hf => ?_)
    refine v_if_eq ok 54 dJ9_equals_11 rfl hf (fun hf => ?_) (fun hf => ?_)
    ·
      refine v_iconst ok 0 dJ9_equals_54 rfl ?_
      exact v_zretL ok hr (by decide) (by decide) (by cases hf; exact hk) dJ9_equals_55
    ·
      refine v_aload_n ok 1 dJ9_equals_14 rfl rfl ?_
      refine v_cast_ ok ck_java_lang_String q705 dJ9_equals_15 hf (fun hf => ?_)
      refine v_astore_n ok 2 dJ9_equals_18 rfl (by decide) ?_
      refine v_gets ok (v := vi (hI h 120 0)) (List.mem_of_getElem? (i := 0) rfl) q715 rfl dJ9_equals_19 ?_
      refine v_if_eq ok 36 dJ9_equals_22 rfl hf (fun hf => ?_) (fun hf => ?_)
      ·
        exact W_J9_equals_36 ok hr hd hf hk ⟨rfl, rfl, trivial⟩
      ·
        refine v_aload_n ok 0 dJ9_equals_25 rfl rfl ?_
        refine v_gI ok fl_J9_15 (fun _ _ _ => rfl) dJ9_equals_26 hf (fun v6 hf => ?_)
        refine v_aload_n ok 2 dJ9_equals_29 rfl rfl ?_
        refine v_gI ok fl_J9_15 (fun _ _ _ => rfl) dJ9_equals_30 hf (fun v7 hf => ?_)
        refine v_icmp_ne ok 54 dJ9_equals_33 rfl hf (fun hf => ?_) (fun hf => ?_)
        ·
          refine v_iconst ok 0 dJ9_equals_54 rfl ?_
          exact v_zretL ok hr (by decide) (by decide) (by cases hf; exact hk) dJ9_equals_55
        ·
          exact W_J9_equals_36 ok hr hd hf hk ⟨rfl, rfl, trivial⟩
  ·
    refine v_iconst ok 1 dJ9_equals_5 rfl ?_
    exact v_zretL ok hr (by decide) (by decide) (by cases hf; exact hk) dJ9_equals_6
theorem M_J9_equals {G : GT} {l : Launch} (hG : Glob G) {d : Nat} (hd : 2 ≤ d) {a0 : Nat} {x1 : Option Nat} {h : AH} {v : Int32} {h' : AH} (hf : J9_equals a0 x1 h = some (v, h')) : MM G l yJ9_equals cJ9_equals 3 (Option.some Jvm.ClassFile.FieldType.boolean) d [vr (some a0), vr x1] h (some (vi v)) h' := by
  refine mm_of hG (plainFor_of_name (by decide)) (Nat.le_of_ble_eq_true rfl) (fun X hX ok hr hnm => ?_)
  subst hX
  exact W_J9_equals ok hr hd hf rfl ⟨rfl, rfl, trivial⟩
theorem cw_J9_coder : CW yJ9_coder cJ9_coder 1 (Option.some Jvm.ClassFile.FieldType.byte) 0 := ⟨q864, q186, ⟨by decide, by decide⟩, by decide +kernel, by decide⟩
theorem W_J9_coder {G : GT} {X : CX} {d : Nat} {h0 : AH} {Q : State → Prop} (ok : Ok G X RJ9 cJ9_coder 1 d h0) (hr : (cxm X).sig.returnType = (Option.some Jvm.ClassFile.FieldType.byte)) (hd : 1 ≤ d) {a0 : Nat} {h : AH} {z : (Int32 × AH)} (hf : J9_coder a0 h = some z) (hk : Q = QM G X h0 (some (vi z.1)) z.2) {lv : List (Nat × AV)} (hl : lle lv [(0, vr (some a0))]) : V G X 1 h0 Q h 0 lv [] := by
  refine V.sub hl ?_
  unfold J9_coder at hf
  refine v_gets ok (v := vi (hI h 120 0)) (List.mem_of_getElem? (i := 0) rfl) q715 rfl dJ9_coder_0 ?_
  refine v_if_eq ok 13 dJ9_coder_3 rfl hf (fun hf => ?_) (fun hf => ?_)
  ·
    refine v_iconst ok 1 dJ9_coder_13 rfl ?_
    exact v_zretL ok hr (by decide) (by decide) (by cases hf; exact hk) dJ9_coder_14
  ·
    refine v_aload_n ok 0 dJ9_coder_6 rfl rfl ?_
    refine v_gI ok fl_J9_15 (fun _ _ _ => rfl) dJ9_coder_7 hf (fun v1 hf => ?_)
    refine v_goto ok 14 dJ9_coder_10 rfl ?_
    exact v_zret ok hr (by decide) hf (fun hf => by cases hf; exact hk) dJ9_coder_14
theorem M_J9_coder {G : GT} {l : Launch} (hG : Glob G) {d : Nat} (hd : 1 ≤ d) {a0 : Nat} {h : AH} {v : Int32} {h' : AH} (hf : J9_coder a0 h = some (v, h')) : MM G l yJ9_coder cJ9_coder 1 (Option.some Jvm.ClassFile.FieldType.byte) d [vr (some a0)] h (some (vi v)) h' := by
  refine mm_of hG (plainFor_of_name (by decide)) (Nat.le_of_ble_eq_true rfl) (fun X hX ok hr hnm => ?_)
  subst hX
  exact W_J9_coder ok hr hd hf rfl ⟨rfl, trivial⟩
theorem cw_J9_length : CW yJ9_length cJ9_length 1 (Option.some Jvm.ClassFile.FieldType.int) 0 := ⟨q860, q186, ⟨by decide, by decide⟩, by decide +kernel, by decide⟩
theorem W_J9_length {G : GT} {X : CX} {d : Nat} {h0 : AH} {Q : State → Prop} (ok : Ok G X RJ9 cJ9_length 1 d h0) (hr : (cxm X).sig.returnType = (Option.some Jvm.ClassFile.FieldType.int)) (hd : 2 ≤ d) {a0 : Nat} {h : AH} {z : (Int32 × AH)} (hf : J9_length a0 h = some z) (hk : Q = QM G X h0 (some (vi z.1)) z.2) {lv : List (Nat × AV)} (hl : lle lv [(0, vr (some a0))]) : V G X 1 h0 Q h 0 lv [] := by
  refine V.sub hl ?_
  unfold J9_length at hf
  refine v_aload_n ok 0 dJ9_length_0 rfl rfl ?_
  refine v_gR ok fl_J9_9 (by first | exact Or.inl ⟨_, rfl⟩ | exact Or.inr ⟨_, rfl⟩) dJ9_length_1 hf (fun v1 hf => ?_)
  refine v_alen ok dJ9_length_4 hf (fun v2 hf => ?_)
  refine v_aload_n ok 0 dJ9_length_5 rfl rfl ?_
  refine v_cVi ok (RJ9, TJ9, 4) cf_24.1 [] (F := fun a => J9_coder a h) (fun a v h1 _ hv => M_J9_coder ok.2.2.2.2.2.2.1 (d := 1) (Nat.le_refl _) hv) (by exact Nat.le_trans (by decide) hd) cw_J9_coder q861 q862 q863 dJ9_length_6 [vi v2] rfl (Nat.le_of_ble_eq_true rfl) hf (fun v3 h4 hf => ?_)
  refine v_ishr ok dJ9_length_9 ?_
  exact v_iret ok hr (by cases hf; exact hk) dJ9_length_10
theorem M_J9_length {G : GT} {l : Launch} (hG : Glob G) {d : Nat} (hd : 2 ≤ d) {a0 : Nat} {h : AH} {v : Int32} {h' : AH} (hf : J9_length a0 h = some (v, h')) : MM G l yJ9_length cJ9_length 1 (Option.some Jvm.ClassFile.FieldType.int) d [vr (some a0)] h (some (vi v)) h' := by
  refine mm_of hG (plainFor_of_name (by decide)) (Nat.le_of_ble_eq_true rfl) (fun X hX ok hr hnm => ?_)
  subst hX
  exact W_J9_length ok hr hd hf rfl ⟨rfl, trivial⟩
theorem cw_J9_charAt : CW yJ9_charAt cJ9_charAt 2 (Option.some Jvm.ClassFile.FieldType.char) 1 := ⟨q868, q186, ⟨by decide, by decide⟩, by decide +kernel, by decide⟩
theorem W_J9_charAt {G : GT} {X : CX} {d : Nat} {h0 : AH} {Q : State → Prop} (ok : Ok G X RJ9 cJ9_charAt 2 d h0) (hr : (cxm X).sig.returnType = (Option.some Jvm.ClassFile.FieldType.char)) (hd : 5 ≤ d) {a0 : Nat} {x1 : Int32} {h : AH} {z : (Int32 × AH)} (hf : J9_charAt a0 x1 h = some z) (hk : Q = QM G X h0 (some (vi z.1)) z.2) {lv : List (Nat × AV)} (hl : lle lv [(0, vr (some a0)), (1, vi x1)]) : V G X 2 h0 Q h 0 lv [] := by
  refine V.sub hl ?_
  unfold J9_charAt at hf
  refine v_aload_n ok 0 dJ9_charAt_0 rfl rfl ?_
  refine v_cVi ok (RJ9, TJ9, 4) cf_24.1 [] (F := fun a => J9_isLatin1 a h) (fun a v h1 _ hv => M_J9_isLatin1 ok.2.2.2.2.2.2.1 (d := 1) (Nat.le_refl _) hv) (by exact Nat.le_trans (by decide) hd) cw_J9_isLatin1 q788 q789 q790 dJ9_charAt_1 [] rfl (Nat.le_of_ble_eq_true rfl) hf (fun v1 h2 hf => ?_)
  refine v_if_eq ok 16 dJ9_charAt_4 rfl hf (fun hf => ?_) (fun hf => ?_)
  ·
    refine v_aload_n ok 0 dJ9_charAt_16 rfl rfl ?_
    refine v_gR ok fl_J9_9 (by first | exact Or.inl ⟨_, rfl⟩ | exact Or.inr ⟨_, rfl⟩) dJ9_charAt_17 hf (fun v3 hf => ?_)
    refine v_iload_n ok 1 dJ9_charAt_20 rfl rfl ?_
    refine v_cSi ok [vr v3, vi x1] (F := J10_charAt v3 x1 h2) (fun v h1 hv => M_J10_charAt ok.2.2.2.2.2.2.1 (d := 4) (Nat.le_refl _) hv) (by exact Nat.le_trans (by decide) hd) cw_J10_charAt q878 q879 dJ9_charAt_21 [] rfl (Nat.le_of_ble_eq_true rfl) hf (fun v4 h5 hf => ?_)
    exact v_cret ok hr hf (fun hf => by cases hf; exact hk) dJ9_charAt_24
  ·
    refine v_aload_n ok 0 dJ9_charAt_7 rfl rfl ?_
    refine v_gR ok fl_J9_9 (by first | exact Or.inl ⟨_, rfl⟩ | exact Or.inr ⟨_, rfl⟩) dJ9_charAt_8 hf (fun v8 hf => ?_)
    refine v_iload_n ok 1 dJ9_charAt_11 rfl rfl ?_
    refine v_cSi ok [vr v8, vi x1] (F := J12_charAt v8 x1 h2) (fun v h1 hv => M_J12_charAt ok.2.2.2.2.2.2.1 (d := 3) (Nat.le_refl _) hv) (by exact Nat.le_trans (by decide) hd) cw_J12_charAt q869 q870 dJ9_charAt_12 [] rfl (Nat.le_of_ble_eq_true rfl) hf (fun v9 h10 hf => ?_)
    exact v_cret ok hr hf (fun hf => by cases hf; exact hk) dJ9_charAt_15
theorem M_J9_charAt {G : GT} {l : Launch} (hG : Glob G) {d : Nat} (hd : 5 ≤ d) {a0 : Nat} {x1 : Int32} {h : AH} {v : Int32} {h' : AH} (hf : J9_charAt a0 x1 h = some (v, h')) : MM G l yJ9_charAt cJ9_charAt 2 (Option.some Jvm.ClassFile.FieldType.char) d [vr (some a0), vi x1] h (some (vi v)) h' := by
  refine mm_of hG (plainFor_of_name (by decide)) (Nat.le_of_ble_eq_true rfl) (fun X hX ok hr hnm => ?_)
  subst hX
  exact W_J9_charAt ok hr hd hf rfl ⟨rfl, rfl, trivial⟩
theorem cw_X1_init : CW yX1_init cX1_init 2 none 0 := ⟨q221, q169, ⟨by decide, by decide⟩, by decide +kernel, by decide⟩
def pkX1_init_53 (G : GT) (X : CX) (h0 : AH) (Q : State → Prop) (a0 : Nat) (o : ((Int32 × AH) ⊕ (AH))) : Prop := match o with
  | .inl s => ∀ lv : List (Nat × AV), lle lv [(0, vr (some a0)), (1, vi s.1)] → V G X 2 h0 Q s.2 53 lv []
  | .inr z => Q = QM G X h0 none z
theorem W_X1_init_53b {G : GT} {X : CX} {d : Nat} {h0 : AH} {Q : State → Prop} (ok : Ok G X RX1 cX1_init 2 d h0) (hr : (cxm X).sig.returnType = none) (hd : 8 ≤ d) (hnm : (cxm X).name = "<init>") {a0 : Nat} {x1 : Int32} {h : AH} {z : ((Int32 × AH) ⊕ (AH))} (hf : X1_init_53b  a0 x1 h = some z) (hk : pkX1_init_53 G X h0 Q a0 z) {lv : List (Nat × AV)} (hl : lle lv [(0, vr (some a0)), (1, vi x1)]) : V G X 2 h0 Q h 53 lv [] := by
  refine V.sub hl ?_
  unfold X1_init_53b at hf
  refine v_iload_n ok 1 dX1_init_53 rfl rfl ?_
  refine v_iconst ok 2 dX1_init_54 rfl ?_
  refine v_icmp_ge ok 82 dX1_init_55 rfl hf (fun hf => ?_) (fun hf => ?_)
  ·
    exact v_vret ok hr (by cases hf; exact hk) dX1_init_82
  ·
    refine v_aload_n ok 0 dX1_init_58 rfl rfl ?_
    refine v_gR ok fl_X1_23 (by first | exact Or.inl ⟨_, rfl⟩ | exact Or.inr ⟨_, rfl⟩) dX1_init_59 hf (fun v1 hf => ?_)
    refine v_new ok cf_23 rfl q223 q224 q172 df_23 dX1_init_62 hf (fun v2 h3 hf => ?_)
    refine v_dup ok dX1_init_65 rfl ?_
    refine v_iconst ok 4 dX1_init_66 rfl ?_
    refine v_cIv ok [vi 4] rfl (F := fun a => J2_init a 4 h3) (fun a h1 _ hv => M_J2_init ok.2.2.2.2.2.2.1 (d := 3) (Nat.le_refl _) hv) (by exact Nat.le_trans (by decide) hd) cw_J2_init q225 q226 dX1_init_67 [vr v2, vr v1] rfl (Nat.le_of_ble_eq_true rfl) hf (fun h4 hf => ?_)
    refine v_cFi ok (RJ2, TJ2, 3) cf_23.1 [vr v2] (F := fun a => J2_add a v2 h4) (fun a v h1 _ hv => M_J2_add ok.2.2.2.2.2.2.1 (d := 7) (Nat.le_refl _) hv) (by exact Nat.le_trans (by decide) hd) cw_J2_add q252 q258 cwf_J2_add dX1_init_70 [] rfl (Nat.le_of_ble_eq_true rfl) hf (fun v5 h6 hf => ?_)
    refine v_pop ok dX1_init_75 rfl ?_
    refine v_iinc ok x1 (x1 + 1) dX1_init_76 rfl rfl (by decide) ?_
    refine v_goto ok 53 dX1_init_79 rfl ?_
    cases hf; exact hk _ ⟨rfl, rfl, trivial⟩
theorem W_X1_init_53 {G : GT} {X : CX} {d : Nat} {h0 : AH} {Q : State → Prop} (ok : Ok G X RX1 cX1_init 2 d h0) (hr : (cxm X).sig.returnType = none) (hd : 8 ≤ d) (hnm : (cxm X).name = "<init>") {a0 : Nat} {x1 : Int32} {h : AH} {z : (AH)} (hf : X1_init_53  a0 x1 h = some z) (hk : Q = QM G X h0 none z) {lv : List (Nat × AV)} (hl : lle lv [(0, vr (some a0)), (1, vi x1)]) : V G X 2 h0 Q h 53 lv [] := by
  unfold X1_init_53 at hf
  exact loopC_walk (Wh := fun s : Int32 × AH => ∀ lv : List (Nat × AV), lle lv [(0, vr (some a0)), (1, vi s.1)] → V G X 2 h0 Q s.2 53 lv []) (PK := fun z => Q = QM G X h0 none z) (fun s o hf hk lv hl => W_X1_init_53b ok hr hd hnm hf (by cases o <;> exact hk) hl) _ z hf hk lv hl
theorem W_X1_init {G : GT} {X : CX} {d : Nat} {h0 : AH} {Q : State → Prop} (ok : Ok G X RX1 cX1_init 2 d h0) (hr : (cxm X).sig.returnType = none) (hd : 8 ≤ d) (hnm : (cxm X).name = "<init>") {a0 : Nat} {h : AH} {z : (AH)} (hf : X1_init a0 h = some z) (hk : Q = QM G X h0 none z) {lv : List (Nat × AV)} (hl : lle lv [(0, vr (some a0))]) : V G X 2 h0 Q h 0 lv [] := by
  refine V.sub hl ?_
  unfold X1_init at hf
  refine v_aload_n ok 0 dX1_init_0 rfl rfl ?_
  refine v_objInit ok q222 q215 q216 (by omega) (Nat.le_of_ble_eq_true rfl) dX1_init_1 hf (fun _ hf => ?_)
  refine v_aload_n ok 0 dX1_init_4 rfl rfl ?_
  refine v_iconst ok 2 dX1_init_5 rfl ?_
  refine v_pI ok fl_X1_9 ⟨fun _ _ _ => rfl, rfl⟩ (FN.of cf_1.1 rfl) dX1_init_6 hf (fun h8 hf => ?_)
  refine v_aload_n ok 0 dX1_init_9 rfl rfl ?_
  refine v_bipush ok 9 dX1_init_10 rfl ?_
  refine v_pI ok fl_X1_15 ⟨fun _ _ _ => rfl, rfl⟩ (FN.of cf_1.1 rfl) dX1_init_12 hf (fun h9 hf => ?_)
  refine v_aload_n ok 0 dX1_init_15 rfl rfl ?_
  refine v_new ok cf_23 rfl q223 q224 q172 df_23 dX1_init_16 hf (fun v10 h11 hf => ?_)
  refine v_dup ok dX1_init_19 rfl ?_
  refine v_iconst ok 2 dX1_init_20 rfl ?_
  refine v_cIv ok [vi 2] rfl (F := fun a => J2_init a 2 h11) (fun a h1 _ hv => M_J2_init ok.2.2.2.2.2.2.1 (d := 3) (Nat.le_refl _) hv) (by exact Nat.le_trans (by decide) hd) cw_J2_init q225 q226 dX1_init_21 [vr v10, vr (some a0)] rfl (Nat.le_of_ble_eq_true rfl) hf (fun h12 hf => ?_)
  refine v_pR ok fl_X1_23 (by first | exact Or.inl ⟨_, rfl⟩ | exact Or.inr ⟨_, rfl⟩) (FN.ini cf_1.1 rfl hnm rfl) dX1_init_24 hf (fun h13 hf => ?_)
  refine v_aload_n ok 0 dX1_init_27 rfl rfl ?_
  refine v_new ok cf_23 rfl q223 q224 q172 df_23 dX1_init_28 hf (fun v14 h15 hf => ?_)
  refine v_dup ok dX1_init_31 rfl ?_
  refine v_iconst ok 4 dX1_init_32 rfl ?_
  refine v_cIv ok [vi 4] rfl (F := fun a => J2_init a 4 h15) (fun a h1 _ hv => M_J2_init ok.2.2.2.2.2.2.1 (d := 3) (Nat.le_refl _) hv) (by exact Nat.le_trans (by decide) hd) cw_J2_init q225 q226 dX1_init_33 [vr v14, vr (some a0)] rfl (Nat.le_of_ble_eq_true rfl) hf (fun h16 hf => ?_)
  refine v_pR ok fl_X1_27 (by first | exact Or.inl ⟨_, rfl⟩ | exact Or.inr ⟨_, rfl⟩) (FN.ini cf_1.1 rfl hnm rfl) dX1_init_36 hf (fun h17 hf => ?_)
  refine v_aload_n ok 0 dX1_init_39 rfl rfl ?_
  refine v_new ok cf_23 rfl q223 q224 q172 df_23 dX1_init_40 hf (fun v18 h19 hf => ?_)
  refine v_dup ok dX1_init_43 rfl ?_
  refine v_iconst ok 2 dX1_init_44 rfl ?_
  refine v_cIv ok [vi 2] rfl (F := fun a => J2_init a 2 h19) (fun a h1 _ hv => M_J2_init ok.2.2.2.2.2.2.1 (d := 3) (Nat.le_refl _) hv) (by exact Nat.le_trans (by decide) hd) cw_J2_init q225 q226 dX1_init_45 [vr v18, vr (some a0)] rfl (Nat.le_of_ble_eq_true rfl) hf (fun h20 hf => ?_)
  refine v_pR ok fl_X1_30 (by first | exact Or.inl ⟨_, rfl⟩ | exact Or.inr ⟨_, rfl⟩) (FN.ini cf_1.1 rfl hnm rfl) dX1_init_48 hf (fun h21 hf => ?_)
  refine v_iconst ok 0 dX1_init_51 rfl ?_
  refine v_istore_n ok 1 dX1_init_52 rfl (by decide) ?_
  exact W_X1_init_53 ok hr hd hnm hf hk ⟨rfl, rfl, trivial⟩
theorem M_X1_init {G : GT} {l : Launch} (hG : Glob G) {d : Nat} (hd : 8 ≤ d) {a0 : Nat} {h : AH} {h' : AH} (hf : X1_init a0 h = some h') : MM G l yX1_init cX1_init 2 none d [vr (some a0)] h none h' := by
  refine mm_of hG (plainFor_of_name (by decide)) (Nat.le_of_ble_eq_true rfl) (fun X hX ok hr hnm => ?_)
  subst hX
  exact W_X1_init ok hr hd hnm hf rfl ⟨rfl, trivial⟩
theorem cw_X3_init : CW yX3_init cX3_init 1 none 0 := ⟨q421, q181, ⟨by decide, by decide⟩, by decide +kernel, by decide⟩
theorem W_X3_init {G : GT} {X : CX} {d : Nat} {h0 : AH} {Q : State → Prop} (ok : Ok G X RX3 cX3_init 1 d h0) (hr : (cxm X).sig.returnType = none) (hd : 4 ≤ d) (hnm : (cxm X).name = "<init>") {a0 : Nat} {h : AH} {z : (AH)} (hf : X3_init a0 h = some z) (hk : Q = QM G X h0 none z) {lv : List (Nat × AV)} (hl : lle lv [(0, vr (some a0))]) : V G X 1 h0 Q h 0 lv [] := by
  refine V.sub hl ?_
  unfold X3_init at hf
  refine v_aload_n ok 0 dX3_init_0 rfl rfl ?_
  refine v_null ok dX3_init_1 ?_
  refine v_null ok dX3_init_2 ?_
  refine v_iconst ok 0 dX3_init_3 rfl ?_
  refine v_iconst ok 0 dX3_init_4 rfl ?_
  refine v_cIv ok [vr none, vr none, vi 0, vi 0] rfl (F := fun a => J8_init a none none 0 0 h) (fun a h1 _ hv => M_J8_init ok.2.2.2.2.2.2.1 (d := 3) (Nat.le_refl _) hv) (by exact Nat.le_trans (by decide) hd) cw_J8_init q422 q423 dX3_init_5 [] rfl (Nat.le_of_ble_eq_true rfl) hf (fun h1 hf => ?_)
  exact v_vret ok hr (by cases hf; exact hk) dX3_init_8
theorem M_X3_init {G : GT} {l : Launch} (hG : Glob G) {d : Nat} (hd : 4 ≤ d) {a0 : Nat} {h : AH} {h' : AH} (hf : X3_init a0 h = some h') : MM G l yX3_init cX3_init 1 none d [vr (some a0)] h none h' := by
  refine mm_of hG (plainFor_of_name (by decide)) (Nat.le_of_ble_eq_true rfl) (fun X hX ok hr hnm => ?_)
  subst hX
  exact W_X3_init ok hr hd hnm hf rfl ⟨rfl, trivial⟩
theorem cw_X2_init : CW yX2_init cX2_init 2 none 1 := ⟨q378, q177, ⟨by decide, by decide⟩, by decide +kernel, by decide⟩
theorem W_X2_init {G : GT} {X : CX} {d : Nat} {h0 : AH} {Q : State → Prop} (ok : Ok G X RX2 cX2_init 2 d h0) (hr : (cxm X).sig.returnType = none) (hd : 5 ≤ d) (hnm : (cxm X).name = "<init>") {a0 : Nat} {x1 : Option Nat} {h : AH} {z : (AH)} (hf : X2_init a0 x1 h = some z) (hk : Q = QM G X h0 none z) {lv : List (Nat × AV)} (hl : lle lv [(0, vr (some a0)), (1, vr x1)]) : V G X 2 h0 Q h 0 lv [] := by
  refine V.sub hl ?_
  unfold X2_init at hf
  refine v_aload_n ok 0 dX2_init_0 rfl rfl ?_
  refine v_aload_n ok 1 dX2_init_1 rfl rfl ?_
  refine v_pR ok fl_X2_3 (by first | exact Or.inl ⟨_, rfl⟩ | exact Or.inr ⟨_, rfl⟩) (FN.ini cf_2.1 rfl hnm rfl) dX2_init_2 hf (fun h1 hf => ?_)
  refine v_aload_n ok 0 dX2_init_5 rfl rfl ?_
  refine v_objInit ok q379 q215 q216 (by omega) (Nat.le_of_ble_eq_true rfl) dX2_init_6 hf (fun _ hf => ?_)
  refine v_aload_n ok 0 dX2_init_9 rfl rfl ?_
  refine v_new ok cf_3 rfl q380 q381 q181 df_3 dX2_init_10 hf (fun v3 h4 hf => ?_)
  refine v_dup ok dX2_init_13 rfl ?_
  refine v_cIv ok [] rfl (F := fun a => X3_init a h4) (fun a h1 _ hv => M_X3_init ok.2.2.2.2.2.2.1 (d := 4) (Nat.le_refl _) hv) (by exact Nat.le_trans (by decide) hd) cw_X3_init q419 q420 dX2_init_14 [vr v3, vr (some a0)] rfl (Nat.le_of_ble_eq_true rfl) hf (fun h5 hf => ?_)
  refine v_pR ok fl_X2_18 (by first | exact Or.inl ⟨_, rfl⟩ | exact Or.inr ⟨_, rfl⟩) (FN.ini cf_2.1 rfl hnm rfl) dX2_init_17 hf (fun h6 hf => ?_)
  exact v_vret ok hr (by cases hf; exact hk) dX2_init_20
theorem M_X2_init {G : GT} {l : Launch} (hG : Glob G) {d : Nat} (hd : 5 ≤ d) {a0 : Nat} {x1 : Option Nat} {h : AH} {h' : AH} (hf : X2_init a0 x1 h = some h') : MM G l yX2_init cX2_init 2 none d [vr (some a0), vr x1] h none h' := by
  refine mm_of hG (plainFor_of_name (by decide)) (Nat.le_of_ble_eq_true rfl) (fun X hX ok hr hnm => ?_)
  subst hX
  exact W_X2_init ok hr hd hnm hf rfl ⟨rfl, rfl, trivial⟩
theorem cw_X4_init : CW yX4_init cX4_init 1 none 0 := ⟨q482, q182, ⟨by decide, by decide⟩, by decide +kernel, by decide⟩
theorem W_X4_init {G : GT} {X : CX} {d : Nat} {h0 : AH} {Q : State → Prop} (ok : Ok G X RX4 cX4_init 1 d h0) (hr : (cxm X).sig.returnType = none) (hd : 1 ≤ d) (hnm : (cxm X).name = "<init>") {a0 : Nat} {h : AH} {z : (AH)} (hf : X4_init a0 h = some z) (hk : Q = QM G X h0 none z) {lv : List (Nat × AV)} (hl : lle lv [(0, vr (some a0))]) : V G X 1 h0 Q h 0 lv [] := by
  refine V.sub hl ?_
  unfold X4_init at hf
  refine v_aload_n ok 0 dX4_init_0 rfl rfl ?_
  refine v_objInit ok q483 q215 q216 (by omega) (Nat.le_of_ble_eq_true rfl) dX4_init_1 hf (fun _ hf => ?_)
  refine v_aload_n ok 0 dX4_init_4 rfl rfl ?_
  refine v_bipush ok 10 dX4_init_5 rfl ?_
  refine v_newarr ok (t := 103) (atype := .long) (by decide) (by decide) rfl q491 (fun _ _ _ _ e1 e2 => by first | exact congrArg Value.int e1.symm | exact congrArg Value.long e2.symm) (by decide) dX4_init_7 hf (fun v2 h3 hf => ?_)
  refine v_pR ok fl_X4_7 (by first | exact Or.inl ⟨_, rfl⟩ | exact Or.inr ⟨_, rfl⟩) (FN.ini cf_4.1 rfl hnm rfl) dX4_init_9 hf (fun h4 hf => ?_)
  exact v_vret ok hr (by cases hf; exact hk) dX4_init_12
theorem M_X4_init {G : GT} {l : Launch} (hG : Glob G) {d : Nat} (hd : 1 ≤ d) {a0 : Nat} {h : AH} {h' : AH} (hf : X4_init a0 h = some h') : MM G l yX4_init cX4_init 1 none d [vr (some a0)] h none h' := by
  refine mm_of hG (plainFor_of_name (by decide)) (Nat.le_of_ble_eq_true rfl) (fun X hX ok hr hnm => ?_)
  subst hX
  exact W_X4_init ok hr hd hnm hf rfl ⟨rfl, trivial⟩
theorem cw_X5_init : CW yX5_init cX5_init 2 none 1 := ⟨q496, q183, ⟨by decide, by decide⟩, by decide +kernel, by decide⟩
theorem W_X5_init {G : GT} {X : CX} {d : Nat} {h0 : AH} {Q : State → Prop} (ok : Ok G X RX5 cX5_init 2 d h0) (hr : (cxm X).sig.returnType = none) (hd : 1 ≤ d) (hnm : (cxm X).name = "<init>") {a0 : Nat} {x1 : Option Nat} {h : AH} {z : (AH)} (hf : X5_init a0 x1 h = some z) (hk : Q = QM G X h0 none z) {lv : List (Nat × AV)} (hl : lle lv [(0, vr (some a0)), (1, vr x1)]) : V G X 2 h0 Q h 0 lv [] := by
  refine V.sub hl ?_
  unfold X5_init at hf
  refine v_aload_n ok 0 dX5_init_0 rfl rfl ?_
  refine v_aload_n ok 1 dX5_init_1 rfl rfl ?_
  refine v_pR ok fl_X5_3 (by first | exact Or.inl ⟨_, rfl⟩ | exact Or.inr ⟨_, rfl⟩) (FN.ini cf_5.1 rfl hnm rfl) dX5_init_2 hf (fun h1 hf => ?_)
  refine v_aload_n ok 0 dX5_init_5 rfl rfl ?_
  refine v_objInit ok q497 q215 q216 (by omega) (Nat.le_of_ble_eq_true rfl) dX5_init_6 hf (fun _ hf => ?_)
  refine v_aload_n ok 0 dX5_init_9 rfl rfl ?_
  refine v_iconst ok 4 dX5_init_10 rfl ?_
  refine v_newarr ok (t := 100) (atype := .int) (by decide) (by decide) rfl q539 (fun _ _ _ _ e1 e2 => by first | exact congrArg Value.int e1.symm | exact congrArg Value.long e2.symm) (by decide) dX5_init_11 hf (fun v3 h4 hf => ?_)
  refine v_pR ok fl_X5_15 (by first | exact Or.inl ⟨_, rfl⟩ | exact Or.inr ⟨_, rfl⟩) (FN.ini cf_5.1 rfl hnm rfl) dX5_init_13 hf (fun h5 hf => ?_)
  refine v_aload_n ok 0 dX5_init_16 rfl rfl ?_
  refine v_iconst ok 4 dX5_init_17 rfl ?_
  refine v_newarr ok (t := 100) (atype := .int) (by decide) (by decide) rfl q539 (fun _ _ _ _ e1 e2 => by first | exact congrArg Value.int e1.symm | exact congrArg Value.long e2.symm) (by decide) dX5_init_18 hf (fun v6 h7 hf => ?_)
  refine v_pR ok fl_X5_19 (by first | exact Or.inl ⟨_, rfl⟩ | exact Or.inr ⟨_, rfl⟩) (FN.ini cf_5.1 rfl hnm rfl) dX5_init_20 hf (fun h8 hf => ?_)
  refine v_aload_n ok 0 dX5_init_23 rfl rfl ?_
  refine v_iconst ok 4 dX5_init_24 rfl ?_
  refine v_bipush ok 6 dX5_init_25 rfl ?_
  refine v_multi ok q498 q499 q539 dX5_init_27 hf (fun v9 h10 hf => ?_)
  refine v_pR ok fl_X5_24 (by first | exact Or.inl ⟨_, rfl⟩ | exact Or.inr ⟨_, rfl⟩) (FN.ini cf_5.1 rfl hnm rfl) dX5_init_31 hf (fun h11 hf => ?_)
  refine v_aload_n ok 0 dX5_init_34 rfl rfl ?_
  refine v_bipush ok 40 dX5_init_35 rfl ?_
  refine v_iconst ok 3 dX5_init_37 rfl ?_
  refine v_multi ok q498 q499 q539 dX5_init_38 hf (fun v12 h13 hf => ?_)
  refine v_pR ok fl_X5_27 (by first | exact Or.inl ⟨_, rfl⟩ | exact Or.inr ⟨_, rfl⟩) (FN.ini cf_5.1 rfl hnm rfl) dX5_init_42 hf (fun h14 hf => ?_)
  refine v_aload_n ok 0 dX5_init_45 rfl rfl ?_
  refine v_iconst ok 4 dX5_init_46 rfl ?_
  refine v_bipush ok 6 dX5_init_47 rfl ?_
  refine v_multi ok q498 q499 q539 dX5_init_49 hf (fun v15 h16 hf => ?_)
  refine v_pR ok fl_X5_30 (by first | exact Or.inl ⟨_, rfl⟩ | exact Or.inr ⟨_, rfl⟩) (FN.ini cf_5.1 rfl hnm rfl) dX5_init_53 hf (fun h17 hf => ?_)
  exact v_vret ok hr (by cases hf; exact hk) dX5_init_56
theorem M_X5_init {G : GT} {l : Launch} (hG : Glob G) {d : Nat} (hd : 1 ≤ d) {a0 : Nat} {x1 : Option Nat} {h : AH} {h' : AH} (hf : X5_init a0 x1 h = some h') : MM G l yX5_init cX5_init 2 none d [vr (some a0), vr x1] h none h' := by
  refine mm_of hG (plainFor_of_name (by decide)) (Nat.le_of_ble_eq_true rfl) (fun X hX ok hr hnm => ?_)
  subst hX
  exact W_X5_init ok hr hd hnm hf rfl ⟨rfl, rfl, trivial⟩
theorem cw_X6_init : CW yX6_init cX6_init 2 none 1 := ⟨q544, q184, ⟨by decide, by decide⟩, by decide +kernel, by decide⟩
theorem W_X6_init {G : GT} {X : CX} {d : Nat} {h0 : AH} {Q : State → Prop} (ok : Ok G X RX6 cX6_init 2 d h0) (hr : (cxm X).sig.returnType = none) (hd : 1 ≤ d) (hnm : (cxm X).name = "<init>") {a0 : Nat} {x1 : Option Nat} {h : AH} {z : (AH)} (hf : X6_init a0 x1 h = some z) (hk : Q = QM G X h0 none z) {lv : List (Nat × AV)} (hl : lle lv [(0, vr (some a0)), (1, vr x1)]) : V G X 2 h0 Q h 0 lv [] := by
  refine V.sub hl ?_
  unfold X6_init at hf
  refine v_aload_n ok 0 dX6_init_0 rfl rfl ?_
  refine v_aload_n ok 1 dX6_init_1 rfl rfl ?_
  refine v_pR ok fl_X6_3 (by first | exact Or.inl ⟨_, rfl⟩ | exact Or.inr ⟨_, rfl⟩) (FN.ini cf_6.1 rfl hnm rfl) dX6_init_2 hf (fun h1 hf => ?_)
  refine v_aload_n ok 0 dX6_init_5 rfl rfl ?_
  refine v_objInit ok q545 q215 q216 (by omega) (Nat.le_of_ble_eq_true rfl) dX6_init_6 hf (fun _ hf => ?_)
  refine v_aload_n ok 0 dX6_init_9 rfl rfl ?_
  refine v_bipush ok 7 dX6_init_10 rfl ?_
  refine v_bipush ok 7 dX6_init_12 rfl ?_
  refine v_multi ok q546 q499 q539 dX6_init_14 hf (fun v3 h4 hf => ?_)
  refine v_pR ok fl_X6_17 (by first | exact Or.inl ⟨_, rfl⟩ | exact Or.inr ⟨_, rfl⟩) (FN.ini cf_6.1 rfl hnm rfl) dX6_init_18 hf (fun h5 hf => ?_)
  refine v_aload_n ok 0 dX6_init_21 rfl rfl ?_
  refine v_bipush ok 12 dX6_init_22 rfl ?_
  refine v_newarr ok (t := 100) (atype := .int) (by decide) (by decide) rfl q539 (fun _ _ _ _ e1 e2 => by first | exact congrArg Value.int e1.symm | exact congrArg Value.long e2.symm) (by decide) dX6_init_24 hf (fun v6 h7 hf => ?_)
  refine v_pR ok fl_X6_20 (by first | exact Or.inl ⟨_, rfl⟩ | exact Or.inr ⟨_, rfl⟩) (FN.ini cf_6.1 rfl hnm rfl) dX6_init_26 hf (fun h8 hf => ?_)
  refine v_aload_n ok 0 dX6_init_29 rfl rfl ?_
  refine v_bipush ok 12 dX6_init_30 rfl ?_
  refine v_newarr ok (t := 100) (atype := .int) (by decide) (by decide) rfl q539 (fun _ _ _ _ e1 e2 => by first | exact congrArg Value.int e1.symm | exact congrArg Value.long e2.symm) (by decide) dX6_init_32 hf (fun v9 h10 hf => ?_)
  refine v_pR ok fl_X6_24 (by first | exact Or.inl ⟨_, rfl⟩ | exact Or.inr ⟨_, rfl⟩) (FN.ini cf_6.1 rfl hnm rfl) dX6_init_34 hf (fun h11 hf => ?_)
  exact v_vret ok hr (by cases hf; exact hk) dX6_init_37
theorem M_X6_init {G : GT} {l : Launch} (hG : Glob G) {d : Nat} (hd : 1 ≤ d) {a0 : Nat} {x1 : Option Nat} {h : AH} {h' : AH} (hf : X6_init a0 x1 h = some h') : MM G l yX6_init cX6_init 2 none d [vr (some a0), vr x1] h none h' := by
  refine mm_of hG (plainFor_of_name (by decide)) (Nat.le_of_ble_eq_true rfl) (fun X hX ok hr hnm => ?_)
  subst hX
  exact W_X6_init ok hr hd hnm hf rfl ⟨rfl, rfl, trivial⟩
theorem cw_X0_init : CW yX0_init cX0_init 2 none 0 := ⟨q213, q168, ⟨by decide, by decide⟩, by decide +kernel, by decide⟩
def pkX0_init_118 (G : GT) (X : CX) (h0 : AH) (Q : State → Prop) (a0 : Nat) (o : ((Int32 × AH) ⊕ (AH))) : Prop := match o with
  | .inl s => ∀ lv : List (Nat × AV), lle lv [(0, vr (some a0)), (1, vi s.1)] → V G X 2 h0 Q s.2 118 lv []
  | .inr z => Q = QM G X h0 none z
theorem W_X0_init_144 {G : GT} {X : CX} {d : Nat} {h0 : AH} {Q : State → Prop} (ok : Ok G X RX0 cX0_init 2 d h0) (hr : (cxm X).sig.returnType = none) (hd : 9 ≤ d) (hnm : (cxm X).name = "<init>") {a0 : Nat} {h : AH} {z : (AH)} (hf : X0_init_144 a0 h = some z) (hk : Q = QM G X h0 none z) {lv : List (Nat × AV)} (hl : lle lv [(0, vr (some a0))]) : V G X 2 h0 Q h 144 lv [] := by
  refine V.sub hl ?_
  unfold X0_init_144 at hf
  refine v_aload_n ok 0 dX0_init_144 rfl rfl ?_
  refine v_lconst ok 1 dX0_init_145 rfl ?_
  refine v_pL ok fl_X0_87 rfl (FN.of cf_0.1 rfl) dX0_init_146 hf (fun h1 hf => ?_)
  refine v_aload_n ok 0 dX0_init_149 rfl rfl ?_
  refine v_bipush ok 59 dX0_init_150 rfl ?_
  refine v_newarr ok (t := 101) (atype := .byte) (by decide) (by decide) rfl q452 (fun _ _ _ _ e1 e2 => by first | exact congrArg Value.int e1.symm | exact congrArg Value.long e2.symm) (by decide) dX0_init_152 hf (fun v2 h3 hf => ?_)
  refine v_pR ok fl_X0_91 (by first | exact Or.inl ⟨_, rfl⟩ | exact Or.inr ⟨_, rfl⟩) (FN.ini cf_0.1 rfl hnm rfl) dX0_init_154 hf (fun h4 hf => ?_)
  exact v_vret ok hr (by cases hf; exact hk) dX0_init_157
theorem W_X0_init_118b {G : GT} {X : CX} {d : Nat} {h0 : AH} {Q : State → Prop} (ok : Ok G X RX0 cX0_init 2 d h0) (hr : (cxm X).sig.returnType = none) (hd : 9 ≤ d) (hnm : (cxm X).name = "<init>") {a0 : Nat} {x1 : Int32} {h : AH} {z : ((Int32 × AH) ⊕ (AH))} (hf : X0_init_118b  a0 x1 h = some z) (hk : pkX0_init_118 G X h0 Q a0 z) {lv : List (Nat × AV)} (hl : lle lv [(0, vr (some a0)), (1, vi x1)]) : V G X 2 h0 Q h 118 lv [] := by
  refine V.sub hl ?_
  unfold X0_init_118b at hf
  refine v_iload_n ok 1 dX0_init_118 rfl rfl ?_
  refine v_bipush ok 20 dX0_init_119 rfl ?_
  refine v_icmp_ge ok 144 dX0_init_121 rfl hf (fun hf => ?_) (fun hf => ?_)
  ·
    obtain ⟨o, ho, hz⟩ := ob hf
    cases hz; exact W_X0_init_144 ok hr hd hnm ho hk ⟨rfl, trivial⟩
  ·
    refine v_aload_n ok 0 dX0_init_124 rfl rfl ?_
    refine v_gR ok fl_X0_83 (by first | exact Or.inl ⟨_, rfl⟩ | exact Or.inr ⟨_, rfl⟩) dX0_init_125 hf (fun v5 hf => ?_)
    refine v_iload_n ok 1 dX0_init_128 rfl rfl ?_
    refine v_new ok cf_5 rfl q492 q493 q183 df_5 dX0_init_129 hf (fun v6 h7 hf => ?_)
    refine v_dup ok dX0_init_132 rfl ?_
    refine v_aload_n ok 0 dX0_init_133 rfl rfl ?_
    refine v_cINv ok [vr (some a0)] rfl (F := fun a => X5_init a (some a0) h7) (fun a h1 _ hv => M_X5_init ok.2.2.2.2.2.2.1 (d := 1) (Nat.le_refl _) hv) (by exact Nat.le_trans (by decide) hd) cw_X5_init q494 q495 dX0_init_134 [vr v6, vi x1, vr v5] rfl (Nat.le_of_ble_eq_true rfl) hf (fun h8 hf => ?_)
    refine v_aast ok (t := 107) (by decide) (by decide) ck_TurnedBoards_State dX0_init_137 hf (fun h9 hf => ?_)
    refine v_iinc ok x1 (x1 + 1) dX0_init_138 rfl rfl (by decide) ?_
    refine v_goto ok 118 dX0_init_141 rfl ?_
    cases hf; exact hk _ ⟨rfl, rfl, trivial⟩
theorem W_X0_init_118 {G : GT} {X : CX} {d : Nat} {h0 : AH} {Q : State → Prop} (ok : Ok G X RX0 cX0_init 2 d h0) (hr : (cxm X).sig.returnType = none) (hd : 9 ≤ d) (hnm : (cxm X).name = "<init>") {a0 : Nat} {x1 : Int32} {h : AH} {z : (AH)} (hf : X0_init_118  a0 x1 h = some z) (hk : Q = QM G X h0 none z) {lv : List (Nat × AV)} (hl : lle lv [(0, vr (some a0)), (1, vi x1)]) : V G X 2 h0 Q h 118 lv [] := by
  unfold X0_init_118 at hf
  exact loopC_walk (Wh := fun s : Int32 × AH => ∀ lv : List (Nat × AV), lle lv [(0, vr (some a0)), (1, vi s.1)] → V G X 2 h0 Q s.2 118 lv []) (PK := fun z => Q = QM G X h0 none z) (fun s o hf hk lv hl => W_X0_init_118b ok hr hd hnm hf (by cases o <;> exact hk) hl) _ z hf hk lv hl
theorem W_X0_init {G : GT} {X : CX} {d : Nat} {h0 : AH} {Q : State → Prop} (ok : Ok G X RX0 cX0_init 2 d h0) (hr : (cxm X).sig.returnType = none) (hd : 9 ≤ d) (hnm : (cxm X).name = "<init>") {a0 : Nat} {h : AH} {z : (AH)} (hf : X0_init a0 h = some z) (hk : Q = QM G X h0 none z) {lv : List (Nat × AV)} (hl : lle lv [(0, vr (some a0))]) : V G X 2 h0 Q h 0 lv [] := by
  refine V.sub hl ?_
  unfold X0_init at hf
  refine v_aload_n ok 0 dX0_init_0 rfl rfl ?_
  refine v_objInit ok q214 q215 q216 (by omega) (Nat.le_of_ble_eq_true rfl) dX0_init_1 hf (fun _ hf => ?_)
  refine v_aload_n ok 0 dX0_init_4 rfl rfl ?_
  refine v_new ok cf_1 rfl q217 q218 q169 df_1 dX0_init_5 hf (fun v11 h12 hf => ?_)
  refine v_dup ok dX0_init_8 rfl ?_
  refine v_cIv ok [] rfl (F := fun a => X1_init a h12) (fun a h1 _ hv => M_X1_init ok.2.2.2.2.2.2.1 (d := 8) (Nat.le_refl _) hv) (by exact Nat.le_trans (by decide) hd) cw_X1_init q219 q220 dX0_init_9 [vr v11, vr (some a0)] rfl (Nat.le_of_ble_eq_true rfl) hf (fun h13 hf => ?_)
  refine v_pR ok fl_X0_31 (by first | exact Or.inl ⟨_, rfl⟩ | exact Or.inr ⟨_, rfl⟩) (FN.of cf_0.1 rfl) dX0_init_12 hf (fun h14 hf => ?_)
  refine v_aload_n ok 0 dX0_init_15 rfl rfl ?_
  refine v_sipush ok 1600 dX0_init_16 rfl ?_
  refine v_newarr ok (t := 101) (atype := .byte) (by decide) (by decide) rfl q452 (fun _ _ _ _ e1 e2 => by first | exact congrArg Value.int e1.symm | exact congrArg Value.long e2.symm) (by decide) dX0_init_19 hf (fun v15 h16 hf => ?_)
  refine v_pR ok fl_X0_35 (by first | exact Or.inl ⟨_, rfl⟩ | exact Or.inr ⟨_, rfl⟩) (FN.ini cf_0.1 rfl hnm rfl) dX0_init_21 hf (fun h17 hf => ?_)
  refine v_aload_n ok 0 dX0_init_24 rfl rfl ?_
  refine v_iconst ok (-1) dX0_init_25 rfl ?_
  refine v_pI ok fl_X0_39 ⟨fun _ _ _ => rfl, rfl⟩ (FN.of cf_0.1 rfl) dX0_init_26 hf (fun h18 hf => ?_)
  refine v_aload_n ok 0 dX0_init_29 rfl rfl ?_
  refine v_new ok cf_2 rfl q374 q375 q177 df_2 dX0_init_30 hf (fun v19 h20 hf => ?_)
  refine v_dup ok dX0_init_33 rfl ?_
  refine v_aload_n ok 0 dX0_init_34 rfl rfl ?_
  refine v_cINv ok [vr (some a0)] rfl (F := fun a => X2_init a (some a0) h20) (fun a h1 _ hv => M_X2_init ok.2.2.2.2.2.2.1 (d := 5) (Nat.le_refl _) hv) (by exact Nat.le_trans (by decide) hd) cw_X2_init q376 q377 dX0_init_35 [vr v19, vr (some a0)] rfl (Nat.le_of_ble_eq_true rfl) hf (fun h21 hf => ?_)
  refine v_pR ok fl_X0_48 (by first | exact Or.inl ⟨_, rfl⟩ | exact Or.inr ⟨_, rfl⟩) (FN.ini cf_0.1 rfl hnm rfl) dX0_init_38 hf (fun h22 hf => ?_)
  refine v_aload_n ok 0 dX0_init_41 rfl rfl ?_
  refine v_new ok cf_4 rfl q478 q479 q182 df_4 dX0_init_42 hf (fun v23 h24 hf => ?_)
  refine v_dup ok dX0_init_45 rfl ?_
  refine v_cINv ok [] rfl (F := fun a => X4_init a h24) (fun a h1 _ hv => M_X4_init ok.2.2.2.2.2.2.1 (d := 1) (Nat.le_refl _) hv) (by exact Nat.le_trans (by decide) hd) cw_X4_init q480 q481 dX0_init_46 [vr v23, vr (some a0)] rfl (Nat.le_of_ble_eq_true rfl) hf (fun h25 hf => ?_)
  refine v_pR ok fl_X0_55 (by first | exact Or.inl ⟨_, rfl⟩ | exact Or.inr ⟨_, rfl⟩) (FN.ini cf_0.1 rfl hnm rfl) dX0_init_49 hf (fun h26 hf => ?_)
  refine v_aload_n ok 0 dX0_init_52 rfl rfl ?_
  refine v_new ok cf_4 rfl q478 q479 q182 df_4 dX0_init_53 hf (fun v27 h28 hf => ?_)
  refine v_dup ok dX0_init_56 rfl ?_
  refine v_cINv ok [] rfl (F := fun a => X4_init a h28) (fun a h1 _ hv => M_X4_init ok.2.2.2.2.2.2.1 (d := 1) (Nat.le_refl _) hv) (by exact Nat.le_trans (by decide) hd) cw_X4_init q480 q481 dX0_init_57 [vr v27, vr (some a0)] rfl (Nat.le_of_ble_eq_true rfl) hf (fun h29 hf => ?_)
  refine v_pR ok fl_X0_59 (by first | exact Or.inl ⟨_, rfl⟩ | exact Or.inr ⟨_, rfl⟩) (FN.ini cf_0.1 rfl hnm rfl) dX0_init_60 hf (fun h30 hf => ?_)
  refine v_aload_n ok 0 dX0_init_63 rfl rfl ?_
  refine v_bipush ok 6 dX0_init_64 rfl ?_
  refine v_newarr ok (t := 100) (atype := .int) (by decide) (by decide) rfl q539 (fun _ _ _ _ e1 e2 => by first | exact congrArg Value.int e1.symm | exact congrArg Value.long e2.symm) (by decide) dX0_init_66 hf (fun v31 h32 hf => ?_)
  refine v_pR ok fl_X0_62 (by first | exact Or.inl ⟨_, rfl⟩ | exact Or.inr ⟨_, rfl⟩) (FN.ini cf_0.1 rfl hnm rfl) dX0_init_68 hf (fun h33 hf => ?_)
  refine v_aload_n ok 0 dX0_init_71 rfl rfl ?_
  refine v_new ok cf_5 rfl q492 q493 q183 df_5 dX0_init_72 hf (fun v34 h35 hf => ?_)
  refine v_dup ok dX0_init_75 rfl ?_
  refine v_aload_n ok 0 dX0_init_76 rfl rfl ?_
  refine v_cINv ok [vr (some a0)] rfl (F := fun a => X5_init a (some a0) h35) (fun a h1 _ hv => M_X5_init ok.2.2.2.2.2.2.1 (d := 1) (Nat.le_refl _) hv) (by exact Nat.le_trans (by decide) hd) cw_X5_init q494 q495 dX0_init_77 [vr v34, vr (some a0)] rfl (Nat.le_of_ble_eq_true rfl) hf (fun h36 hf => ?_)
  refine v_pR ok fl_X0_69 (by first | exact Or.inl ⟨_, rfl⟩ | exact Or.inr ⟨_, rfl⟩) (FN.ini cf_0.1 rfl hnm rfl) dX0_init_80 hf (fun h37 hf => ?_)
  refine v_aload_n ok 0 dX0_init_83 rfl rfl ?_
  refine v_new ok cf_5 rfl q492 q493 q183 df_5 dX0_init_84 hf (fun v38 h39 hf => ?_)
  refine v_dup ok dX0_init_87 rfl ?_
  refine v_aload_n ok 0 dX0_init_88 rfl rfl ?_
  refine v_cINv ok [vr (some a0)] rfl (F := fun a => X5_init a (some a0) h39) (fun a h1 _ hv => M_X5_init ok.2.2.2.2.2.2.1 (d := 1) (Nat.le_refl _) hv) (by exact Nat.le_trans (by decide) hd) cw_X5_init q494 q495 dX0_init_89 [vr v38, vr (some a0)] rfl (Nat.le_of_ble_eq_true rfl) hf (fun h40 hf => ?_)
  refine v_pR ok fl_X0_73 (by first | exact Or.inl ⟨_, rfl⟩ | exact Or.inr ⟨_, rfl⟩) (FN.ini cf_0.1 rfl hnm rfl) dX0_init_92 hf (fun h41 hf => ?_)
  refine v_aload_n ok 0 dX0_init_95 rfl rfl ?_
  refine v_new ok cf_6 rfl q540 q541 q184 df_6 dX0_init_96 hf (fun v42 h43 hf => ?_)
  refine v_dup ok dX0_init_99 rfl ?_
  refine v_aload_n ok 0 dX0_init_100 rfl rfl ?_
  refine v_cINv ok [vr (some a0)] rfl (F := fun a => X6_init a (some a0) h43) (fun a h1 _ hv => M_X6_init ok.2.2.2.2.2.2.1 (d := 1) (Nat.le_refl _) hv) (by exact Nat.le_trans (by decide) hd) cw_X6_init q542 q543 dX0_init_101 [vr v42, vr (some a0)] rfl (Nat.le_of_ble_eq_true rfl) hf (fun h44 hf => ?_)
  refine v_pR ok fl_X0_79 (by first | exact Or.inl ⟨_, rfl⟩ | exact Or.inr ⟨_, rfl⟩) (FN.ini cf_0.1 rfl hnm rfl) dX0_init_104 hf (fun h45 hf => ?_)
  refine v_aload_n ok 0 dX0_init_107 rfl rfl ?_
  refine v_bipush ok 20 dX0_init_108 rfl ?_
  refine v_anew ok (t := 107) (by decide) (by decide) rfl q492 q581 dX0_init_110 hf (fun v46 h47 hf => ?_)
  refine v_pR ok fl_X0_83 (by first | exact Or.inl ⟨_, rfl⟩ | exact Or.inr ⟨_, rfl⟩) (FN.ini cf_0.1 rfl hnm rfl) dX0_init_113 hf (fun h48 hf => ?_)
  refine v_iconst ok 0 dX0_init_116 rfl ?_
  refine v_istore_n ok 1 dX0_init_117 rfl (by decide) ?_
  exact W_X0_init_118 ok hr hd hnm hf hk ⟨rfl, rfl, trivial⟩
theorem M_X0_init {G : GT} {l : Launch} (hG : Glob G) {d : Nat} (hd : 9 ≤ d) {a0 : Nat} {h : AH} {h' : AH} (hf : X0_init a0 h = some h') : MM G l yX0_init cX0_init 2 none d [vr (some a0)] h none h' := by
  refine mm_of hG (plainFor_of_name (by decide)) (Nat.le_of_ble_eq_true rfl) (fun X hX ok hr hnm => ?_)
  subst hX
  exact W_X0_init ok hr hd hnm hf rfl ⟨rfl, trivial⟩
theorem cw_X0_put : CW yX0_put cX0_put 3 none 1 := ⟨q652, q168, ⟨by decide, by decide⟩, by decide +kernel, by decide⟩
def pkX0_put_3 (G : GT) (X : CX) (h0 : AH) (Q : State → Prop) (a0 : Nat) (x1 : Int32) (o : ((Int32 × AH) ⊕ (AH))) : Prop := match o with
  | .inl s => ∀ lv : List (Nat × AV), lle lv [(0, vr (some a0)), (1, vi x1), (2, vi s.1)] → V G X 3 h0 Q s.2 3 lv []
  | .inr z => Q = QM G X h0 none z
theorem W_X0_put_3b {G : GT} {X : CX} {d : Nat} {h0 : AH} {Q : State → Prop} (ok : Ok G X RX0 cX0_put 3 d h0) (hr : (cxm X).sig.returnType = none) (hd : 1 ≤ d) {a0 : Nat} {x1 : Int32} {x2 : Int32} {h : AH} {z : ((Int32 × AH) ⊕ (AH))} (hf : X0_put_3b  a0 x1 x2 h = some z) (hk : pkX0_put_3 G X h0 Q a0 x1 z) {lv : List (Nat × AV)} (hl : lle lv [(0, vr (some a0)), (1, vi x1), (2, vi x2)]) : V G X 3 h0 Q h 3 lv [] := by
  refine V.sub hl ?_
  unfold X0_put_3b at hf
  refine v_iload_n ok 2 dX0_put_3 rfl rfl ?_
  refine v_if_lt ok 33 dX0_put_4 rfl hf (fun hf => ?_) (fun hf => ?_)
  ·
    exact v_vret ok hr (by cases hf; exact hk) dX0_put_33
  ·
    refine v_aload_n ok 0 dX0_put_7 rfl rfl ?_
    refine v_gR ok fl_X0_35 (by first | exact Or.inl ⟨_, rfl⟩ | exact Or.inr ⟨_, rfl⟩) dX0_put_8 hf (fun v1 hf => ?_)
    refine v_aload_n ok 0 dX0_put_11 rfl rfl ?_
    refine v_dup ok dX0_put_12 rfl ?_
    refine v_gI ok fl_X0_94 (fun _ _ _ => rfl) dX0_put_13 hf (fun v2 hf => ?_)
    refine v_dup_x1 ok dX0_put_16 rfl rfl ?_
    refine v_iconst ok 1 dX0_put_17 rfl ?_
    refine v_iadd ok dX0_put_18 ?_
    refine v_pI ok fl_X0_94 ⟨fun _ _ _ => rfl, rfl⟩ (FN.of cf_0.1 rfl) dX0_put_19 hf (fun h3 hf => ?_)
    refine v_iload_n ok 1 dX0_put_22 rfl rfl ?_
    refine v_iload_n ok 2 dX0_put_23 rfl rfl ?_
    refine v_ishr ok dX0_put_24 ?_
    refine v_i2b ok dX0_put_25 ?_
    refine v_bast ok rfl dX0_put_26 hf (fun h4 hf => ?_)
    refine v_iinc ok x2 (x2 + (-8)) dX0_put_27 rfl rfl (by decide) ?_
    refine v_goto ok 3 dX0_put_30 rfl ?_
    cases hf; exact hk _ ⟨rfl, rfl, rfl, trivial⟩
theorem W_X0_put_3 {G : GT} {X : CX} {d : Nat} {h0 : AH} {Q : State → Prop} (ok : Ok G X RX0 cX0_put 3 d h0) (hr : (cxm X).sig.returnType = none) (hd : 1 ≤ d) {a0 : Nat} {x1 : Int32} {x2 : Int32} {h : AH} {z : (AH)} (hf : X0_put_3  a0 x1 x2 h = some z) (hk : Q = QM G X h0 none z) {lv : List (Nat × AV)} (hl : lle lv [(0, vr (some a0)), (1, vi x1), (2, vi x2)]) : V G X 3 h0 Q h 3 lv [] := by
  unfold X0_put_3 at hf
  exact loopC_walk (Wh := fun s : Int32 × AH => ∀ lv : List (Nat × AV), lle lv [(0, vr (some a0)), (1, vi x1), (2, vi s.1)] → V G X 3 h0 Q s.2 3 lv []) (PK := fun z => Q = QM G X h0 none z) (fun s o hf hk lv hl => W_X0_put_3b ok hr hd hf (by cases o <;> exact hk) hl) _ z hf hk lv hl
theorem W_X0_put {G : GT} {X : CX} {d : Nat} {h0 : AH} {Q : State → Prop} (ok : Ok G X RX0 cX0_put 3 d h0) (hr : (cxm X).sig.returnType = none) (hd : 1 ≤ d) {a0 : Nat} {x1 : Int32} {h : AH} {z : (AH)} (hf : X0_put a0 x1 h = some z) (hk : Q = QM G X h0 none z) {lv : List (Nat × AV)} (hl : lle lv [(0, vr (some a0)), (1, vi x1)]) : V G X 3 h0 Q h 0 lv [] := by
  refine V.sub hl ?_
  unfold X0_put at hf
  refine v_bipush ok 24 dX0_put_0 rfl ?_
  refine v_istore_n ok 2 dX0_put_2 rfl (by decide) ?_
  exact W_X0_put_3 ok hr hd hf hk ⟨rfl, rfl, rfl, trivial⟩
theorem M_X0_put {G : GT} {l : Launch} (hG : Glob G) {d : Nat} (hd : 1 ≤ d) {a0 : Nat} {x1 : Int32} {h : AH} {h' : AH} (hf : X0_put a0 x1 h = some h') : MM G l yX0_put cX0_put 3 none d [vr (some a0), vi x1] h none h' := by
  refine mm_of hG (plainFor_of_name (by decide)) (Nat.le_of_ble_eq_true rfl) (fun X hX ok hr hnm => ?_)
  subst hX
  exact W_X0_put ok hr hd hf rfl ⟨rfl, rfl, trivial⟩
theorem cw_X0_refuses : CW yX0_refuses cX0_refuses 2 (Option.some Jvm.ClassFile.FieldType.int) 1 := ⟨q648, q168, ⟨by decide, by decide⟩, by decide +kernel, by decide⟩
theorem W_X0_refuses {G : GT} {X : CX} {d : Nat} {h0 : AH} {Q : State → Prop} (ok : Ok G X RX0 cX0_refuses 2 d h0) (hr : (cxm X).sig.returnType = (Option.some Jvm.ClassFile.FieldType.int)) (hd : 1 ≤ d) {a0 : Nat} {x1 : Int32} {h : AH} {z : (Int32 × AH)} (hf : X0_refuses a0 x1 h = some z) (hk : Q = QM G X h0 (some (vi z.1)) z.2) {lv : List (Nat × AV)} (hl : lle lv [(0, vr (some a0)), (1, vi x1)]) : V G X 2 h0 Q h 0 lv [] := by
  refine V.sub hl ?_
  unfold X0_refuses at hf
  refine v_aload_n ok 0 dX0_refuses_0 rfl rfl ?_
  refine v_gR ok fl_X0_62 (by first | exact Or.inl ⟨_, rfl⟩ | exact Or.inr ⟨_, rfl⟩) dX0_refuses_1 hf (fun v1 hf => ?_)
  refine v_iload_n ok 1 dX0_refuses_4 rfl rfl ?_
  refine v_dup2 ok dX0_refuses_5 rfl rfl ?_
  refine v_iald ok rfl dX0_refuses_6 hf (fun v2 hf => ?_)
  refine v_iconst ok 1 dX0_refuses_7 rfl ?_
  refine v_iadd ok dX0_refuses_8 ?_
  refine v_iast ok rfl dX0_refuses_9 hf (fun h3 hf => ?_)
  refine v_iconst ok (-1) dX0_refuses_10 rfl ?_
  exact v_iret ok hr (by cases hf; exact hk) dX0_refuses_11
theorem M_X0_refuses {G : GT} {l : Launch} (hG : Glob G) {d : Nat} (hd : 1 ≤ d) {a0 : Nat} {x1 : Int32} {h : AH} {v : Int32} {h' : AH} (hf : X0_refuses a0 x1 h = some (v, h')) : MM G l yX0_refuses cX0_refuses 2 (Option.some Jvm.ClassFile.FieldType.int) d [vr (some a0), vi x1] h (some (vi v)) h' := by
  refine mm_of hG (plainFor_of_name (by decide)) (Nat.le_of_ble_eq_true rfl) (fun X hX ok hr hnm => ?_)
  subst hX
  exact W_X0_refuses ok hr hd hf rfl ⟨rfl, rfl, trivial⟩
theorem cw_X0_feed : CW yX0_feed cX0_feed 6 (Option.some Jvm.ClassFile.FieldType.int) 5 := ⟨q644, q168, ⟨by decide, by decide⟩, by decide +kernel, by decide⟩
theorem W_X0_feed {G : GT} {X : CX} {d : Nat} {h0 : AH} {Q : State → Prop} (ok : Ok G X RX0 cX0_feed 6 d h0) (hr : (cxm X).sig.returnType = (Option.some Jvm.ClassFile.FieldType.int)) (hd : 2 ≤ d) {a0 : Nat} {x1 : Int32} {x2 : Int32} {x3 : Int32} {x4 : Int32} {x5 : Int32} {h : AH} {z : (Int32 × AH)} (hf : X0_feed a0 x1 x2 x3 x4 x5 h = some z) (hk : Q = QM G X h0 (some (vi z.1)) z.2) {lv : List (Nat × AV)} (hl : lle lv [(0, vr (some a0)), (1, vi x1), (2, vi x2), (3, vi x3), (4, vi x4), (5, vi x5)]) : V G X 6 h0 Q h 0 lv [] := by
  refine V.sub hl ?_
  unfold X0_feed at hf
  refine v_aload_n ok 0 dX0_feed_0 rfl rfl ?_
  refine v_gI ok fl_X0_94 (fun _ _ _ => rfl) dX0_feed_1 hf (fun v1 hf => ?_)
  refine v_bipush ok 20 dX0_feed_4 rfl ?_
  refine v_iadd ok dX0_feed_6 ?_
  refine v_sipush ok 1600 dX0_feed_7 rfl ?_
  refine v_icmp_le ok 19 dX0_feed_10 rfl hf (fun hf => ?_) (fun hf => ?_)
  ·
    refine v_aload_n ok 0 dX0_feed_19 rfl rfl ?_
    refine v_iload_n ok 1 dX0_feed_20 rfl rfl ?_
    refine v_cVv ok (RX0, TX0, 18) cf_0.1 [vi x1] (F := fun a => X0_put a x1 h) (fun a h1 _ hv => M_X0_put ok.2.2.2.2.2.2.1 (d := 1) (Nat.le_refl _) hv) (by exact Nat.le_trans (by decide) hd) cw_X0_put q649 q651 qs5 dX0_feed_21 [] rfl (Nat.le_of_ble_eq_true rfl) hf (fun h2 hf => ?_)
    refine v_aload_n ok 0 dX0_feed_24 rfl rfl ?_
    refine v_iload_n ok 2 dX0_feed_25 rfl rfl ?_
    refine v_cVv ok (RX0, TX0, 18) cf_0.1 [vi x2] (F := fun a => X0_put a x2 h2) (fun a h1 _ hv => M_X0_put ok.2.2.2.2.2.2.1 (d := 1) (Nat.le_refl _) hv) (by exact Nat.le_trans (by decide) hd) cw_X0_put q649 q651 qs5 dX0_feed_26 [] rfl (Nat.le_of_ble_eq_true rfl) hf (fun h3 hf => ?_)
    refine v_aload_n ok 0 dX0_feed_29 rfl rfl ?_
    refine v_iload_n ok 3 dX0_feed_30 rfl rfl ?_
    refine v_cVv ok (RX0, TX0, 18) cf_0.1 [vi x3] (F := fun a => X0_put a x3 h3) (fun a h1 _ hv => M_X0_put ok.2.2.2.2.2.2.1 (d := 1) (Nat.le_refl _) hv) (by exact Nat.le_trans (by decide) hd) cw_X0_put q649 q651 qs5 dX0_feed_31 [] rfl (Nat.le_of_ble_eq_true rfl) hf (fun h4 hf => ?_)
    refine v_aload_n ok 0 dX0_feed_34 rfl rfl ?_
    refine v_iload ok dX0_feed_35 rfl ?_
    refine v_cVv ok (RX0, TX0, 18) cf_0.1 [vi x4] (F := fun a => X0_put a x4 h4) (fun a h1 _ hv => M_X0_put ok.2.2.2.2.2.2.1 (d := 1) (Nat.le_refl _) hv) (by exact Nat.le_trans (by decide) hd) cw_X0_put q649 q651 qs5 dX0_feed_37 [] rfl (Nat.le_of_ble_eq_true rfl) hf (fun h5 hf => ?_)
    refine v_aload_n ok 0 dX0_feed_40 rfl rfl ?_
    refine v_iload ok dX0_feed_41 rfl ?_
    refine v_cVv ok (RX0, TX0, 18) cf_0.1 [vi x5] (F := fun a => X0_put a x5 h5) (fun a h1 _ hv => M_X0_put ok.2.2.2.2.2.2.1 (d := 1) (Nat.le_refl _) hv) (by exact Nat.le_trans (by decide) hd) cw_X0_put q649 q651 qs5 dX0_feed_43 [] rfl (Nat.le_of_ble_eq_true rfl) hf (fun h6 hf => ?_)
    refine v_aload_n ok 0 dX0_feed_46 rfl rfl ?_
    refine v_gI ok fl_X0_94 (fun _ _ _ => rfl) dX0_feed_47 hf (fun v7 hf => ?_)
    exact v_iret ok hr (by cases hf; exact hk) dX0_feed_50
  ·
    refine v_aload_n ok 0 dX0_feed_13 rfl rfl ?_
    refine v_iconst ok 0 dX0_feed_14 rfl ?_
    refine v_cVi ok (RX0, TX0, 18) cf_0.1 [vi 0] (F := fun a => X0_refuses a 0 h) (fun a v h1 _ hv => M_X0_refuses ok.2.2.2.2.2.2.1 (d := 1) (Nat.le_refl _) hv) (by exact Nat.le_trans (by decide) hd) cw_X0_refuses q645 q647 qs4 dX0_feed_15 [] rfl (Nat.le_of_ble_eq_true rfl) hf (fun v8 h9 hf => ?_)
    exact v_iret ok hr (by cases hf; exact hk) dX0_feed_18
theorem M_X0_feed {G : GT} {l : Launch} (hG : Glob G) {d : Nat} (hd : 2 ≤ d) {a0 : Nat} {x1 : Int32} {x2 : Int32} {x3 : Int32} {x4 : Int32} {x5 : Int32} {h : AH} {v : Int32} {h' : AH} (hf : X0_feed a0 x1 x2 x3 x4 x5 h = some (v, h')) : MM G l yX0_feed cX0_feed 6 (Option.some Jvm.ClassFile.FieldType.int) d [vr (some a0), vi x1, vi x2, vi x3, vi x4, vi x5] h (some (vi v)) h' := by
  refine mm_of hG (plainFor_of_name (by decide)) (Nat.le_of_ble_eq_true rfl) (fun X hX ok hr hnm => ?_)
  subst hX
  exact W_X0_feed ok hr hd hf rfl ⟨rfl, rfl, rfl, rfl, rfl, rfl, trivial⟩
theorem cw_X0_end : CW yX0_end cX0_end 2 (Option.some Jvm.ClassFile.FieldType.boolean) 1 := ⟨q656, q168, ⟨by decide, by decide⟩, by decide +kernel, by decide⟩
theorem W_X0_end_12 {G : GT} {X : CX} {d : Nat} {h0 : AH} {Q : State → Prop} (ok : Ok G X RX0 cX0_end 2 d h0) (hr : (cxm X).sig.returnType = (Option.some Jvm.ClassFile.FieldType.boolean)) (hd : 2 ≤ d) {a0 : Nat} {h : AH} {z : (Int32 × AH)} (hf : X0_end_12 a0 h = some z) (hk : Q = QM G X h0 (some (vi z.1)) z.2) {lv : List (Nat × AV)} (hl : lle lv [(0, vr (some a0))]) : V G X 2 h0 Q h 12 lv [] := by
  refine V.sub hl ?_
  unfold X0_end_12 at hf
  refine v_aload_n ok 0 dX0_end_12 rfl rfl ?_
  refine v_iconst ok 0 dX0_end_13 rfl ?_
  refine v_cVi ok (RX0, TX0, 18) cf_0.1 [vi 0] (F := fun a => X0_refuses a 0 h) (fun a v h1 _ hv => M_X0_refuses ok.2.2.2.2.2.2.1 (d := 1) (Nat.le_refl _) hv) (by exact Nat.le_trans (by decide) hd) cw_X0_refuses q645 q647 qs4 dX0_end_14 [] rfl (Nat.le_of_ble_eq_true rfl) hf (fun v1 h2 hf => ?_)
  refine v_if_lt ok 24 dX0_end_17 rfl hf (fun hf => ?_) (fun hf => ?_)
  ·
    refine v_iconst ok 0 dX0_end_24 rfl ?_
    exact v_zretL ok hr (by decide) (by decide) (by cases hf; exact hk) dX0_end_25
  ·
    refine v_iconst ok 1 dX0_end_20 rfl ?_
    refine v_goto ok 25 dX0_end_21 rfl ?_
    exact v_zretL ok hr (by decide) (by decide) (by cases hf; exact hk) dX0_end_25
theorem W_X0_end {G : GT} {X : CX} {d : Nat} {h0 : AH} {Q : State → Prop} (ok : Ok G X RX0 cX0_end 2 d h0) (hr : (cxm X).sig.returnType = (Option.some Jvm.ClassFile.FieldType.boolean)) (hd : 2 ≤ d) {a0 : Nat} {x1 : Int32} {h : AH} {z : (Int32 × AH)} (hf : X0_end a0 x1 h = some z) (hk : Q = QM G X h0 (some (vi z.1)) z.2) {lv : List (Nat × AV)} (hl : lle lv [(0, vr (some a0)), (1, vi x1)]) : V G X 2 h0 Q h 0 lv [] := by
  refine V.sub hl ?_
  unfold X0_end at hf
  refine v_iload_n ok 1 dX0_end_0 rfl rfl ?_
  refine v_if_lt ok 12 dX0_end_1 rfl hf (fun hf => ?_) (fun hf => ?_)
  ·
    exact W_X0_end_12 ok hr hd hf hk ⟨rfl, trivial⟩
  ·
    refine v_iload_n ok 1 dX0_end_4 rfl rfl ?_
    refine v_aload_n ok 0 dX0_end_5 rfl rfl ?_
    refine v_gI ok fl_X0_94 (fun _ _ _ => rfl) dX0_end_6 hf (fun v3 hf => ?_)
    refine v_icmp_le ok 26 dX0_end_9 rfl hf (fun hf => ?_) (fun hf => ?_)
    ·
      refine v_aload_n ok 0 dX0_end_26 rfl rfl ?_
      refine v_iload_n ok 1 dX0_end_27 rfl rfl ?_
      refine v_pI ok fl_X0_94 ⟨fun _ _ _ => rfl, rfl⟩ (FN.of cf_0.1 rfl) dX0_end_28 hf (fun h4 hf => ?_)
      refine v_iconst ok 1 dX0_end_31 rfl ?_
      exact v_zretL ok hr (by decide) (by decide) (by cases hf; exact hk) dX0_end_32
    ·
      exact W_X0_end_12 ok hr hd hf hk ⟨rfl, trivial⟩
theorem M_X0_end {G : GT} {l : Launch} (hG : Glob G) {d : Nat} (hd : 2 ≤ d) {a0 : Nat} {x1 : Int32} {h : AH} {v : Int32} {h' : AH} (hf : X0_end a0 x1 h = some (v, h')) : MM G l yX0_end cX0_end 2 (Option.some Jvm.ClassFile.FieldType.boolean) d [vr (some a0), vi x1] h (some (vi v)) h' := by
  refine mm_of hG (plainFor_of_name (by decide)) (Nat.le_of_ble_eq_true rfl) (fun X hX ok hr hnm => ?_)
  subst hX
  exact W_X0_end ok hr hd hf rfl ⟨rfl, rfl, trivial⟩
theorem cw_X0_taken : CW yX0_taken cX0_taken 2 (Option.some Jvm.ClassFile.FieldType.int) 0 := ⟨q665, q168, ⟨by decide, by decide⟩, by decide +kernel, by decide⟩
theorem W_X0_taken {G : GT} {X : CX} {d : Nat} {h0 : AH} {Q : State → Prop} (ok : Ok G X RX0 cX0_taken 2 d h0) (hr : (cxm X).sig.returnType = (Option.some Jvm.ClassFile.FieldType.int)) (hd : 1 ≤ d) {a0 : Nat} {h : AH} {z : (Int32 × AH)} (hf : X0_taken a0 h = some z) (hk : Q = QM G X h0 (some (vi z.1)) z.2) {lv : List (Nat × AV)} (hl : lle lv [(0, vr (some a0))]) : V G X 2 h0 Q h 0 lv [] := by
  refine V.sub hl ?_
  unfold X0_taken at hf
  refine v_aload_n ok 0 dX0_taken_0 rfl rfl ?_
  refine v_gI ok fl_X0_94 (fun _ _ _ => rfl) dX0_taken_1 hf (fun v1 hf => ?_)
  refine v_istore_n ok 1 dX0_taken_4 rfl (by decide) ?_
  refine v_aload_n ok 0 dX0_taken_5 rfl rfl ?_
  refine v_iconst ok 0 dX0_taken_6 rfl ?_
  refine v_pI ok fl_X0_94 ⟨fun _ _ _ => rfl, rfl⟩ (FN.of cf_0.1 rfl) dX0_taken_7 hf (fun h2 hf => ?_)
  refine v_iload_n ok 1 dX0_taken_10 rfl rfl ?_
  exact v_iret ok hr (by cases hf; exact hk) dX0_taken_11
theorem M_X0_taken {G : GT} {l : Launch} (hG : Glob G) {d : Nat} (hd : 1 ≤ d) {a0 : Nat} {h : AH} {v : Int32} {h' : AH} (hf : X0_taken a0 h = some (v, h')) : MM G l yX0_taken cX0_taken 2 (Option.some Jvm.ClassFile.FieldType.int) d [vr (some a0)] h (some (vi v)) h' := by
  refine mm_of hG (plainFor_of_name (by decide)) (Nat.le_of_ble_eq_true rfl) (fun X hX ok hr hnm => ?_)
  subst hX
  exact W_X0_taken ok hr hd hf rfl ⟨rfl, trivial⟩
