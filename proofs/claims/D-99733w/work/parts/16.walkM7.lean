set_option maxRecDepth 100000
theorem cw_X7_years : CW yX7_years cX7_years 2 (Option.some Jvm.ClassFile.FieldType.int) 1 := ⟨q2618, q185, ⟨by decide, by decide⟩, by decide +kernel, by decide⟩
theorem W_X7_years {G : GT} {X : CX} {d : Nat} {h0 : AH} {Q : State → Prop} (ok : Ok G X RX7 cX7_years 2 d h0) (hr : (cxm X).sig.returnType = (Option.some Jvm.ClassFile.FieldType.int)) (hd : 11 ≤ d) {a0 : Nat} {x1 : Int32} {h : AH} {z : (Int32 × AH)} (hf : X7_years a0 x1 h = some z) (hk : Q = QM G X h0 (some (vi z.1)) z.2) {lv : List (Nat × AV)} (hl : lle lv [(0, vr (some a0)), (1, vi x1)]) : V G X 2 h0 Q h 0 lv [] := by
  refine V.sub hl ?_
  unfold X7_years at hf
  refine v_aload_n ok 0 dX7_years_0 rfl rfl ?_
  refine v_iload_n ok 1 dX7_years_1 rfl rfl ?_
  refine v_iconst ok 1 dX7_years_2 rfl ?_
  refine v_bipush ok 100 dX7_years_3 rfl ?_
  refine v_cVi ok (RX7, TX7, 117) cf_7.1 [vi x1, vi 1, vi 100] (F := fun a => X7_isAhead a x1 1 100 h) (fun a v h1 _ hv => M_X7_isAhead ok.2.2.2.2.2.2.1 (d := 2) (Nat.le_refl _) hv) (by exact Nat.le_trans (by decide) hd) cw_X7_isAhead q2496 q2498 qs133 dX7_years_5 [] rfl (Nat.le_of_ble_eq_true rfl) hf (fun v1 h2 hf => ?_)
  refine v_if_ne ok 17 dX7_years_8 rfl hf (fun hf => ?_) (fun hf => ?_)
  ·
    refine v_aload_n ok 0 dX7_years_17 rfl rfl ?_
    refine v_cVv ok (RX7, TX7, 117) cf_7.1 [] (F := fun a => X7_keeps a h2) (fun a h1 _ hv => M_X7_keeps ok.2.2.2.2.2.2.1 (d := 1) (Nat.le_refl _) hv) (by exact Nat.le_trans (by decide) hd) cw_X7_keeps q2623 q2625 qs154 dX7_years_18 [] rfl (Nat.le_of_ble_eq_true rfl) hf (fun h3 hf => ?_)
    refine v_aload_n ok 0 dX7_years_21 rfl rfl ?_
    refine v_iconst ok 0 dX7_years_22 rfl ?_
    refine v_pI ok fl_X7_493 ⟨fun _ _ _ => rfl, rfl⟩ (FN.of cf_7.1 rfl) dX7_years_23 hf (fun h4 hf => ?_)
    refine v_aload_n ok 0 dX7_years_26 rfl rfl ?_
    refine v_iload_n ok 1 dX7_years_27 rfl rfl ?_
    refine v_cVv ok (RX7, TX7, 117) cf_7.1 [vi x1] (F := fun a => X7_yearsGo a x1 h4) (fun a h1 _ hv => M_X7_yearsGo ok.2.2.2.2.2.2.1 (d := 10) (Nat.le_refl _) hv) (by exact Nat.le_trans (by decide) hd) cw_X7_yearsGo q2504 q2506 qs135 dX7_years_28 [] rfl (Nat.le_of_ble_eq_true rfl) hf (fun h5 hf => ?_)
    refine v_aload_n ok 0 dX7_years_31 rfl rfl ?_
    refine v_gI ok fl_X7_493 (fun _ _ _ => rfl) dX7_years_32 hf (fun v6 hf => ?_)
    exact v_iret ok hr (by cases hf; exact hk) dX7_years_35
  ·
    refine v_aload_n ok 0 dX7_years_11 rfl rfl ?_
    refine v_iconst ok 3 dX7_years_12 rfl ?_
    refine v_cVi ok (RX7, TX7, 117) cf_7.1 [vi 3] (F := fun a => X7_refuses a 3 h2) (fun a v h1 _ hv => M_X7_refuses ok.2.2.2.2.2.2.1 (d := 1) (Nat.le_refl _) hv) (by exact Nat.le_trans (by decide) hd) cw_X7_refuses q2619 q2621 qs153 dX7_years_13 [] rfl (Nat.le_of_ble_eq_true rfl) hf (fun v7 h8 hf => ?_)
    exact v_iret ok hr (by cases hf; exact hk) dX7_years_16
theorem M_X7_years {G : GT} {l : Launch} (hG : Glob G) {d : Nat} (hd : 11 ≤ d) {a0 : Nat} {x1 : Int32} {h : AH} {v : Int32} {h' : AH} (hf : X7_years a0 x1 h = some (v, h')) : MM G l yX7_years cX7_years 2 (Option.some Jvm.ClassFile.FieldType.int) d [vr (some a0), vi x1] h (some (vi v)) h' := by
  refine mm_of hG (plainFor_of_name (by decide)) (Nat.le_of_ble_eq_true rfl) (fun X hX ok hr hnm => ?_)
  subst hX
  exact W_X7_years ok hr hd hf rfl ⟨rfl, rfl, trivial⟩
theorem cw_X7_seed : CW yX7_seed cX7_seed 2 (Option.some Jvm.ClassFile.FieldType.boolean) 1 := ⟨q2630, q185, ⟨by decide, by decide⟩, by decide +kernel, by decide⟩
theorem W_X7_seed {G : GT} {X : CX} {d : Nat} {h0 : AH} {Q : State → Prop} (ok : Ok G X RX7 cX7_seed 2 d h0) (hr : (cxm X).sig.returnType = (Option.some Jvm.ClassFile.FieldType.boolean)) (hd : 1 ≤ d) {a0 : Nat} {x1 : Int32} {h : AH} {z : (Int32 × AH)} (hf : X7_seed a0 x1 h = some z) (hk : Q = QM G X h0 (some (vi z.1)) z.2) {lv : List (Nat × AV)} (hl : lle lv [(0, vr (some a0)), (1, vi x1)]) : V G X 2 h0 Q h 0 lv [] := by
  refine V.sub hl ?_
  unfold X7_seed at hf
  refine v_iload_n ok 1 dX7_seed_0 rfl rfl ?_
  refine v_if_ge ok 16 dX7_seed_1 rfl hf (fun hf => ?_) (fun hf => ?_)
  ·
    refine v_aload_n ok 0 dX7_seed_16 rfl rfl ?_
    refine v_iload_n ok 1 dX7_seed_17 rfl rfl ?_
    refine v_i2l ok dX7_seed_18 ?_
    refine v_pL ok fl_X7_165 rfl (FN.of cf_7.1 rfl) dX7_seed_19 hf (fun h1 hf => ?_)
    refine v_iconst ok 1 dX7_seed_22 rfl ?_
    exact v_zretL ok hr (by decide) (by decide) (by cases hf; exact hk) dX7_seed_23
  ·
    refine v_aload_n ok 0 dX7_seed_4 rfl rfl ?_
    refine v_gR ok fl_X7_17 (by first | exact Or.inl ⟨_, rfl⟩ | exact Or.inr ⟨_, rfl⟩) dX7_seed_5 hf (fun v2 hf => ?_)
    refine v_iconst ok 5 dX7_seed_8 rfl ?_
    refine v_dup2 ok dX7_seed_9 rfl rfl ?_
    refine v_iald ok rfl dX7_seed_10 hf (fun v3 hf => ?_)
    refine v_iconst ok 1 dX7_seed_11 rfl ?_
    refine v_iadd ok dX7_seed_12 ?_
    refine v_iast ok rfl dX7_seed_13 hf (fun h4 hf => ?_)
    refine v_iconst ok 0 dX7_seed_14 rfl ?_
    exact v_zretL ok hr (by decide) (by decide) (by cases hf; exact hk) dX7_seed_15
theorem M_X7_seed {G : GT} {l : Launch} (hG : Glob G) {d : Nat} (hd : 1 ≤ d) {a0 : Nat} {x1 : Int32} {h : AH} {v : Int32} {h' : AH} (hf : X7_seed a0 x1 h = some (v, h')) : MM G l yX7_seed cX7_seed 2 (Option.some Jvm.ClassFile.FieldType.boolean) d [vr (some a0), vi x1] h (some (vi v)) h' := by
  refine mm_of hG (plainFor_of_name (by decide)) (Nat.le_of_ble_eq_true rfl) (fun X hX ok hr hnm => ?_)
  subst hX
  exact W_X7_seed ok hr hd hf rfl ⟨rfl, rfl, trivial⟩
theorem cw_X7_drawOf : CW yX7_drawOf cX7_drawOf 2 (Option.some Jvm.ClassFile.FieldType.int) 1 := ⟨q2638, q185, ⟨by decide, by decide⟩, by decide +kernel, by decide⟩
theorem W_X7_drawOf {G : GT} {X : CX} {d : Nat} {h0 : AH} {Q : State → Prop} (ok : Ok G X RX7 cX7_drawOf 2 d h0) (hr : (cxm X).sig.returnType = (Option.some Jvm.ClassFile.FieldType.int)) (hd : 1 ≤ d) {a0 : Nat} {x1 : Int32} {h : AH} {z : (Int32 × AH)} (hf : X7_drawOf a0 x1 h = some z) (hk : Q = QM G X h0 (some (vi z.1)) z.2) {lv : List (Nat × AV)} (hl : lle lv [(0, vr (some a0)), (1, vi x1)]) : V G X 2 h0 Q h 0 lv [] := by
  refine V.sub hl ?_
  unfold X7_drawOf at hf
  refine v_aload_n ok 0 dX7_drawOf_0 rfl rfl ?_
  refine v_ldc2 ok q2639 dX7_drawOf_1 ?_
  refine v_aload_n ok 0 dX7_drawOf_4 rfl rfl ?_
  refine v_gL ok fl_X7_165 rfl dX7_drawOf_5 hf (fun v1 hf => ?_)
  refine v_lmul ok dX7_drawOf_8 ?_
  refine v_ldc2 ok q2640 dX7_drawOf_9 ?_
  refine v_ladd ok dX7_drawOf_12 ?_
  refine v_ldc2 ok q2641 dX7_drawOf_13 ?_
  refine v_lrem ok dX7_drawOf_16 hf (fun hf => ?_)
  refine v_pL ok fl_X7_165 rfl (FN.of cf_7.1 rfl) dX7_drawOf_17 hf (fun h2 hf => ?_)
  refine v_aload_n ok 0 dX7_drawOf_20 rfl rfl ?_
  refine v_gL ok fl_X7_165 rfl dX7_drawOf_21 hf (fun v3 hf => ?_)
  refine v_ldc2 ok q2642 dX7_drawOf_24 ?_
  refine v_ldiv ok dX7_drawOf_27 hf (fun hf => ?_)
  refine v_iload_n ok 1 dX7_drawOf_28 rfl rfl ?_
  refine v_i2l ok dX7_drawOf_29 ?_
  refine v_lrem ok dX7_drawOf_30 hf (fun hf => ?_)
  refine v_l2i ok dX7_drawOf_31 ?_
  exact v_iret ok hr (by cases hf; exact hk) dX7_drawOf_32
theorem M_X7_drawOf {G : GT} {l : Launch} (hG : Glob G) {d : Nat} (hd : 1 ≤ d) {a0 : Nat} {x1 : Int32} {h : AH} {v : Int32} {h' : AH} (hf : X7_drawOf a0 x1 h = some (v, h')) : MM G l yX7_drawOf cX7_drawOf 2 (Option.some Jvm.ClassFile.FieldType.int) d [vr (some a0), vi x1] h (some (vi v)) h' := by
  refine mm_of hG (plainFor_of_name (by decide)) (Nat.le_of_ble_eq_true rfl) (fun X hX ok hr hnm => ?_)
  subst hX
  exact W_X7_drawOf ok hr hd hf rfl ⟨rfl, rfl, trivial⟩
theorem cw_X7_hails : CW yX7_hails cX7_hails 5 (Option.some Jvm.ClassFile.FieldType.int) 0 := ⟨q2646, q185, ⟨by decide, by decide⟩, by decide +kernel, by decide⟩
theorem W_X7_hails {G : GT} {X : CX} {d : Nat} {h0 : AH} {Q : State → Prop} (ok : Ok G X RX7 cX7_hails 5 d h0) (hr : (cxm X).sig.returnType = (Option.some Jvm.ClassFile.FieldType.int)) (hd : 2 ≤ d) {a0 : Nat} {h : AH} {z : (Int32 × AH)} (hf : X7_hails a0 h = some z) (hk : Q = QM G X h0 (some (vi z.1)) z.2) {lv : List (Nat × AV)} (hl : lle lv [(0, vr (some a0))]) : V G X 5 h0 Q h 0 lv [] := by
  refine V.sub hl ?_
  unfold X7_hails at hf
  refine v_aload_n ok 0 dX7_hails_0 rfl rfl ?_
  refine v_aload_n ok 0 dX7_hails_1 rfl rfl ?_
  refine v_cVi ok (RX7, TX7, 117) cf_7.1 [] (F := fun a => X7_boardMany a h) (fun a v h1 _ hv => M_X7_boardMany ok.2.2.2.2.2.2.1 (d := 1) (Nat.le_refl _) hv) (by exact Nat.le_trans (by decide) hd) cw_X7_boardMany q2369 q2371 qs115 dX7_hails_2 [vr (some a0)] rfl (Nat.le_of_ble_eq_true rfl) hf (fun v1 h2 hf => ?_)
  refine v_cVi ok (RX7, TX7, 117) cf_7.1 [vi v1] (F := fun a => X7_drawOf a v1 h2) (fun a v h1 _ hv => M_X7_drawOf ok.2.2.2.2.2.2.1 (d := 1) (Nat.le_refl _) hv) (by exact Nat.le_trans (by decide) hd) cw_X7_drawOf q2635 q2637 qs155 dX7_hails_5 [] rfl (Nat.le_of_ble_eq_true rfl) hf (fun v3 h4 hf => ?_)
  refine v_istore_n ok 1 dX7_hails_8 rfl (by decide) ?_
  refine v_aload_n ok 0 dX7_hails_9 rfl rfl ?_
  refine v_aload_n ok 0 dX7_hails_10 rfl rfl ?_
  refine v_aload_n ok 0 dX7_hails_11 rfl rfl ?_
  refine v_iload_n ok 1 dX7_hails_12 rfl rfl ?_
  refine v_cVi ok (RX7, TX7, 117) cf_7.1 [vi v3] (F := fun a => X7_wordOf a v3 h4) (fun a v h1 _ hv => M_X7_wordOf ok.2.2.2.2.2.2.1 (d := 1) (Nat.le_refl _) hv) (by exact Nat.le_trans (by decide) hd) cw_X7_wordOf q2413 q2415 qs122 dX7_hails_13 [vr (some a0), vr (some a0)] rfl (Nat.le_of_ble_eq_true rfl) hf (fun v5 h6 hf => ?_)
  refine v_cVi ok (RX7, TX7, 117) cf_7.1 [vi v5] (F := fun a => X7_longOf a v5 h6) (fun a v h1 _ hv => M_X7_longOf ok.2.2.2.2.2.2.1 (d := 1) (Nat.le_refl _) hv) (by exact Nat.le_trans (by decide) hd) cw_X7_longOf q2337 q2339 qs109 dX7_hails_16 [vr (some a0)] rfl (Nat.le_of_ble_eq_true rfl) hf (fun v7 h8 hf => ?_)
  refine v_cVi ok (RX7, TX7, 117) cf_7.1 [vi v7] (F := fun a => X7_drawOf a v7 h8) (fun a v h1 _ hv => M_X7_drawOf ok.2.2.2.2.2.2.1 (d := 1) (Nat.le_refl _) hv) (by exact Nat.le_trans (by decide) hd) cw_X7_drawOf q2635 q2637 qs155 dX7_hails_19 [] rfl (Nat.le_of_ble_eq_true rfl) hf (fun v9 h10 hf => ?_)
  refine v_istore_n ok 2 dX7_hails_22 rfl (by decide) ?_
  refine v_aload_n ok 0 dX7_hails_23 rfl rfl ?_
  refine v_bipush ok 15 dX7_hails_24 rfl ?_
  refine v_cVi ok (RX7, TX7, 117) cf_7.1 [vi 15] (F := fun a => X7_drawOf a 15 h10) (fun a v h1 _ hv => M_X7_drawOf ok.2.2.2.2.2.2.1 (d := 1) (Nat.le_refl _) hv) (by exact Nat.le_trans (by decide) hd) cw_X7_drawOf q2635 q2637 qs155 dX7_hails_26 [] rfl (Nat.le_of_ble_eq_true rfl) hf (fun v11 h12 hf => ?_)
  refine v_istore_n ok 3 dX7_hails_29 rfl (by decide) ?_
  refine v_aload_n ok 0 dX7_hails_30 rfl rfl ?_
  refine v_iload_n ok 1 dX7_hails_31 rfl rfl ?_
  refine v_iload_n ok 2 dX7_hails_32 rfl rfl ?_
  refine v_cVi ok (RX7, TX7, 117) cf_7.1 [vi v3, vi v9] (F := fun a => X7_glyphAt a v3 v9 h12) (fun a v h1 _ hv => M_X7_glyphAt ok.2.2.2.2.2.2.1 (d := 1) (Nat.le_refl _) hv) (by exact Nat.le_trans (by decide) hd) cw_X7_glyphAt q2377 q2379 qs117 dX7_hails_33 [] rfl (Nat.le_of_ble_eq_true rfl) hf (fun v13 h14 hf => ?_)
  refine v_iload_n ok 3 dX7_hails_36 rfl rfl ?_
  refine v_ishr ok dX7_hails_37 ?_
  refine v_iconst ok 1 dX7_hails_38 rfl ?_
  refine v_iand ok dX7_hails_39 ?_
  refine v_istore ok dX7_hails_40 (by decide) ?_
  refine v_aload_n ok 0 dX7_hails_42 rfl rfl ?_
  refine v_gR ok fl_X7_132 (by first | exact Or.inl ⟨_, rfl⟩ | exact Or.inr ⟨_, rfl⟩) dX7_hails_43 hf (fun v15 hf => ?_)
  refine v_iconst ok 3 dX7_hails_46 rfl ?_
  refine v_bipush ok 8 dX7_hails_47 rfl ?_
  refine v_iload_n ok 1 dX7_hails_49 rfl rfl ?_
  refine v_imul ok dX7_hails_50 ?_
  refine v_iadd ok dX7_hails_51 ?_
  refine v_iload_n ok 2 dX7_hails_52 rfl rfl ?_
  refine v_iadd ok dX7_hails_53 ?_
  refine v_aload_n ok 0 dX7_hails_54 rfl rfl ?_
  refine v_iload_n ok 1 dX7_hails_55 rfl rfl ?_
  refine v_iload_n ok 2 dX7_hails_56 rfl rfl ?_
  refine v_cVi ok (RX7, TX7, 117) cf_7.1 [vi v3, vi v9] (F := fun a => X7_glyphAt a v3 v9 h14) (fun a v h1 _ hv => M_X7_glyphAt ok.2.2.2.2.2.2.1 (d := 1) (Nat.le_refl _) hv) (by exact Nat.le_trans (by decide) hd) cw_X7_glyphAt q2377 q2379 qs117 dX7_hails_57 [vi ((3 + (8 * v3)) + v9), vr v15] rfl (Nat.le_of_ble_eq_true rfl) hf (fun v16 h17 hf => ?_)
  refine v_iconst ok 1 dX7_hails_60 rfl ?_
  refine v_iload_n ok 3 dX7_hails_61 rfl rfl ?_
  refine v_ishl ok dX7_hails_62 ?_
  refine v_iconst ok (-1) dX7_hails_63 rfl ?_
  refine v_ixor ok dX7_hails_64 ?_
  refine v_iand ok dX7_hails_65 ?_
  refine v_iast ok rfl dX7_hails_66 hf (fun h18 hf => ?_)
  refine v_iload ok dX7_hails_67 rfl ?_
  exact v_iret ok hr (by cases hf; exact hk) dX7_hails_69
theorem M_X7_hails {G : GT} {l : Launch} (hG : Glob G) {d : Nat} (hd : 2 ≤ d) {a0 : Nat} {h : AH} {v : Int32} {h' : AH} (hf : X7_hails a0 h = some (v, h')) : MM G l yX7_hails cX7_hails 5 (Option.some Jvm.ClassFile.FieldType.int) d [vr (some a0)] h (some (vi v)) h' := by
  refine mm_of hG (plainFor_of_name (by decide)) (Nat.le_of_ble_eq_true rfl) (fun X hX ok hr hnm => ?_)
  subst hX
  exact W_X7_hails ok hr hd hf rfl ⟨rfl, trivial⟩
theorem cw_X7_chance : CW yX7_chance cX7_chance 4 (Option.some Jvm.ClassFile.FieldType.int) 1 := ⟨q2634, q185, ⟨by decide, by decide⟩, by decide +kernel, by decide⟩
def pkX7_chance_25 (G : GT) (X : CX) (h0 : AH) (Q : State → Prop) (a0 : Nat) (x1 : Int32) (o : ((Int32 × Int32 × AH) ⊕ (Int32 × AH))) : Prop := match o with
  | .inl s => ∀ lv : List (Nat × AV), lle lv [(0, vr (some a0)), (1, vi x1), (2, vi s.1), (3, vi s.2.1)] → V G X 4 h0 Q s.2.2 25 lv []
  | .inr z => Q = QM G X h0 (some (vi z.1)) z.2
theorem W_X7_chance_63 {G : GT} {X : CX} {d : Nat} {h0 : AH} {Q : State → Prop} (ok : Ok G X RX7 cX7_chance 4 d h0) (hr : (cxm X).sig.returnType = (Option.some Jvm.ClassFile.FieldType.int)) (hd : 10 ≤ d) {a0 : Nat} {x1 : Int32} {x2 : Int32} {x3 : Int32} {h : AH} {z : ((Int32 × Int32 × AH) ⊕ (Int32 × AH))} (hf : X7_chance_63 a0 x1 x2 x3 h = some z) (hk : pkX7_chance_25 G X h0 Q a0 x1 z) {lv : List (Nat × AV)} (hl : lle lv [(0, vr (some a0)), (1, vi x1), (2, vi x2), (3, vi x3)]) : V G X 4 h0 Q h 63 lv [] := by
  refine V.sub hl ?_
  unfold X7_chance_63 at hf
  refine v_aload_n ok 0 dX7_chance_63 rfl rfl ?_
  refine v_cVv ok (RX7, TX7, 117) cf_7.1 [] (F := fun a => X7_yearGoes a h) (fun a h1 _ hv => M_X7_yearGoes ok.2.2.2.2.2.2.1 (d := 9) (Nat.le_refl _) hv) (by exact Nat.le_trans (by decide) hd) cw_X7_yearGoes q2512 q2514 qs137 dX7_chance_64 [] rfl (Nat.le_of_ble_eq_true rfl) hf (fun h1 hf => ?_)
  refine v_iinc ok x3 (x3 + 1) dX7_chance_67 rfl rfl (by decide) ?_
  refine v_goto ok 25 dX7_chance_70 rfl ?_
  cases hf; exact hk _ ⟨rfl, rfl, rfl, rfl, trivial⟩
theorem W_X7_chance_25b {G : GT} {X : CX} {d : Nat} {h0 : AH} {Q : State → Prop} (ok : Ok G X RX7 cX7_chance 4 d h0) (hr : (cxm X).sig.returnType = (Option.some Jvm.ClassFile.FieldType.int)) (hd : 10 ≤ d) {a0 : Nat} {x1 : Int32} {x2 : Int32} {x3 : Int32} {h : AH} {z : ((Int32 × Int32 × AH) ⊕ (Int32 × AH))} (hf : X7_chance_25b  a0 x1 x2 x3 h = some z) (hk : pkX7_chance_25 G X h0 Q a0 x1 z) {lv : List (Nat × AV)} (hl : lle lv [(0, vr (some a0)), (1, vi x1), (2, vi x2), (3, vi x3)]) : V G X 4 h0 Q h 25 lv [] := by
  refine V.sub hl ?_
  unfold X7_chance_25b at hf
  refine v_iload_n ok 3 dX7_chance_25 rfl rfl ?_
  refine v_iload_n ok 1 dX7_chance_26 rfl rfl ?_
  refine v_icmp_ge ok 73 dX7_chance_27 rfl hf (fun hf => ?_) (fun hf => ?_)
  ·
    refine v_iload_n ok 2 dX7_chance_73 rfl rfl ?_
    exact v_iret ok hr (by cases hf; exact hk) dX7_chance_74
  ·
    refine v_aload_n ok 0 dX7_chance_30 rfl rfl ?_
    refine v_cVv ok (RX7, TX7, 117) cf_7.1 [] (F := fun a => X7_laysSaid a h) (fun a h1 _ hv => M_X7_laysSaid ok.2.2.2.2.2.2.1 (d := 8) (Nat.le_refl _) hv) (by exact Nat.le_trans (by decide) hd) cw_X7_laysSaid q2508 q2510 qs136 dX7_chance_31 [] rfl (Nat.le_of_ble_eq_true rfl) hf (fun h2 hf => ?_)
    refine v_aload_n ok 0 dX7_chance_34 rfl rfl ?_
    refine v_bipush ok 100 dX7_chance_35 rfl ?_
    refine v_cVi ok (RX7, TX7, 117) cf_7.1 [vi 100] (F := fun a => X7_drawOf a 100 h2) (fun a v h1 _ hv => M_X7_drawOf ok.2.2.2.2.2.2.1 (d := 1) (Nat.le_refl _) hv) (by exact Nat.le_trans (by decide) hd) cw_X7_drawOf q2635 q2637 qs155 dX7_chance_37 [] rfl (Nat.le_of_ble_eq_true rfl) hf (fun v3 h4 hf => ?_)
    refine v_aload_n ok 0 dX7_chance_40 rfl rfl ?_
    refine v_gR ok fl_X7_120 (by first | exact Or.inl ⟨_, rfl⟩ | exact Or.inr ⟨_, rfl⟩) dX7_chance_41 hf (fun v5 hf => ?_)
    refine v_iconst ok 5 dX7_chance_44 rfl ?_
    refine v_iald ok rfl dX7_chance_45 hf (fun v6 hf => ?_)
    refine v_icmp_ge ok 63 dX7_chance_46 rfl hf (fun hf => ?_) (fun hf => ?_)
    ·
      exact W_X7_chance_63 ok hr hd hf hk ⟨rfl, rfl, rfl, rfl, trivial⟩
    ·
      refine v_aload_n ok 0 dX7_chance_49 rfl rfl ?_
      refine v_cVi ok (RX7, TX7, 117) cf_7.1 [] (F := fun a => X7_boardMany a h4) (fun a v h1 _ hv => M_X7_boardMany ok.2.2.2.2.2.2.1 (d := 1) (Nat.le_refl _) hv) (by exact Nat.le_trans (by decide) hd) cw_X7_boardMany q2369 q2371 qs115 dX7_chance_50 [] rfl (Nat.le_of_ble_eq_true rfl) hf (fun v7 h8 hf => ?_)
      refine v_if_le ok 63 dX7_chance_53 rfl hf (fun hf => ?_) (fun hf => ?_)
      ·
        exact W_X7_chance_63 ok hr hd hf hk ⟨rfl, rfl, rfl, rfl, trivial⟩
      ·
        refine v_iload_n ok 2 dX7_chance_56 rfl rfl ?_
        refine v_aload_n ok 0 dX7_chance_57 rfl rfl ?_
        refine v_cVi ok (RX7, TX7, 117) cf_7.1 [] (F := fun a => X7_hails a h8) (fun a v h1 _ hv => M_X7_hails ok.2.2.2.2.2.2.1 (d := 2) (Nat.le_refl _) hv) (by exact Nat.le_trans (by decide) hd) cw_X7_hails q2643 q2645 qs156 dX7_chance_58 [vi x2] rfl (Nat.le_of_ble_eq_true rfl) hf (fun v9 h10 hf => ?_)
        refine v_iadd ok dX7_chance_61 ?_
        refine v_istore_n ok 2 dX7_chance_62 rfl (by decide) ?_
        exact W_X7_chance_63 ok hr hd hf hk ⟨rfl, rfl, rfl, rfl, trivial⟩
theorem W_X7_chance_25 {G : GT} {X : CX} {d : Nat} {h0 : AH} {Q : State → Prop} (ok : Ok G X RX7 cX7_chance 4 d h0) (hr : (cxm X).sig.returnType = (Option.some Jvm.ClassFile.FieldType.int)) (hd : 10 ≤ d) {a0 : Nat} {x1 : Int32} {x2 : Int32} {x3 : Int32} {h : AH} {z : (Int32 × AH)} (hf : X7_chance_25  a0 x1 x2 x3 h = some z) (hk : Q = QM G X h0 (some (vi z.1)) z.2) {lv : List (Nat × AV)} (hl : lle lv [(0, vr (some a0)), (1, vi x1), (2, vi x2), (3, vi x3)]) : V G X 4 h0 Q h 25 lv [] := by
  unfold X7_chance_25 at hf
  exact loopC_walk (Wh := fun s : Int32 × Int32 × AH => ∀ lv : List (Nat × AV), lle lv [(0, vr (some a0)), (1, vi x1), (2, vi s.1), (3, vi s.2.1)] → V G X 4 h0 Q s.2.2 25 lv []) (PK := fun z => Q = QM G X h0 (some (vi z.1)) z.2) (fun s o hf hk lv hl => W_X7_chance_25b ok hr hd hf (by cases o <;> exact hk) hl) _ z hf hk lv hl
theorem W_X7_chance {G : GT} {X : CX} {d : Nat} {h0 : AH} {Q : State → Prop} (ok : Ok G X RX7 cX7_chance 4 d h0) (hr : (cxm X).sig.returnType = (Option.some Jvm.ClassFile.FieldType.int)) (hd : 10 ≤ d) {a0 : Nat} {x1 : Int32} {h : AH} {z : (Int32 × AH)} (hf : X7_chance a0 x1 h = some z) (hk : Q = QM G X h0 (some (vi z.1)) z.2) {lv : List (Nat × AV)} (hl : lle lv [(0, vr (some a0)), (1, vi x1)]) : V G X 4 h0 Q h 0 lv [] := by
  refine V.sub hl ?_
  unfold X7_chance at hf
  refine v_aload_n ok 0 dX7_chance_0 rfl rfl ?_
  refine v_iload_n ok 1 dX7_chance_1 rfl rfl ?_
  refine v_iconst ok 1 dX7_chance_2 rfl ?_
  refine v_bipush ok 100 dX7_chance_3 rfl ?_
  refine v_cVi ok (RX7, TX7, 117) cf_7.1 [vi x1, vi 1, vi 100] (F := fun a => X7_isAhead a x1 1 100 h) (fun a v h1 _ hv => M_X7_isAhead ok.2.2.2.2.2.2.1 (d := 2) (Nat.le_refl _) hv) (by exact Nat.le_trans (by decide) hd) cw_X7_isAhead q2496 q2498 qs133 dX7_chance_5 [] rfl (Nat.le_of_ble_eq_true rfl) hf (fun v11 h12 hf => ?_)
  refine v_if_ne ok 17 dX7_chance_8 rfl hf (fun hf => ?_) (fun hf => ?_)
  ·
    refine v_aload_n ok 0 dX7_chance_17 rfl rfl ?_
    refine v_cVv ok (RX7, TX7, 117) cf_7.1 [] (F := fun a => X7_keeps a h12) (fun a h1 _ hv => M_X7_keeps ok.2.2.2.2.2.2.1 (d := 1) (Nat.le_refl _) hv) (by exact Nat.le_trans (by decide) hd) cw_X7_keeps q2623 q2625 qs154 dX7_chance_18 [] rfl (Nat.le_of_ble_eq_true rfl) hf (fun h13 hf => ?_)
    refine v_iconst ok 0 dX7_chance_21 rfl ?_
    refine v_istore_n ok 2 dX7_chance_22 rfl (by decide) ?_
    refine v_iconst ok 0 dX7_chance_23 rfl ?_
    refine v_istore_n ok 3 dX7_chance_24 rfl (by decide) ?_
    exact W_X7_chance_25 ok hr hd hf hk ⟨rfl, rfl, rfl, rfl, trivial⟩
  ·
    refine v_aload_n ok 0 dX7_chance_11 rfl rfl ?_
    refine v_iconst ok 3 dX7_chance_12 rfl ?_
    refine v_cVi ok (RX7, TX7, 117) cf_7.1 [vi 3] (F := fun a => X7_refuses a 3 h12) (fun a v h1 _ hv => M_X7_refuses ok.2.2.2.2.2.2.1 (d := 1) (Nat.le_refl _) hv) (by exact Nat.le_trans (by decide) hd) cw_X7_refuses q2619 q2621 qs153 dX7_chance_13 [] rfl (Nat.le_of_ble_eq_true rfl) hf (fun v14 h15 hf => ?_)
    exact v_iret ok hr (by cases hf; exact hk) dX7_chance_16
theorem M_X7_chance {G : GT} {l : Launch} (hG : Glob G) {d : Nat} (hd : 10 ≤ d) {a0 : Nat} {x1 : Int32} {h : AH} {v : Int32} {h' : AH} (hf : X7_chance a0 x1 h = some (v, h')) : MM G l yX7_chance cX7_chance 4 (Option.some Jvm.ClassFile.FieldType.int) d [vr (some a0), vi x1] h (some (vi v)) h' := by
  refine mm_of hG (plainFor_of_name (by decide)) (Nat.le_of_ble_eq_true rfl) (fun X hX ok hr hnm => ?_)
  subst hX
  exact W_X7_chance ok hr hd hf rfl ⟨rfl, rfl, trivial⟩
theorem cw_X7_isRefused : CW yX7_isRefused cX7_isRefused 1 (Option.some Jvm.ClassFile.FieldType.boolean) 0 := ⟨q2655, q185, ⟨by decide, by decide⟩, by decide +kernel, by decide⟩
theorem W_X7_isRefused {G : GT} {X : CX} {d : Nat} {h0 : AH} {Q : State → Prop} (ok : Ok G X RX7 cX7_isRefused 1 d h0) (hr : (cxm X).sig.returnType = (Option.some Jvm.ClassFile.FieldType.boolean)) (hd : 1 ≤ d) {a0 : Nat} {h : AH} {z : (Int32 × AH)} (hf : X7_isRefused a0 h = some z) (hk : Q = QM G X h0 (some (vi z.1)) z.2) {lv : List (Nat × AV)} (hl : lle lv [(0, vr (some a0))]) : V G X 1 h0 Q h 0 lv [] := by
  refine V.sub hl ?_
  unfold X7_isRefused at hf
  refine v_aload_n ok 0 dX7_isRefused_0 rfl rfl ?_
  refine v_gR ok fl_X7_17 (by first | exact Or.inl ⟨_, rfl⟩ | exact Or.inr ⟨_, rfl⟩) dX7_isRefused_1 hf (fun v1 hf => ?_)
  refine v_iconst ok 2 dX7_isRefused_4 rfl ?_
  refine v_dup2 ok dX7_isRefused_5 rfl rfl ?_
  refine v_iald ok rfl dX7_isRefused_6 hf (fun v2 hf => ?_)
  refine v_iconst ok 1 dX7_isRefused_7 rfl ?_
  refine v_iadd ok dX7_isRefused_8 ?_
  refine v_iast ok rfl dX7_isRefused_9 hf (fun h3 hf => ?_)
  refine v_iconst ok 0 dX7_isRefused_10 rfl ?_
  exact v_zretL ok hr (by decide) (by decide) (by cases hf; exact hk) dX7_isRefused_11
theorem M_X7_isRefused {G : GT} {l : Launch} (hG : Glob G) {d : Nat} (hd : 1 ≤ d) {a0 : Nat} {h : AH} {v : Int32} {h' : AH} (hf : X7_isRefused a0 h = some (v, h')) : MM G l yX7_isRefused cX7_isRefused 1 (Option.some Jvm.ClassFile.FieldType.boolean) d [vr (some a0)] h (some (vi v)) h' := by
  refine mm_of hG (plainFor_of_name (by decide)) (Nat.le_of_ble_eq_true rfl) (fun X hX ok hr hnm => ?_)
  subst hX
  exact W_X7_isRefused ok hr hd hf rfl ⟨rfl, trivial⟩
theorem cw_X7_stroke : CW yX7_stroke cX7_stroke 5 (Option.some Jvm.ClassFile.FieldType.boolean) 4 := ⟨q2650, q185, ⟨by decide, by decide⟩, by decide +kernel, by decide⟩
theorem W_X7_stroke_47 {G : GT} {X : CX} {d : Nat} {h0 : AH} {Q : State → Prop} (ok : Ok G X RX7 cX7_stroke 5 d h0) (hr : (cxm X).sig.returnType = (Option.some Jvm.ClassFile.FieldType.boolean)) (hd : 4 ≤ d) {a0 : Nat} {h : AH} {z : (Int32 × AH)} (hf : X7_stroke_47 a0 h = some z) (hk : Q = QM G X h0 (some (vi z.1)) z.2) {lv : List (Nat × AV)} (hl : lle lv [(0, vr (some a0))]) : V G X 5 h0 Q h 47 lv [] := by
  refine V.sub hl ?_
  unfold X7_stroke_47 at hf
  refine v_aload_n ok 0 dX7_stroke_47 rfl rfl ?_
  refine v_cVi ok (RX7, TX7, 117) cf_7.1 [] (F := fun a => X7_isRefused a h) (fun a v h1 _ hv => M_X7_isRefused ok.2.2.2.2.2.2.1 (d := 1) (Nat.le_refl _) hv) (by exact Nat.le_trans (by decide) hd) cw_X7_isRefused q2652 q2654 qs157 dX7_stroke_48 [] rfl (Nat.le_of_ble_eq_true rfl) hf (fun v1 h2 hf => ?_)
  exact v_zret ok hr (by decide) hf (fun hf => by cases hf; exact hk) dX7_stroke_51
theorem W_X7_stroke {G : GT} {X : CX} {d : Nat} {h0 : AH} {Q : State → Prop} (ok : Ok G X RX7 cX7_stroke 5 d h0) (hr : (cxm X).sig.returnType = (Option.some Jvm.ClassFile.FieldType.boolean)) (hd : 4 ≤ d) {a0 : Nat} {x1 : Int32} {x2 : Int32} {x3 : Int32} {x4 : Int32} {h : AH} {z : (Int32 × AH)} (hf : X7_stroke a0 x1 x2 x3 x4 h = some z) (hk : Q = QM G X h0 (some (vi z.1)) z.2) {lv : List (Nat × AV)} (hl : lle lv [(0, vr (some a0)), (1, vi x1), (2, vi x2), (3, vi x3), (4, vi x4)]) : V G X 5 h0 Q h 0 lv [] := by
  refine V.sub hl ?_
  unfold X7_stroke at hf
  refine v_aload_n ok 0 dX7_stroke_0 rfl rfl ?_
  refine v_iload_n ok 1 dX7_stroke_1 rfl rfl ?_
  refine v_iload_n ok 2 dX7_stroke_2 rfl rfl ?_
  refine v_cVi ok (RX7, TX7, 117) cf_7.1 [vi x1, vi x2] (F := fun a => X7_isPlace a x1 x2 h) (fun a v h1 _ hv => M_X7_isPlace ok.2.2.2.2.2.2.1 (d := 3) (Nat.le_refl _) hv) (by exact Nat.le_trans (by decide) hd) cw_X7_isPlace q2425 q2427 qs124 dX7_stroke_3 [] rfl (Nat.le_of_ble_eq_true rfl) hf (fun v5 h6 hf => ?_)
  refine v_if_eq ok 47 dX7_stroke_6 rfl hf (fun hf => ?_) (fun hf => ?_)
  ·
    exact W_X7_stroke_47 ok hr hd hf hk ⟨rfl, trivial⟩
  ·
    refine v_iload_n ok 3 dX7_stroke_9 rfl rfl ?_
    refine v_i2l ok dX7_stroke_10 ?_
    refine v_lconst ok 0 dX7_stroke_11 rfl ?_
    refine v_ldc2 ok q2651 dX7_stroke_12 ?_
    refine v_cSi ok [vl (Int32.toInt64 x3), vl 0, vl 14] (F := X7_isIn (Int32.toInt64 x3) 0 14 h6) (fun v h1 hv => M_X7_isIn ok.2.2.2.2.2.2.1 (d := 1) (Nat.le_refl _) hv) (by exact Nat.le_trans (by decide) hd) cw_X7_isIn q2215 q2216 dX7_stroke_15 [] rfl (Nat.le_of_ble_eq_true rfl) hf (fun v7 h8 hf => ?_)
    refine v_if_eq ok 47 dX7_stroke_18 rfl hf (fun hf => ?_) (fun hf => ?_)
    ·
      exact W_X7_stroke_47 ok hr hd hf hk ⟨rfl, trivial⟩
    ·
      refine v_iload ok dX7_stroke_21 rfl ?_
      refine v_i2l ok dX7_stroke_23 ?_
      refine v_lconst ok 0 dX7_stroke_24 rfl ?_
      refine v_lconst ok 1 dX7_stroke_25 rfl ?_
      refine v_cSi ok [vl (Int32.toInt64 x4), vl 0, vl 1] (F := X7_isIn (Int32.toInt64 x4) 0 1 h8) (fun v h1 hv => M_X7_isIn ok.2.2.2.2.2.2.1 (d := 1) (Nat.le_refl _) hv) (by exact Nat.le_trans (by decide) hd) cw_X7_isIn q2215 q2216 dX7_stroke_26 [] rfl (Nat.le_of_ble_eq_true rfl) hf (fun v9 h10 hf => ?_)
      refine v_if_eq ok 47 dX7_stroke_29 rfl hf (fun hf => ?_) (fun hf => ?_)
      ·
        exact W_X7_stroke_47 ok hr hd hf hk ⟨rfl, trivial⟩
      ·
        refine v_aload_n ok 0 dX7_stroke_32 rfl rfl ?_
        refine v_iload_n ok 1 dX7_stroke_33 rfl rfl ?_
        refine v_iload_n ok 2 dX7_stroke_34 rfl rfl ?_
        refine v_cVi ok (RX7, TX7, 117) cf_7.1 [vi x1, vi x2] (F := fun a => X7_glyphAt a x1 x2 h10) (fun a v h1 _ hv => M_X7_glyphAt ok.2.2.2.2.2.2.1 (d := 1) (Nat.le_refl _) hv) (by exact Nat.le_trans (by decide) hd) cw_X7_glyphAt q2377 q2379 qs117 dX7_stroke_35 [] rfl (Nat.le_of_ble_eq_true rfl) hf (fun v11 h12 hf => ?_)
        refine v_iload_n ok 3 dX7_stroke_38 rfl rfl ?_
        refine v_ishr ok dX7_stroke_39 ?_
        refine v_iconst ok 1 dX7_stroke_40 rfl ?_
        refine v_iand ok dX7_stroke_41 ?_
        refine v_iload ok dX7_stroke_42 rfl ?_
        refine v_icmp_ne ok 52 dX7_stroke_44 rfl hf (fun hf => ?_) (fun hf => ?_)
        ·
          refine v_aload_n ok 0 dX7_stroke_52 rfl rfl ?_
          refine v_cVv ok (RX7, TX7, 117) cf_7.1 [] (F := fun a => X7_keeps a h12) (fun a h1 _ hv => M_X7_keeps ok.2.2.2.2.2.2.1 (d := 1) (Nat.le_refl _) hv) (by exact Nat.le_trans (by decide) hd) cw_X7_keeps q2623 q2625 qs154 dX7_stroke_53 [] rfl (Nat.le_of_ble_eq_true rfl) hf (fun h13 hf => ?_)
          refine v_aload_n ok 0 dX7_stroke_56 rfl rfl ?_
          refine v_gR ok fl_X7_132 (by first | exact Or.inl ⟨_, rfl⟩ | exact Or.inr ⟨_, rfl⟩) dX7_stroke_57 hf (fun v14 hf => ?_)
          refine v_iconst ok 3 dX7_stroke_60 rfl ?_
          refine v_bipush ok 8 dX7_stroke_61 rfl ?_
          refine v_iload_n ok 1 dX7_stroke_63 rfl rfl ?_
          refine v_imul ok dX7_stroke_64 ?_
          refine v_iadd ok dX7_stroke_65 ?_
          refine v_iload_n ok 2 dX7_stroke_66 rfl rfl ?_
          refine v_iadd ok dX7_stroke_67 ?_
          refine v_dup2 ok dX7_stroke_68 rfl rfl ?_
          refine v_iald ok rfl dX7_stroke_69 hf (fun v15 hf => ?_)
          refine v_iconst ok 1 dX7_stroke_70 rfl ?_
          refine v_iload_n ok 3 dX7_stroke_71 rfl rfl ?_
          refine v_ishl ok dX7_stroke_72 ?_
          refine v_ixor ok dX7_stroke_73 ?_
          refine v_iast ok rfl dX7_stroke_74 hf (fun h16 hf => ?_)
          refine v_iconst ok 1 dX7_stroke_75 rfl ?_
          exact v_zretL ok hr (by decide) (by decide) (by cases hf; exact hk) dX7_stroke_76
        ·
          exact W_X7_stroke_47 ok hr hd hf hk ⟨rfl, trivial⟩
theorem M_X7_stroke {G : GT} {l : Launch} (hG : Glob G) {d : Nat} (hd : 4 ≤ d) {a0 : Nat} {x1 : Int32} {x2 : Int32} {x3 : Int32} {x4 : Int32} {h : AH} {v : Int32} {h' : AH} (hf : X7_stroke a0 x1 x2 x3 x4 h = some (v, h')) : MM G l yX7_stroke cX7_stroke 5 (Option.some Jvm.ClassFile.FieldType.boolean) d [vr (some a0), vi x1, vi x2, vi x3, vi x4] h (some (vi v)) h' := by
  refine mm_of hG (plainFor_of_name (by decide)) (Nat.le_of_ble_eq_true rfl) (fun X hX ok hr hnm => ?_)
  subst hX
  exact W_X7_stroke ok hr hd hf rfl ⟨rfl, rfl, rfl, rfl, rfl, trivial⟩
theorem cw_X7_paint : CW yX7_paint cX7_paint 4 (Option.some Jvm.ClassFile.FieldType.boolean) 3 := ⟨q2659, q185, ⟨by decide, by decide⟩, by decide +kernel, by decide⟩
theorem W_X7_paint_34 {G : GT} {X : CX} {d : Nat} {h0 : AH} {Q : State → Prop} (ok : Ok G X RX7 cX7_paint 4 d h0) (hr : (cxm X).sig.returnType = (Option.some Jvm.ClassFile.FieldType.boolean)) (hd : 4 ≤ d) {a0 : Nat} {h : AH} {z : (Int32 × AH)} (hf : X7_paint_34 a0 h = some z) (hk : Q = QM G X h0 (some (vi z.1)) z.2) {lv : List (Nat × AV)} (hl : lle lv [(0, vr (some a0))]) : V G X 4 h0 Q h 34 lv [] := by
  refine V.sub hl ?_
  unfold X7_paint_34 at hf
  refine v_aload_n ok 0 dX7_paint_34 rfl rfl ?_
  refine v_cVi ok (RX7, TX7, 117) cf_7.1 [] (F := fun a => X7_isRefused a h) (fun a v h1 _ hv => M_X7_isRefused ok.2.2.2.2.2.2.1 (d := 1) (Nat.le_refl _) hv) (by exact Nat.le_trans (by decide) hd) cw_X7_isRefused q2652 q2654 qs157 dX7_paint_35 [] rfl (Nat.le_of_ble_eq_true rfl) hf (fun v1 h2 hf => ?_)
  exact v_zret ok hr (by decide) hf (fun hf => by cases hf; exact hk) dX7_paint_38
theorem W_X7_paint {G : GT} {X : CX} {d : Nat} {h0 : AH} {Q : State → Prop} (ok : Ok G X RX7 cX7_paint 4 d h0) (hr : (cxm X).sig.returnType = (Option.some Jvm.ClassFile.FieldType.boolean)) (hd : 4 ≤ d) {a0 : Nat} {x1 : Int32} {x2 : Int32} {x3 : Int32} {h : AH} {z : (Int32 × AH)} (hf : X7_paint a0 x1 x2 x3 h = some z) (hk : Q = QM G X h0 (some (vi z.1)) z.2) {lv : List (Nat × AV)} (hl : lle lv [(0, vr (some a0)), (1, vi x1), (2, vi x2), (3, vi x3)]) : V G X 4 h0 Q h 0 lv [] := by
  refine V.sub hl ?_
  unfold X7_paint at hf
  refine v_aload_n ok 0 dX7_paint_0 rfl rfl ?_
  refine v_iload_n ok 1 dX7_paint_1 rfl rfl ?_
  refine v_cVi ok (RX7, TX7, 117) cf_7.1 [vi x1] (F := fun a => X7_isBoard a x1 h) (fun a v h1 _ hv => M_X7_isBoard ok.2.2.2.2.2.2.1 (d := 2) (Nat.le_refl _) hv) (by exact Nat.le_trans (by decide) hd) cw_X7_isBoard q2409 q2411 qs121 dX7_paint_2 [] rfl (Nat.le_of_ble_eq_true rfl) hf (fun v5 h6 hf => ?_)
  refine v_if_eq ok 34 dX7_paint_5 rfl hf (fun hf => ?_) (fun hf => ?_)
  ·
    exact W_X7_paint_34 ok hr hd hf hk ⟨rfl, trivial⟩
  ·
    refine v_aload_n ok 0 dX7_paint_8 rfl rfl ?_
    refine v_iload_n ok 2 dX7_paint_9 rfl rfl ?_
    refine v_i2l ok dX7_paint_10 ?_
    refine v_cVi ok (RX7, TX7, 117) cf_7.1 [vl (Int32.toInt64 x2)] (F := fun a => X7_isWord a (Int32.toInt64 x2) h6) (fun a v h1 _ hv => M_X7_isWord ok.2.2.2.2.2.2.1 (d := 2) (Nat.le_refl _) hv) (by exact Nat.le_trans (by decide) hd) cw_X7_isWord q2400 q2402 qs120 dX7_paint_11 [] rfl (Nat.le_of_ble_eq_true rfl) hf (fun v7 h8 hf => ?_)
    refine v_if_eq ok 34 dX7_paint_14 rfl hf (fun hf => ?_) (fun hf => ?_)
    ·
      exact W_X7_paint_34 ok hr hd hf hk ⟨rfl, trivial⟩
    ·
      refine v_aload_n ok 0 dX7_paint_17 rfl rfl ?_
      refine v_iload_n ok 3 dX7_paint_18 rfl rfl ?_
      refine v_cVi ok (RX7, TX7, 117) cf_7.1 [vi x3] (F := fun a => X7_isHand a x3 h8) (fun a v h1 _ hv => M_X7_isHand ok.2.2.2.2.2.2.1 (d := 2) (Nat.le_refl _) hv) (by exact Nat.le_trans (by decide) hd) cw_X7_isHand q2392 q2394 qs119 dX7_paint_19 [] rfl (Nat.le_of_ble_eq_true rfl) hf (fun v9 h10 hf => ?_)
      refine v_if_eq ok 34 dX7_paint_22 rfl hf (fun hf => ?_) (fun hf => ?_)
      ·
        exact W_X7_paint_34 ok hr hd hf hk ⟨rfl, trivial⟩
      ·
        refine v_aload_n ok 0 dX7_paint_25 rfl rfl ?_
        refine v_iload_n ok 2 dX7_paint_26 rfl rfl ?_
        refine v_iload_n ok 3 dX7_paint_27 rfl rfl ?_
        refine v_cVi ok (RX7, TX7, 117) cf_7.1 [vi x2, vi x3] (F := fun a => X7_canPaint a x2 x3 h10) (fun a v h1 _ hv => M_X7_canPaint ok.2.2.2.2.2.2.1 (d := 3) (Nat.le_refl _) hv) (by exact Nat.le_trans (by decide) hd) cw_X7_canPaint q2540 q2542 qs143 dX7_paint_28 [] rfl (Nat.le_of_ble_eq_true rfl) hf (fun v11 h12 hf => ?_)
        refine v_if_ne ok 39 dX7_paint_31 rfl hf (fun hf => ?_) (fun hf => ?_)
        ·
          refine v_aload_n ok 0 dX7_paint_39 rfl rfl ?_
          refine v_cVv ok (RX7, TX7, 117) cf_7.1 [] (F := fun a => X7_keeps a h12) (fun a h1 _ hv => M_X7_keeps ok.2.2.2.2.2.2.1 (d := 1) (Nat.le_refl _) hv) (by exact Nat.le_trans (by decide) hd) cw_X7_keeps q2623 q2625 qs154 dX7_paint_40 [] rfl (Nat.le_of_ble_eq_true rfl) hf (fun h13 hf => ?_)
          refine v_aload_n ok 0 dX7_paint_43 rfl rfl ?_
          refine v_iload_n ok 1 dX7_paint_44 rfl rfl ?_
          refine v_iload_n ok 2 dX7_paint_45 rfl rfl ?_
          refine v_iload_n ok 3 dX7_paint_46 rfl rfl ?_
          refine v_cVv ok (RX7, TX7, 117) cf_7.1 [vi x1, vi x2, vi x3] (F := fun a => X7_paints a x1 x2 x3 h13) (fun a h1 _ hv => M_X7_paints ok.2.2.2.2.2.2.1 (d := 3) (Nat.le_refl _) hv) (by exact Nat.le_trans (by decide) hd) cw_X7_paints q2333 q2335 qs108 dX7_paint_47 [] rfl (Nat.le_of_ble_eq_true rfl) hf (fun h14 hf => ?_)
          refine v_iconst ok 1 dX7_paint_50 rfl ?_
          exact v_zretL ok hr (by decide) (by decide) (by cases hf; exact hk) dX7_paint_51
        ·
          exact W_X7_paint_34 ok hr hd hf hk ⟨rfl, trivial⟩
theorem M_X7_paint {G : GT} {l : Launch} (hG : Glob G) {d : Nat} (hd : 4 ≤ d) {a0 : Nat} {x1 : Int32} {x2 : Int32} {x3 : Int32} {h : AH} {v : Int32} {h' : AH} (hf : X7_paint a0 x1 x2 x3 h = some (v, h')) : MM G l yX7_paint cX7_paint 4 (Option.some Jvm.ClassFile.FieldType.boolean) d [vr (some a0), vi x1, vi x2, vi x3] h (some (vi v)) h' := by
  refine mm_of hG (plainFor_of_name (by decide)) (Nat.le_of_ble_eq_true rfl) (fun X hX ok hr hnm => ?_)
  subst hX
  exact W_X7_paint ok hr hd hf rfl ⟨rfl, rfl, rfl, rfl, trivial⟩
theorem cw_X7_qKind : CW yX7_qKind cX7_qKind 2 (Option.some Jvm.ClassFile.FieldType.int) 0 := ⟨q2667, q185, ⟨by decide, by decide⟩, by decide +kernel, by decide⟩
theorem W_X7_qKind_76 {G : GT} {X : CX} {d : Nat} {h0 : AH} {Q : State → Prop} (ok : Ok G X RX7 cX7_qKind 2 d h0) (hr : (cxm X).sig.returnType = (Option.some Jvm.ClassFile.FieldType.int)) (hd : 5 ≤ d) {a0 : Nat} {s0 : Int32} {h : AH} {z : (Int32 × AH)} (hf : X7_qKind_76 a0 s0 h = some z) (hk : Q = QM G X h0 (some (vi z.1)) z.2) {lv : List (Nat × AV)} (hl : lle lv [(0, vr (some a0))]) : V G X 2 h0 Q h 76 lv [vi s0] := by
  refine V.sub hl ?_
  unfold X7_qKind_76 at hf
  refine v_istore_n ok 1 dX7_qKind_76 rfl (by decide) ?_
  refine v_iload_n ok 1 dX7_qKind_77 rfl rfl ?_
  refine v_iconst ok 5 dX7_qKind_78 rfl ?_
  refine v_icmp_ne ok 90 dX7_qKind_79 rfl hf (fun hf => ?_) (fun hf => ?_)
  ·
    refine v_iload_n ok 1 dX7_qKind_90 rfl rfl ?_
    exact v_iret ok hr (by cases hf; exact hk) dX7_qKind_91
  ·
    refine v_aload_n ok 0 dX7_qKind_82 rfl rfl ?_
    refine v_aload_n ok 0 dX7_qKind_83 rfl rfl ?_
    refine v_gR ok fl_X7_184 (by first | exact Or.inl ⟨_, rfl⟩ | exact Or.inr ⟨_, rfl⟩) dX7_qKind_84 hf (fun v1 hf => ?_)
    refine v_cVv ok (RX7, TX7, 117) cf_7.1 [vr v1] (F := fun a => X7_asks a v1 h) (fun a h1 _ hv => M_X7_asks ok.2.2.2.2.2.2.1 (d := 4) (Nat.le_refl _) hv) (by exact Nat.le_trans (by decide) hd) cw_X7_asks q2204 q2206 qs78 dX7_qKind_87 [] rfl (Nat.le_of_ble_eq_true rfl) hf (fun h2 hf => ?_)
    refine v_iload_n ok 1 dX7_qKind_90 rfl rfl ?_
    exact v_iret ok hr (by cases hf; exact hk) dX7_qKind_91
theorem W_X7_qKind {G : GT} {X : CX} {d : Nat} {h0 : AH} {Q : State → Prop} (ok : Ok G X RX7 cX7_qKind 2 d h0) (hr : (cxm X).sig.returnType = (Option.some Jvm.ClassFile.FieldType.int)) (hd : 5 ≤ d) {a0 : Nat} {h : AH} {z : (Int32 × AH)} (hf : X7_qKind a0 h = some z) (hk : Q = QM G X h0 (some (vi z.1)) z.2) {lv : List (Nat × AV)} (hl : lle lv [(0, vr (some a0))]) : V G X 2 h0 Q h 0 lv [] := by
  refine V.sub hl ?_
  unfold X7_qKind at hf
  refine v_aload_n ok 0 dX7_qKind_0 rfl rfl ?_
  refine v_aload_n ok 0 dX7_qKind_1 rfl rfl ?_
  refine v_gR ok fl_X7_169 (by first | exact Or.inl ⟨_, rfl⟩ | exact Or.inr ⟨_, rfl⟩) dX7_qKind_2 hf (fun v3 hf => ?_)
  refine v_cVi ok (RX7, TX7, 117) cf_7.1 [vr v3] (F := fun a => X7_takes a v3 h) (fun a v h1 _ hv => M_X7_takes ok.2.2.2.2.2.2.1 (d := 3) (Nat.le_refl _) hv) (by exact Nat.le_trans (by decide) hd) cw_X7_takes q2181 q2183 qs73 dX7_qKind_5 [] rfl (Nat.le_of_ble_eq_true rfl) hf (fun v4 h5 hf => ?_)
  refine v_if_eq ok 15 dX7_qKind_8 rfl hf (fun hf => ?_) (fun hf => ?_)
  ·
    refine v_aload_n ok 0 dX7_qKind_15 rfl rfl ?_
    refine v_aload_n ok 0 dX7_qKind_16 rfl rfl ?_
    refine v_gR ok fl_X7_172 (by first | exact Or.inl ⟨_, rfl⟩ | exact Or.inr ⟨_, rfl⟩) dX7_qKind_17 hf (fun v6 hf => ?_)
    refine v_cVi ok (RX7, TX7, 117) cf_7.1 [vr v6] (F := fun a => X7_takes a v6 h5) (fun a v h1 _ hv => M_X7_takes ok.2.2.2.2.2.2.1 (d := 3) (Nat.le_refl _) hv) (by exact Nat.le_trans (by decide) hd) cw_X7_takes q2181 q2183 qs73 dX7_qKind_20 [] rfl (Nat.le_of_ble_eq_true rfl) hf (fun v7 h8 hf => ?_)
    refine v_if_eq ok 30 dX7_qKind_23 rfl hf (fun hf => ?_) (fun hf => ?_)
    ·
      refine v_aload_n ok 0 dX7_qKind_30 rfl rfl ?_
      refine v_aload_n ok 0 dX7_qKind_31 rfl rfl ?_
      refine v_gR ok fl_X7_175 (by first | exact Or.inl ⟨_, rfl⟩ | exact Or.inr ⟨_, rfl⟩) dX7_qKind_32 hf (fun v9 hf => ?_)
      refine v_cVi ok (RX7, TX7, 117) cf_7.1 [vr v9] (F := fun a => X7_takes a v9 h8) (fun a v h1 _ hv => M_X7_takes ok.2.2.2.2.2.2.1 (d := 3) (Nat.le_refl _) hv) (by exact Nat.le_trans (by decide) hd) cw_X7_takes q2181 q2183 qs73 dX7_qKind_35 [] rfl (Nat.le_of_ble_eq_true rfl) hf (fun v10 h11 hf => ?_)
      refine v_if_eq ok 45 dX7_qKind_38 rfl hf (fun hf => ?_) (fun hf => ?_)
      ·
        refine v_aload_n ok 0 dX7_qKind_45 rfl rfl ?_
        refine v_aload_n ok 0 dX7_qKind_46 rfl rfl ?_
        refine v_gR ok fl_X7_178 (by first | exact Or.inl ⟨_, rfl⟩ | exact Or.inr ⟨_, rfl⟩) dX7_qKind_47 hf (fun v12 hf => ?_)
        refine v_cVi ok (RX7, TX7, 117) cf_7.1 [vr v12] (F := fun a => X7_takes a v12 h11) (fun a v h1 _ hv => M_X7_takes ok.2.2.2.2.2.2.1 (d := 3) (Nat.le_refl _) hv) (by exact Nat.le_trans (by decide) hd) cw_X7_takes q2181 q2183 qs73 dX7_qKind_50 [] rfl (Nat.le_of_ble_eq_true rfl) hf (fun v13 h14 hf => ?_)
        refine v_if_eq ok 60 dX7_qKind_53 rfl hf (fun hf => ?_) (fun hf => ?_)
        ·
          refine v_aload_n ok 0 dX7_qKind_60 rfl rfl ?_
          refine v_aload_n ok 0 dX7_qKind_61 rfl rfl ?_
          refine v_gR ok fl_X7_181 (by first | exact Or.inl ⟨_, rfl⟩ | exact Or.inr ⟨_, rfl⟩) dX7_qKind_62 hf (fun v15 hf => ?_)
          refine v_cVi ok (RX7, TX7, 117) cf_7.1 [vr v15] (F := fun a => X7_takes a v15 h14) (fun a v h1 _ hv => M_X7_takes ok.2.2.2.2.2.2.1 (d := 3) (Nat.le_refl _) hv) (by exact Nat.le_trans (by decide) hd) cw_X7_takes q2181 q2183 qs73 dX7_qKind_65 [] rfl (Nat.le_of_ble_eq_true rfl) hf (fun v16 h17 hf => ?_)
          refine v_if_eq ok 75 dX7_qKind_68 rfl hf (fun hf => ?_) (fun hf => ?_)
          ·
            refine v_iconst ok 5 dX7_qKind_75 rfl ?_
            exact W_X7_qKind_76 ok hr hd hf hk ⟨rfl, trivial⟩
          ·
            refine v_iconst ok 4 dX7_qKind_71 rfl ?_
            refine v_goto ok 76 dX7_qKind_72 rfl ?_
            exact W_X7_qKind_76 ok hr hd hf hk ⟨rfl, trivial⟩
        ·
          refine v_iconst ok 3 dX7_qKind_56 rfl ?_
          refine v_goto ok 76 dX7_qKind_57 rfl ?_
          exact W_X7_qKind_76 ok hr hd hf hk ⟨rfl, trivial⟩
      ·
        refine v_iconst ok 2 dX7_qKind_41 rfl ?_
        refine v_goto ok 76 dX7_qKind_42 rfl ?_
        exact W_X7_qKind_76 ok hr hd hf hk ⟨rfl, trivial⟩
    ·
      refine v_iconst ok 1 dX7_qKind_26 rfl ?_
      refine v_goto ok 76 dX7_qKind_27 rfl ?_
      exact W_X7_qKind_76 ok hr hd hf hk ⟨rfl, trivial⟩
  ·
    refine v_iconst ok 0 dX7_qKind_11 rfl ?_
    refine v_goto ok 76 dX7_qKind_12 rfl ?_
    exact W_X7_qKind_76 ok hr hd hf hk ⟨rfl, trivial⟩
theorem M_X7_qKind {G : GT} {l : Launch} (hG : Glob G) {d : Nat} (hd : 5 ≤ d) {a0 : Nat} {h : AH} {v : Int32} {h' : AH} (hf : X7_qKind a0 h = some (v, h')) : MM G l yX7_qKind cX7_qKind 2 (Option.some Jvm.ClassFile.FieldType.int) d [vr (some a0)] h (some (vi v)) h' := by
  refine mm_of hG (plainFor_of_name (by decide)) (Nat.le_of_ble_eq_true rfl) (fun X hX ok hr hnm => ?_)
  subst hX
  exact W_X7_qKind ok hr hd hf rfl ⟨rfl, trivial⟩
theorem cw_X7_qTakes : CW yX7_qTakes cX7_qTakes 6 none 3 := ⟨q2680, q185, ⟨by decide, by decide⟩, by decide +kernel, by decide⟩
theorem W_X7_qTakes_133 {G : GT} {X : CX} {d : Nat} {h0 : AH} {Q : State → Prop} (ok : Ok G X RX7 cX7_qTakes 6 d h0) (hr : (cxm X).sig.returnType = none) (hd : 1 ≤ d) {a0 : Nat} {h : AH} {z : (AH)} (hf : X7_qTakes_133 a0 h = some z) (hk : Q = QM G X h0 none z) {lv : List (Nat × AV)} (hl : lle lv [(0, vr (some a0))]) : V G X 6 h0 Q h 133 lv [] := by
  refine V.sub hl ?_
  unfold X7_qTakes_133 at hf
  refine v_aload_n ok 0 dX7_qTakes_133 rfl rfl ?_
  refine v_iconst ok 0 dX7_qTakes_134 rfl ?_
  refine v_pZ ok fl_X7_702 ⟨fun _ _ _ => rfl, by first | exact Or.inl rfl | exact Or.inr rfl⟩ (FN.of cf_7.1 rfl) dX7_qTakes_135 hf (fun h1 hf => ?_)
  exact v_vret ok hr (by cases hf; exact hk) dX7_qTakes_138
theorem W_X7_qTakes_128 {G : GT} {X : CX} {d : Nat} {h0 : AH} {Q : State → Prop} (ok : Ok G X RX7 cX7_qTakes 6 d h0) (hr : (cxm X).sig.returnType = none) (hd : 1 ≤ d) {a0 : Nat} {x2 : Int64} {h : AH} {z : (AH)} (hf : X7_qTakes_128 a0 x2 h = some z) (hk : Q = QM G X h0 none z) {lv : List (Nat × AV)} (hl : lle lv [(0, vr (some a0)), (2, vl x2)]) : V G X 6 h0 Q h 128 lv [] := by
  refine V.sub hl ?_
  unfold X7_qTakes_128 at hf
  refine v_aload_n ok 0 dX7_qTakes_128 rfl rfl ?_
  refine v_lload_n ok 2 dX7_qTakes_129 rfl rfl ?_
  refine v_pL ok fl_X7_699 rfl (FN.of cf_7.1 rfl) dX7_qTakes_130 hf (fun h2 hf => ?_)
  exact W_X7_qTakes_133 ok hr hd hf hk ⟨rfl, trivial⟩
theorem W_X7_qTakes_90 {G : GT} {X : CX} {d : Nat} {h0 : AH} {Q : State → Prop} (ok : Ok G X RX7 cX7_qTakes 6 d h0) (hr : (cxm X).sig.returnType = none) (hd : 1 ≤ d) {a0 : Nat} {x1 : Int32} {x2 : Int64} {h : AH} {z : (AH)} (hf : X7_qTakes_90 a0 x1 x2 h = some z) (hk : Q = QM G X h0 none z) {lv : List (Nat × AV)} (hl : lle lv [(0, vr (some a0)), (1, vi x1), (2, vl x2)]) : V G X 6 h0 Q h 90 lv [] := by
  refine V.sub hl ?_
  unfold X7_qTakes_90 at hf
  refine v_iload_n ok 1 dX7_qTakes_90 rfl rfl ?_
  refine v_iconst ok 3 dX7_qTakes_91 rfl ?_
  refine v_icmp_le ok 133 dX7_qTakes_92 rfl hf (fun hf => ?_) (fun hf => ?_)
  ·
    exact W_X7_qTakes_133 ok hr hd hf hk ⟨rfl, trivial⟩
  ·
    refine v_aload_n ok 0 dX7_qTakes_95 rfl rfl ?_
    refine v_gI ok fl_X7_702 (fun _ _ _ => rfl) dX7_qTakes_96 hf (fun v3 hf => ?_)
    refine v_if_ne ok 128 dX7_qTakes_99 rfl hf (fun hf => ?_) (fun hf => ?_)
    ·
      exact W_X7_qTakes_128 ok hr hd hf hk ⟨rfl, rfl, trivial⟩
    ·
      refine v_iload_n ok 1 dX7_qTakes_102 rfl rfl ?_
      refine v_iconst ok 4 dX7_qTakes_103 rfl ?_
      refine v_icmp_ne ok 119 dX7_qTakes_104 rfl hf (fun hf => ?_) (fun hf => ?_)
      ·
        refine v_lload_n ok 2 dX7_qTakes_119 rfl rfl ?_
        refine v_aload_n ok 0 dX7_qTakes_120 rfl rfl ?_
        refine v_gL ok fl_X7_699 rfl dX7_qTakes_121 hf (fun v4 hf => ?_)
        refine v_lcmp ok dX7_qTakes_124 ?_
        refine v_if_ge ok 133 dX7_qTakes_125 rfl hf (fun hf => ?_) (fun hf => ?_)
        ·
          exact W_X7_qTakes_133 ok hr hd hf hk ⟨rfl, trivial⟩
        ·
          exact W_X7_qTakes_128 ok hr hd hf hk ⟨rfl, rfl, trivial⟩
      ·
        refine v_lload_n ok 2 dX7_qTakes_107 rfl rfl ?_
        refine v_aload_n ok 0 dX7_qTakes_108 rfl rfl ?_
        refine v_gL ok fl_X7_699 rfl dX7_qTakes_109 hf (fun v5 hf => ?_)
        refine v_lcmp ok dX7_qTakes_112 ?_
        refine v_if_le ok 133 dX7_qTakes_113 rfl hf (fun hf => ?_) (fun hf => ?_)
        ·
          exact W_X7_qTakes_133 ok hr hd hf hk ⟨rfl, trivial⟩
        ·
          refine v_goto ok 128 dX7_qTakes_116 rfl ?_
          exact W_X7_qTakes_128 ok hr hd hf hk ⟨rfl, rfl, trivial⟩
theorem W_X7_qTakes_75 {G : GT} {X : CX} {d : Nat} {h0 : AH} {Q : State → Prop} (ok : Ok G X RX7 cX7_qTakes 6 d h0) (hr : (cxm X).sig.returnType = none) (hd : 1 ≤ d) {a0 : Nat} {x1 : Int32} {x2 : Int64} {h : AH} {z : (AH)} (hf : X7_qTakes_75 a0 x1 x2 h = some z) (hk : Q = QM G X h0 none z) {lv : List (Nat × AV)} (hl : lle lv [(0, vr (some a0)), (1, vi x1), (2, vl x2)]) : V G X 6 h0 Q h 75 lv [] := by
  refine V.sub hl ?_
  unfold X7_qTakes_75 at hf
  refine v_iload_n ok 1 dX7_qTakes_75 rfl rfl ?_
  refine v_iconst ok 3 dX7_qTakes_76 rfl ?_
  refine v_icmp_ne ok 90 dX7_qTakes_77 rfl hf (fun hf => ?_) (fun hf => ?_)
  ·
    exact W_X7_qTakes_90 ok hr hd hf hk ⟨rfl, rfl, rfl, trivial⟩
  ·
    refine v_aload_n ok 0 dX7_qTakes_80 rfl rfl ?_
    refine v_dup ok dX7_qTakes_81 rfl ?_
    refine v_gL ok fl_X7_699 rfl dX7_qTakes_82 hf (fun v6 hf => ?_)
    refine v_lload_n ok 2 dX7_qTakes_85 rfl rfl ?_
    refine v_ladd ok dX7_qTakes_86 ?_
    refine v_pL ok fl_X7_699 rfl (FN.of cf_7.1 rfl) dX7_qTakes_87 hf (fun h7 hf => ?_)
    exact W_X7_qTakes_90 ok hr hd hf hk ⟨rfl, rfl, rfl, trivial⟩
theorem W_X7_qTakes_55 {G : GT} {X : CX} {d : Nat} {h0 : AH} {Q : State → Prop} (ok : Ok G X RX7 cX7_qTakes 6 d h0) (hr : (cxm X).sig.returnType = none) (hd : 1 ≤ d) {a0 : Nat} {x1 : Int32} {x2 : Int64} {x5 : Int32} {h : AH} {z : (AH)} (hf : X7_qTakes_55 a0 x1 x2 x5 h = some z) (hk : Q = QM G X h0 none z) {lv : List (Nat × AV)} (hl : lle lv [(0, vr (some a0)), (1, vi x1), (2, vl x2), (5, vi x5)]) : V G X 6 h0 Q h 55 lv [] := by
  refine V.sub hl ?_
  unfold X7_qTakes_55 at hf
  refine v_iload_n ok 1 dX7_qTakes_55 rfl rfl ?_
  refine v_iconst ok 2 dX7_qTakes_56 rfl ?_
  refine v_icmp_ne ok 75 dX7_qTakes_57 rfl hf (fun hf => ?_) (fun hf => ?_)
  ·
    exact W_X7_qTakes_75 ok hr hd hf hk ⟨rfl, rfl, rfl, trivial⟩
  ·
    refine v_iload ok dX7_qTakes_60 rfl ?_
    refine v_if_eq ok 75 dX7_qTakes_62 rfl hf (fun hf => ?_) (fun hf => ?_)
    ·
      exact W_X7_qTakes_75 ok hr hd hf hk ⟨rfl, rfl, rfl, trivial⟩
    ·
      refine v_aload_n ok 0 dX7_qTakes_65 rfl rfl ?_
      refine v_dup ok dX7_qTakes_66 rfl ?_
      refine v_gL ok fl_X7_699 rfl dX7_qTakes_67 hf (fun v8 hf => ?_)
      refine v_lconst ok 1 dX7_qTakes_70 rfl ?_
      refine v_ladd ok dX7_qTakes_71 ?_
      refine v_pL ok fl_X7_699 rfl (FN.of cf_7.1 rfl) dX7_qTakes_72 hf (fun h9 hf => ?_)
      exact W_X7_qTakes_75 ok hr hd hf hk ⟨rfl, rfl, rfl, trivial⟩
theorem W_X7_qTakes_48 {G : GT} {X : CX} {d : Nat} {h0 : AH} {Q : State → Prop} (ok : Ok G X RX7 cX7_qTakes 6 d h0) (hr : (cxm X).sig.returnType = none) (hd : 1 ≤ d) {a0 : Nat} {x1 : Int32} {x2 : Int64} {x4 : Int32} {x5 : Int32} {h : AH} {z : (AH)} (hf : X7_qTakes_48 a0 x1 x2 x4 x5 h = some z) (hk : Q = QM G X h0 none z) {lv : List (Nat × AV)} (hl : lle lv [(0, vr (some a0)), (1, vi x1), (2, vl x2), (4, vi x4), (5, vi x5)]) : V G X 6 h0 Q h 48 lv [] := by
  refine V.sub hl ?_
  unfold X7_qTakes_48 at hf
  refine v_aload_n ok 0 dX7_qTakes_48 rfl rfl ?_
  refine v_iload ok dX7_qTakes_49 rfl ?_
  refine v_i2l ok dX7_qTakes_51 ?_
  refine v_pL ok fl_X7_699 rfl (FN.of cf_7.1 rfl) dX7_qTakes_52 hf (fun h10 hf => ?_)
  exact W_X7_qTakes_55 ok hr hd hf hk ⟨rfl, rfl, rfl, rfl, trivial⟩
theorem W_X7_qTakes_38 {G : GT} {X : CX} {d : Nat} {h0 : AH} {Q : State → Prop} (ok : Ok G X RX7 cX7_qTakes 6 d h0) (hr : (cxm X).sig.returnType = none) (hd : 1 ≤ d) {a0 : Nat} {x1 : Int32} {x2 : Int64} {x4 : Int32} {x5 : Int32} {h : AH} {z : (AH)} (hf : X7_qTakes_38 a0 x1 x2 x4 x5 h = some z) (hk : Q = QM G X h0 none z) {lv : List (Nat × AV)} (hl : lle lv [(0, vr (some a0)), (1, vi x1), (2, vl x2), (4, vi x4), (5, vi x5)]) : V G X 6 h0 Q h 38 lv [] := by
  refine V.sub hl ?_
  unfold X7_qTakes_38 at hf
  refine v_iload_n ok 1 dX7_qTakes_38 rfl rfl ?_
  refine v_iconst ok 1 dX7_qTakes_39 rfl ?_
  refine v_icmp_ne ok 55 dX7_qTakes_40 rfl hf (fun hf => ?_) (fun hf => ?_)
  ·
    exact W_X7_qTakes_55 ok hr hd hf hk ⟨rfl, rfl, rfl, rfl, trivial⟩
  ·
    refine v_iload ok dX7_qTakes_43 rfl ?_
    refine v_if_eq ok 55 dX7_qTakes_45 rfl hf (fun hf => ?_) (fun hf => ?_)
    ·
      exact W_X7_qTakes_55 ok hr hd hf hk ⟨rfl, rfl, rfl, rfl, trivial⟩
    ·
      exact W_X7_qTakes_48 ok hr hd hf hk ⟨rfl, rfl, rfl, rfl, rfl, trivial⟩
theorem W_X7_qTakes_16 {G : GT} {X : CX} {d : Nat} {h0 : AH} {Q : State → Prop} (ok : Ok G X RX7 cX7_qTakes 6 d h0) (hr : (cxm X).sig.returnType = none) (hd : 1 ≤ d) {a0 : Nat} {x1 : Int32} {x2 : Int64} {x4 : Int32} {s0 : Int32} {h : AH} {z : (AH)} (hf : X7_qTakes_16 a0 x1 x2 x4 s0 h = some z) (hk : Q = QM G X h0 none z) {lv : List (Nat × AV)} (hl : lle lv [(0, vr (some a0)), (1, vi x1), (2, vl x2), (4, vi x4)]) : V G X 6 h0 Q h 16 lv [vi s0] := by
  refine V.sub hl ?_
  unfold X7_qTakes_16 at hf
  refine v_istore ok dX7_qTakes_16 (by decide) ?_
  refine v_iload_n ok 1 dX7_qTakes_18 rfl rfl ?_
  refine v_if_ne ok 38 dX7_qTakes_19 rfl hf (fun hf => ?_) (fun hf => ?_)
  ·
    exact W_X7_qTakes_38 ok hr hd hf hk ⟨rfl, rfl, rfl, rfl, rfl, trivial⟩
  ·
    refine v_iload ok dX7_qTakes_22 rfl ?_
    refine v_if_eq ok 38 dX7_qTakes_24 rfl hf (fun hf => ?_) (fun hf => ?_)
    ·
      exact W_X7_qTakes_38 ok hr hd hf hk ⟨rfl, rfl, rfl, rfl, rfl, trivial⟩
    ·
      refine v_aload_n ok 0 dX7_qTakes_27 rfl rfl ?_
      refine v_gL ok fl_X7_699 rfl dX7_qTakes_28 hf (fun v11 hf => ?_)
      refine v_ldc2 ok q2668 dX7_qTakes_31 ?_
      refine v_lcmp ok dX7_qTakes_34 ?_
      refine v_if_eq ok 48 dX7_qTakes_35 rfl hf (fun hf => ?_) (fun hf => ?_)
      ·
        exact W_X7_qTakes_48 ok hr hd hf hk ⟨rfl, rfl, rfl, rfl, rfl, trivial⟩
      ·
        exact W_X7_qTakes_38 ok hr hd hf hk ⟨rfl, rfl, rfl, rfl, rfl, trivial⟩
theorem W_X7_qTakes_15 {G : GT} {X : CX} {d : Nat} {h0 : AH} {Q : State → Prop} (ok : Ok G X RX7 cX7_qTakes 6 d h0) (hr : (cxm X).sig.returnType = none) (hd : 1 ≤ d) {a0 : Nat} {x1 : Int32} {x2 : Int64} {x4 : Int32} {h : AH} {z : (AH)} (hf : X7_qTakes_15 a0 x1 x2 x4 h = some z) (hk : Q = QM G X h0 none z) {lv : List (Nat × AV)} (hl : lle lv [(0, vr (some a0)), (1, vi x1), (2, vl x2), (4, vi x4)]) : V G X 6 h0 Q h 15 lv [] := by
  refine V.sub hl ?_
  unfold X7_qTakes_15 at hf
  refine v_iconst ok 0 dX7_qTakes_15 rfl ?_
  exact W_X7_qTakes_16 ok hr hd hf hk ⟨rfl, rfl, rfl, rfl, trivial⟩
theorem W_X7_qTakes {G : GT} {X : CX} {d : Nat} {h0 : AH} {Q : State → Prop} (ok : Ok G X RX7 cX7_qTakes 6 d h0) (hr : (cxm X).sig.returnType = none) (hd : 1 ≤ d) {a0 : Nat} {x1 : Int32} {x2 : Int64} {x4 : Int32} {h : AH} {z : (AH)} (hf : X7_qTakes a0 x1 x2 x4 h = some z) (hk : Q = QM G X h0 none z) {lv : List (Nat × AV)} (hl : lle lv [(0, vr (some a0)), (1, vi x1), (2, vl x2), (4, vi x4)]) : V G X 6 h0 Q h 0 lv [] := by
  refine V.sub hl ?_
  unfold X7_qTakes at hf
  refine v_iload_n ok 1 dX7_qTakes_0 rfl rfl ?_
  refine v_iconst ok 3 dX7_qTakes_1 rfl ?_
  refine v_icmp_ge ok 15 dX7_qTakes_2 rfl hf (fun hf => ?_) (fun hf => ?_)
  ·
    exact W_X7_qTakes_15 ok hr hd hf hk ⟨rfl, rfl, rfl, rfl, trivial⟩
  ·
    refine v_lload_n ok 2 dX7_qTakes_5 rfl rfl ?_
    refine v_lconst ok 1 dX7_qTakes_6 rfl ?_
    refine v_lcmp ok dX7_qTakes_7 ?_
    refine v_if_ne ok 15 dX7_qTakes_8 rfl hf (fun hf => ?_) (fun hf => ?_)
    ·
      exact W_X7_qTakes_15 ok hr hd hf hk ⟨rfl, rfl, rfl, rfl, trivial⟩
    ·
      refine v_iconst ok 1 dX7_qTakes_11 rfl ?_
      refine v_goto ok 16 dX7_qTakes_12 rfl ?_
      exact W_X7_qTakes_16 ok hr hd hf hk ⟨rfl, rfl, rfl, rfl, trivial⟩
theorem M_X7_qTakes {G : GT} {l : Launch} (hG : Glob G) {d : Nat} (hd : 1 ≤ d) {a0 : Nat} {x1 : Int32} {x2 : Int64} {x4 : Int32} {h : AH} {h' : AH} (hf : X7_qTakes a0 x1 x2 x4 h = some h') : MM G l yX7_qTakes cX7_qTakes 6 none d [vr (some a0), vi x1, vl x2, vi x4] h none h' := by
  refine mm_of hG (plainFor_of_name (by decide)) (Nat.le_of_ble_eq_true rfl) (fun X hX ok hr hnm => ?_)
  subst hX
  exact W_X7_qTakes ok hr hd hf rfl ⟨rfl, rfl, rfl, rfl, trivial⟩
theorem cw_X7_qOf : CW yX7_qOf cX7_qOf 5 (Option.some Jvm.ClassFile.FieldType.long) 3 := ⟨q2676, q185, ⟨by decide, by decide⟩, by decide +kernel, by decide⟩
theorem W_X7_qOf {G : GT} {X : CX} {d : Nat} {h0 : AH} {Q : State → Prop} (ok : Ok G X RX7 cX7_qOf 5 d h0) (hr : (cxm X).sig.returnType = (Option.some Jvm.ClassFile.FieldType.long)) (hd : 3 ≤ d) {a0 : Nat} {x1 : Int32} {x2 : Int64} {x4 : Int32} {h : AH} {z : (Int64 × AH)} (hf : X7_qOf a0 x1 x2 x4 h = some z) (hk : Q = QM G X h0 (some (vl z.1)) z.2) {lv : List (Nat × AV)} (hl : lle lv [(0, vr (some a0)), (1, vi x1), (2, vl x2), (4, vi x4)]) : V G X 5 h0 Q h 0 lv [] := by
  refine V.sub hl ?_
  unfold X7_qOf at hf
  refine v_iload_n ok 1 dX7_qOf_0 rfl rfl ?_
  refine sw_if (v := 0) hf (fun e_ hf => ?_) (fun n1 hf => ?_)
  ·
    refine v_lookup ok (off := 19) 20 dX7_qOf_1 (by decide) (by rw [e_]; try rfl) rfl ?_
    refine v_aload_n ok 0 dX7_qOf_20 rfl rfl ?_
    refine v_lload_n ok 2 dX7_qOf_21 rfl rfl ?_
    refine v_cVi ok (RX7, TX7, 117) cf_7.1 [vl x2] (F := fun a => X7_isWord a x2 h) (fun a v h1 _ hv => M_X7_isWord ok.2.2.2.2.2.2.1 (d := 2) (Nat.le_refl _) hv) (by exact Nat.le_trans (by decide) hd) cw_X7_isWord q2400 q2402 qs120 dX7_qOf_22 [] rfl (Nat.le_of_ble_eq_true rfl) hf (fun v2 h3 hf => ?_)
    refine v_if_eq ok 45 dX7_qOf_25 rfl hf (fun hf => ?_) (fun hf => ?_)
    ·
      refine v_ldc2 ok q2668 dX7_qOf_45 ?_
      exact v_lret ok hr (by cases hf; exact hk) dX7_qOf_48
    ·
      refine v_aload_n ok 0 dX7_qOf_28 rfl rfl ?_
      refine v_gR ok fl_X7_153 (by first | exact Or.inl ⟨_, rfl⟩ | exact Or.inr ⟨_, rfl⟩) dX7_qOf_29 hf (fun v4 hf => ?_)
      refine v_bipush ok 8 dX7_qOf_32 rfl ?_
      refine v_iload ok dX7_qOf_34 rfl ?_
      refine v_imul ok dX7_qOf_36 ?_
      refine v_lload_n ok 2 dX7_qOf_37 rfl rfl ?_
      refine v_l2i ok dX7_qOf_38 ?_
      refine v_iadd ok dX7_qOf_39 ?_
      refine v_iald ok rfl dX7_qOf_40 hf (fun v5 hf => ?_)
      refine v_i2l ok dX7_qOf_41 ?_
      refine v_goto ok 48 dX7_qOf_42 rfl ?_
      exact v_lret ok hr (by cases hf; exact hk) dX7_qOf_48
  ·
    have n1 := ne_toI 0 (by decide) n1
    refine v_lookup ok (off := 48) 49 dX7_qOf_1 (by decide) (by simp only [Op.lookupswitch.offset, List.find?]; simp [Ne.symm n1, n1]) rfl ?_
    refine v_lload_n ok 2 dX7_qOf_49 rfl rfl ?_
    refine v_lconst ok 0 dX7_qOf_50 rfl ?_
    refine v_aload_n ok 0 dX7_qOf_51 rfl rfl ?_
    refine v_iload ok dX7_qOf_52 rfl ?_
    refine v_cVi ok (RX7, TX7, 117) cf_7.1 [vi x4] (F := fun a => X7_longOf a x4 h) (fun a v h1 _ hv => M_X7_longOf ok.2.2.2.2.2.2.1 (d := 1) (Nat.le_refl _) hv) (by exact Nat.le_trans (by decide) hd) cw_X7_longOf q2337 q2339 qs109 dX7_qOf_54 [vl 0, vl x2] rfl (Nat.le_of_ble_eq_true rfl) hf (fun v6 h7 hf => ?_)
    refine v_iconst ok 1 dX7_qOf_57 rfl ?_
    refine v_isub ok dX7_qOf_58 ?_
    refine v_i2l ok dX7_qOf_59 ?_
    refine v_cSi ok [vl x2, vl 0, vl (Int32.toInt64 (v6 - 1))] (F := X7_isIn x2 0 (Int32.toInt64 (v6 - 1)) h7) (fun v h1 hv => M_X7_isIn ok.2.2.2.2.2.2.1 (d := 1) (Nat.le_refl _) hv) (by exact Nat.le_trans (by decide) hd) cw_X7_isIn q2215 q2216 dX7_qOf_60 [] rfl (Nat.le_of_ble_eq_true rfl) hf (fun v8 h9 hf => ?_)
    refine v_if_eq ok 78 dX7_qOf_63 rfl hf (fun hf => ?_) (fun hf => ?_)
    ·
      refine v_ldc2 ok q2668 dX7_qOf_78 ?_
      exact v_lret ok hr (by cases hf; exact hk) dX7_qOf_81
    ·
      refine v_aload_n ok 0 dX7_qOf_66 rfl rfl ?_
      refine v_iload ok dX7_qOf_67 rfl ?_
      refine v_lload_n ok 2 dX7_qOf_69 rfl rfl ?_
      refine v_l2i ok dX7_qOf_70 ?_
      refine v_cVi ok (RX7, TX7, 117) cf_7.1 [vi x4, vi (Int64.toInt32 x2)] (F := fun a => X7_letterOf a x4 (Int64.toInt32 x2) h9) (fun a v h1 _ hv => M_X7_letterOf ok.2.2.2.2.2.2.1 (d := 1) (Nat.le_refl _) hv) (by exact Nat.le_trans (by decide) hd) cw_X7_letterOf q2341 q2343 qs110 dX7_qOf_71 [] rfl (Nat.le_of_ble_eq_true rfl) hf (fun v10 h11 hf => ?_)
      refine v_i2l ok dX7_qOf_74 ?_
      refine v_goto ok 81 dX7_qOf_75 rfl ?_
      exact v_lret ok hr (by cases hf; exact hk) dX7_qOf_81
theorem M_X7_qOf {G : GT} {l : Launch} (hG : Glob G) {d : Nat} (hd : 3 ≤ d) {a0 : Nat} {x1 : Int32} {x2 : Int64} {x4 : Int32} {h : AH} {v : Int64} {h' : AH} (hf : X7_qOf a0 x1 x2 x4 h = some (v, h')) : MM G l yX7_qOf cX7_qOf 5 (Option.some Jvm.ClassFile.FieldType.long) d [vr (some a0), vi x1, vl x2, vi x4] h (some (vl v)) h' := by
  refine mm_of hG (plainFor_of_name (by decide)) (Nat.le_of_ble_eq_true rfl) (fun X hX ok hr hnm => ?_)
  subst hX
  exact W_X7_qOf ok hr hd hf rfl ⟨rfl, rfl, rfl, rfl, trivial⟩
theorem cw_X7_qTold : CW yX7_qTold cX7_qTold 4 (Option.some Jvm.ClassFile.FieldType.long) 1 := ⟨q2672, q185, ⟨by decide, by decide⟩, by decide +kernel, by decide⟩
def pkX7_qTold_7 (G : GT) (X : CX) (h0 : AH) (Q : State → Prop) (a0 : Nat) (x1 : Int32) (o : ((Int32 × AH) ⊕ (Int64 × AH))) : Prop := match o with
  | .inl s => ∀ lv : List (Nat × AV), lle lv [(0, vr (some a0)), (1, vi x1), (2, vi s.1)] → V G X 4 h0 Q s.2 7 lv []
  | .inr z => Q = QM G X h0 (some (vl z.1)) z.2
theorem W_X7_qTold_168 {G : GT} {X : CX} {d : Nat} {h0 : AH} {Q : State → Prop} (ok : Ok G X RX7 cX7_qTold 4 d h0) (hr : (cxm X).sig.returnType = (Option.some Jvm.ClassFile.FieldType.long)) (hd : 5 ≤ d) {a0 : Nat} {h : AH} {z : (Int64 × AH)} (hf : X7_qTold_168 a0 h = some z) (hk : Q = QM G X h0 (some (vl z.1)) z.2) {lv : List (Nat × AV)} (hl : lle lv [(0, vr (some a0))]) : V G X 4 h0 Q h 168 lv [] := by
  refine V.sub hl ?_
  unfold X7_qTold_168 at hf
  refine v_aload_n ok 0 dX7_qTold_168 rfl rfl ?_
  refine v_gR ok fl_X7_247 (by first | exact Or.inl ⟨_, rfl⟩ | exact Or.inr ⟨_, rfl⟩) dX7_qTold_169 hf (fun v1 hf => ?_)
  refine v_iconst ok 0 dX7_qTold_172 rfl ?_
  refine v_lald ok rfl dX7_qTold_173 hf (fun v2 hf => ?_)
  exact v_lret ok hr (by cases hf; exact hk) dX7_qTold_174
theorem W_X7_qTold_7b {G : GT} {X : CX} {d : Nat} {h0 : AH} {Q : State → Prop} (ok : Ok G X RX7 cX7_qTold 4 d h0) (hr : (cxm X).sig.returnType = (Option.some Jvm.ClassFile.FieldType.long)) (hd : 5 ≤ d) {a0 : Nat} {x1 : Int32} {x2 : Int32} {h : AH} {z : ((Int32 × AH) ⊕ (Int64 × AH))} (hf : X7_qTold_7b  a0 x1 x2 h = some z) (hk : pkX7_qTold_7 G X h0 Q a0 x1 z) {lv : List (Nat × AV)} (hl : lle lv [(0, vr (some a0)), (1, vi x1), (2, vi x2)]) : V G X 4 h0 Q h 7 lv [] := by
  refine V.sub hl ?_
  unfold X7_qTold_7b at hf
  refine v_iload_n ok 2 dX7_qTold_7 rfl rfl ?_
  refine v_aload_n ok 0 dX7_qTold_8 rfl rfl ?_
  refine v_gI ok fl_X7_344 (fun _ _ _ => rfl) dX7_qTold_9 hf (fun v3 hf => ?_)
  refine v_icmp_ge ok 168 dX7_qTold_12 rfl hf (fun hf => ?_) (fun hf => ?_)
  ·
    obtain ⟨o, ho, hz⟩ := ob hf
    cases hz; exact W_X7_qTold_168 ok hr hd ho hk ⟨rfl, trivial⟩
  ·
    refine v_aload_n ok 0 dX7_qTold_15 rfl rfl ?_
    refine v_gR ok fl_X7_241 (by first | exact Or.inl ⟨_, rfl⟩ | exact Or.inr ⟨_, rfl⟩) dX7_qTold_16 hf (fun v4 hf => ?_)
    refine v_iload_n ok 2 dX7_qTold_19 rfl rfl ?_
    refine v_iald ok rfl dX7_qTold_20 hf (fun v5 hf => ?_)
    refine v_istore_n ok 3 dX7_qTold_21 rfl (by decide) ?_
    refine v_iload_n ok 3 dX7_qTold_22 rfl rfl ?_
    refine v_sipush ok 1000 dX7_qTold_23 rfl ?_
    refine v_icmp_lt ok 42 dX7_qTold_26 rfl hf (fun hf => ?_) (fun hf => ?_)
    ·
      refine v_iload_n ok 3 dX7_qTold_42 rfl rfl ?_
      refine v_bipush ok 60 dX7_qTold_43 rfl ?_
      refine v_icmp_lt ok 85 dX7_qTold_45 rfl hf (fun hf => ?_) (fun hf => ?_)
      ·
        refine v_iload_n ok 3 dX7_qTold_85 rfl rfl ?_
        refine v_bipush ok 40 dX7_qTold_86 rfl ?_
        refine v_icmp_lt ok 110 dX7_qTold_88 rfl hf (fun hf => ?_) (fun hf => ?_)
        ·
          refine v_iload_n ok 3 dX7_qTold_110 rfl rfl ?_
          refine v_bipush ok 13 dX7_qTold_111 rfl ?_
          refine v_icmp_ne ok 124 dX7_qTold_113 rfl hf (fun hf => ?_) (fun hf => ?_)
          ·
            refine v_iload_n ok 3 dX7_qTold_124 rfl rfl ?_
            refine v_bipush ok 12 dX7_qTold_125 rfl ?_
            refine v_icmp_ne ok 157 dX7_qTold_127 rfl hf (fun hf => ?_) (fun hf => ?_)
            ·
              refine v_aload_n ok 0 dX7_qTold_157 rfl rfl ?_
              refine v_iload_n ok 3 dX7_qTold_158 rfl rfl ?_
              refine v_cVv ok (RX7, TX7, 117) cf_7.1 [vi v5] (F := fun a => X7_qJoins a v5 h) (fun a h1 _ hv => M_X7_qJoins ok.2.2.2.2.2.2.1 (d := 2) (Nat.le_refl _) hv) (by exact Nat.le_trans (by decide) hd) cw_X7_qJoins q2471 q2473 qs131 dX7_qTold_159 [] rfl (Nat.le_of_ble_eq_true rfl) hf (fun h6 hf => ?_)
              refine v_iinc ok x2 (x2 + 1) dX7_qTold_162 rfl rfl (by decide) ?_
              refine v_goto ok 7 dX7_qTold_165 rfl ?_
              cases hf; exact hk _ ⟨rfl, rfl, rfl, trivial⟩
            ·
              refine v_aload_n ok 0 dX7_qTold_130 rfl rfl ?_
              refine v_gR ok fl_X7_247 (by first | exact Or.inl ⟨_, rfl⟩ | exact Or.inr ⟨_, rfl⟩) dX7_qTold_131 hf (fun v7 hf => ?_)
              refine v_aload_n ok 0 dX7_qTold_134 rfl rfl ?_
              refine v_gI ok fl_X7_435 (fun _ _ _ => rfl) dX7_qTold_135 hf (fun v8 hf => ?_)
              refine v_iconst ok 1 dX7_qTold_138 rfl ?_
              refine v_isub ok dX7_qTold_139 ?_
              refine v_lconst ok 1 dX7_qTold_140 rfl ?_
              refine v_aload_n ok 0 dX7_qTold_141 rfl rfl ?_
              refine v_gR ok fl_X7_247 (by first | exact Or.inl ⟨_, rfl⟩ | exact Or.inr ⟨_, rfl⟩) dX7_qTold_142 hf (fun v9 hf => ?_)
              refine v_aload_n ok 0 dX7_qTold_145 rfl rfl ?_
              refine v_gI ok fl_X7_435 (fun _ _ _ => rfl) dX7_qTold_146 hf (fun v10 hf => ?_)
              refine v_iconst ok 1 dX7_qTold_149 rfl ?_
              refine v_isub ok dX7_qTold_150 ?_
              refine v_lald ok rfl dX7_qTold_151 hf (fun v11 hf => ?_)
              refine v_lsub ok dX7_qTold_152 ?_
              refine v_last ok rfl dX7_qTold_153 hf (fun h12 hf => ?_)
              refine v_goto ok 162 dX7_qTold_154 rfl ?_
              refine v_iinc ok x2 (x2 + 1) dX7_qTold_162 rfl rfl (by decide) ?_
              refine v_goto ok 7 dX7_qTold_165 rfl ?_
              cases hf; exact hk _ ⟨rfl, rfl, rfl, trivial⟩
          ·
            refine v_aload_n ok 0 dX7_qTold_116 rfl rfl ?_
            refine v_lconst ok 1 dX7_qTold_117 rfl ?_
            refine v_cVv ok (RX7, TX7, 117) cf_7.1 [vl 1] (F := fun a => X7_qPuts a 1 h) (fun a h1 _ hv => M_X7_qPuts ok.2.2.2.2.2.2.1 (d := 1) (Nat.le_refl _) hv) (by exact Nat.le_trans (by decide) hd) cw_X7_qPuts q2459 q2461 qs128 dX7_qTold_118 [] rfl (Nat.le_of_ble_eq_true rfl) hf (fun h13 hf => ?_)
            refine v_goto ok 162 dX7_qTold_121 rfl ?_
            refine v_iinc ok x2 (x2 + 1) dX7_qTold_162 rfl rfl (by decide) ?_
            refine v_goto ok 7 dX7_qTold_165 rfl ?_
            cases hf; exact hk _ ⟨rfl, rfl, rfl, trivial⟩
        ·
          refine v_aload_n ok 0 dX7_qTold_91 rfl rfl ?_
          refine v_aload_n ok 0 dX7_qTold_92 rfl rfl ?_
          refine v_iload_n ok 3 dX7_qTold_93 rfl rfl ?_
          refine v_bipush ok 40 dX7_qTold_94 rfl ?_
          refine v_isub ok dX7_qTold_96 ?_
          refine v_iload_n ok 1 dX7_qTold_97 rfl rfl ?_
          refine v_cVl ok (RX7, TX7, 117) cf_7.1 [vi (v5 - 40), vi x1] (F := fun a => X7_qPartOf a (v5 - 40) x1 h) (fun a v h1 _ hv => M_X7_qPartOf ok.2.2.2.2.2.2.1 (d := 4) (Nat.le_refl _) hv) (by exact Nat.le_trans (by decide) hd) cw_X7_qPartOf q2463 q2465 qs129 dX7_qTold_98 [vr (some a0)] rfl (Nat.le_of_ble_eq_true rfl) hf (fun v14 h15 hf => ?_)
          refine v_cSl ok [vl v14] (F := X7_qClip v14 h15) (fun v h1 hv => M_X7_qClip ok.2.2.2.2.2.2.1 (d := 1) (Nat.le_refl _) hv) (by exact Nat.le_trans (by decide) hd) cw_X7_qClip q2475 q2476 dX7_qTold_101 [vr (some a0)] rfl (Nat.le_of_ble_eq_true rfl) hf (fun v16 h17 hf => ?_)
          refine v_cVv ok (RX7, TX7, 117) cf_7.1 [vl v16] (F := fun a => X7_qPuts a v16 h17) (fun a h1 _ hv => M_X7_qPuts ok.2.2.2.2.2.2.1 (d := 1) (Nat.le_refl _) hv) (by exact Nat.le_trans (by decide) hd) cw_X7_qPuts q2459 q2461 qs128 dX7_qTold_104 [] rfl (Nat.le_of_ble_eq_true rfl) hf (fun h18 hf => ?_)
          refine v_goto ok 162 dX7_qTold_107 rfl ?_
          refine v_iinc ok x2 (x2 + 1) dX7_qTold_162 rfl rfl (by decide) ?_
          refine v_goto ok 7 dX7_qTold_165 rfl ?_
          cases hf; exact hk _ ⟨rfl, rfl, rfl, trivial⟩
      ·
        refine v_aload_n ok 0 dX7_qTold_48 rfl rfl ?_
        refine v_gR ok fl_X7_247 (by first | exact Or.inl ⟨_, rfl⟩ | exact Or.inr ⟨_, rfl⟩) dX7_qTold_49 hf (fun v19 hf => ?_)
        refine v_aload_n ok 0 dX7_qTold_52 rfl rfl ?_
        refine v_gI ok fl_X7_435 (fun _ _ _ => rfl) dX7_qTold_53 hf (fun v20 hf => ?_)
        refine v_iconst ok 1 dX7_qTold_56 rfl ?_
        refine v_isub ok dX7_qTold_57 ?_
        refine v_aload_n ok 0 dX7_qTold_58 rfl rfl ?_
        refine v_iload_n ok 3 dX7_qTold_59 rfl rfl ?_
        refine v_bipush ok 60 dX7_qTold_60 rfl ?_
        refine v_isub ok dX7_qTold_62 ?_
        refine v_aload_n ok 0 dX7_qTold_63 rfl rfl ?_
        refine v_gR ok fl_X7_247 (by first | exact Or.inl ⟨_, rfl⟩ | exact Or.inr ⟨_, rfl⟩) dX7_qTold_64 hf (fun v21 hf => ?_)
        refine v_aload_n ok 0 dX7_qTold_67 rfl rfl ?_
        refine v_gI ok fl_X7_435 (fun _ _ _ => rfl) dX7_qTold_68 hf (fun v22 hf => ?_)
        refine v_iconst ok 1 dX7_qTold_71 rfl ?_
        refine v_isub ok dX7_qTold_72 ?_
        refine v_lald ok rfl dX7_qTold_73 hf (fun v23 hf => ?_)
        refine v_iload_n ok 1 dX7_qTold_74 rfl rfl ?_
        refine v_cVl ok (RX7, TX7, 117) cf_7.1 [vi (v5 - 60), vl v23, vi x1] (F := fun a => X7_qOf a (v5 - 60) v23 x1 h) (fun a v h1 _ hv => M_X7_qOf ok.2.2.2.2.2.2.1 (d := 3) (Nat.le_refl _) hv) (by exact Nat.le_trans (by decide) hd) cw_X7_qOf q2673 q2675 qs160 dX7_qTold_75 [vi (v20 - 1), vr v19] rfl (Nat.le_of_ble_eq_true rfl) hf (fun v24 h25 hf => ?_)
        refine v_cSl ok [vl v24] (F := X7_qClip v24 h25) (fun v h1 hv => M_X7_qClip ok.2.2.2.2.2.2.1 (d := 1) (Nat.le_refl _) hv) (by exact Nat.le_trans (by decide) hd) cw_X7_qClip q2475 q2476 dX7_qTold_78 [vi (v20 - 1), vr v19] rfl (Nat.le_of_ble_eq_true rfl) hf (fun v26 h27 hf => ?_)
        refine v_last ok rfl dX7_qTold_81 hf (fun h28 hf => ?_)
        refine v_goto ok 162 dX7_qTold_82 rfl ?_
        refine v_iinc ok x2 (x2 + 1) dX7_qTold_162 rfl rfl (by decide) ?_
        refine v_goto ok 7 dX7_qTold_165 rfl ?_
        cases hf; exact hk _ ⟨rfl, rfl, rfl, trivial⟩
    ·
      refine v_aload_n ok 0 dX7_qTold_29 rfl rfl ?_
      refine v_iload_n ok 3 dX7_qTold_30 rfl rfl ?_
      refine v_sipush ok 1000 dX7_qTold_31 rfl ?_
      refine v_isub ok dX7_qTold_34 ?_
      refine v_i2l ok dX7_qTold_35 ?_
      refine v_cVv ok (RX7, TX7, 117) cf_7.1 [vl (Int32.toInt64 (v5 - 1000))] (F := fun a => X7_qPuts a (Int32.toInt64 (v5 - 1000)) h) (fun a h1 _ hv => M_X7_qPuts ok.2.2.2.2.2.2.1 (d := 1) (Nat.le_refl _) hv) (by exact Nat.le_trans (by decide) hd) cw_X7_qPuts q2459 q2461 qs128 dX7_qTold_36 [] rfl (Nat.le_of_ble_eq_true rfl) hf (fun h29 hf => ?_)
      refine v_goto ok 162 dX7_qTold_39 rfl ?_
      refine v_iinc ok x2 (x2 + 1) dX7_qTold_162 rfl rfl (by decide) ?_
      refine v_goto ok 7 dX7_qTold_165 rfl ?_
      cases hf; exact hk _ ⟨rfl, rfl, rfl, trivial⟩
theorem W_X7_qTold_7 {G : GT} {X : CX} {d : Nat} {h0 : AH} {Q : State → Prop} (ok : Ok G X RX7 cX7_qTold 4 d h0) (hr : (cxm X).sig.returnType = (Option.some Jvm.ClassFile.FieldType.long)) (hd : 5 ≤ d) {a0 : Nat} {x1 : Int32} {x2 : Int32} {h : AH} {z : (Int64 × AH)} (hf : X7_qTold_7  a0 x1 x2 h = some z) (hk : Q = QM G X h0 (some (vl z.1)) z.2) {lv : List (Nat × AV)} (hl : lle lv [(0, vr (some a0)), (1, vi x1), (2, vi x2)]) : V G X 4 h0 Q h 7 lv [] := by
  unfold X7_qTold_7 at hf
  exact loopC_walk (Wh := fun s : Int32 × AH => ∀ lv : List (Nat × AV), lle lv [(0, vr (some a0)), (1, vi x1), (2, vi s.1)] → V G X 4 h0 Q s.2 7 lv []) (PK := fun z => Q = QM G X h0 (some (vl z.1)) z.2) (fun s o hf hk lv hl => W_X7_qTold_7b ok hr hd hf (by cases o <;> exact hk) hl) _ z hf hk lv hl
theorem W_X7_qTold {G : GT} {X : CX} {d : Nat} {h0 : AH} {Q : State → Prop} (ok : Ok G X RX7 cX7_qTold 4 d h0) (hr : (cxm X).sig.returnType = (Option.some Jvm.ClassFile.FieldType.long)) (hd : 5 ≤ d) {a0 : Nat} {x1 : Int32} {h : AH} {z : (Int64 × AH)} (hf : X7_qTold a0 x1 h = some z) (hk : Q = QM G X h0 (some (vl z.1)) z.2) {lv : List (Nat × AV)} (hl : lle lv [(0, vr (some a0)), (1, vi x1)]) : V G X 4 h0 Q h 0 lv [] := by
  refine V.sub hl ?_
  unfold X7_qTold at hf
  refine v_aload_n ok 0 dX7_qTold_0 rfl rfl ?_
  refine v_iconst ok 0 dX7_qTold_1 rfl ?_
  refine v_pI ok fl_X7_435 ⟨fun _ _ _ => rfl, rfl⟩ (FN.of cf_7.1 rfl) dX7_qTold_2 hf (fun h30 hf => ?_)
  refine v_iconst ok 0 dX7_qTold_5 rfl ?_
  refine v_istore_n ok 2 dX7_qTold_6 rfl (by decide) ?_
  exact W_X7_qTold_7 ok hr hd hf hk ⟨rfl, rfl, rfl, trivial⟩
theorem M_X7_qTold {G : GT} {l : Launch} (hG : Glob G) {d : Nat} (hd : 5 ≤ d) {a0 : Nat} {x1 : Int32} {h : AH} {v : Int64} {h' : AH} (hf : X7_qTold a0 x1 h = some (v, h')) : MM G l yX7_qTold cX7_qTold 4 (Option.some Jvm.ClassFile.FieldType.long) d [vr (some a0), vi x1] h (some (vl v)) h' := by
  refine mm_of hG (plainFor_of_name (by decide)) (Nat.le_of_ble_eq_true rfl) (fun X hX ok hr hnm => ?_)
  subst hX
  exact W_X7_qTold ok hr hd hf rfl ⟨rfl, rfl, trivial⟩
theorem cw_X7_ask : CW yX7_ask cX7_ask 4 (Option.some Jvm.ClassFile.FieldType.long) 0 := ⟨q2663, q185, ⟨by decide, by decide⟩, by decide +kernel, by decide⟩
def pkX7_ask_228 (G : GT) (X : CX) (h0 : AH) (Q : State → Prop) (a0 : Nat) (x1 : Int32) (o : ((Int32 × AH) ⊕ (Int64 × AH))) : Prop := match o with
  | .inl s => ∀ lv : List (Nat × AV), lle lv [(0, vr (some a0)), (1, vi x1), (2, vi s.1)] → V G X 4 h0 Q s.2 228 lv []
  | .inr z => Q = QM G X h0 (some (vl z.1)) z.2
def pkX7_ask_167 (G : GT) (X : CX) (h0 : AH) (Q : State → Prop) (a0 : Nat) (x1 : Int32) (o : ((Int32 × AH) ⊕ (Int64 × AH))) : Prop := match o with
  | .inl s => ∀ lv : List (Nat × AV), lle lv [(0, vr (some a0)), (1, vi x1), (2, vi s.1)] → V G X 4 h0 Q s.2 167 lv []
  | .inr z => Q = QM G X h0 (some (vl z.1)) z.2
def pkX7_ask_177 (G : GT) (X : CX) (h0 : AH) (Q : State → Prop) (a0 : Nat) (x1 : Int32) (x2 : Int32) (o : ((Int32 × AH) ⊕ ((Int32 × AH) ⊕ (Int64 × AH)))) : Prop := match o with
  | .inl s => ∀ lv : List (Nat × AV), lle lv [(0, vr (some a0)), (1, vi x1), (2, vi x2), (3, vi s.1)] → V G X 4 h0 Q s.2 177 lv []
  | .inr z => pkX7_ask_167 G X h0 Q a0 x1 z
theorem W_X7_ask_177b {G : GT} {X : CX} {d : Nat} {h0 : AH} {Q : State → Prop} (ok : Ok G X RX7 cX7_ask 4 d h0) (hr : (cxm X).sig.returnType = (Option.some Jvm.ClassFile.FieldType.long)) (hd : 10 ≤ d) {a0 : Nat} {x1 : Int32} {x2 : Int32} {x3 : Int32} {h : AH} {z : ((Int32 × AH) ⊕ ((Int32 × AH) ⊕ (Int64 × AH)))} (hf : X7_ask_177b  a0 x1 x2 x3 h = some z) (hk : pkX7_ask_177 G X h0 Q a0 x1 x2 z) {lv : List (Nat × AV)} (hl : lle lv [(0, vr (some a0)), (1, vi x1), (2, vi x2), (3, vi x3)]) : V G X 4 h0 Q h 177 lv [] := by
  refine V.sub hl ?_
  unfold X7_ask_177b at hf
  refine v_iload_n ok 3 dX7_ask_177 rfl rfl ?_
  refine v_aload_n ok 0 dX7_ask_178 rfl rfl ?_
  refine v_cVi ok (RX7, TX7, 117) cf_7.1 [] (F := fun a => X7_wordMany a h) (fun a v h1 _ hv => M_X7_wordMany ok.2.2.2.2.2.2.1 (d := 1) (Nat.le_refl _) hv) (by exact Nat.le_trans (by decide) hd) cw_X7_wordMany q2365 q2367 qs114 dX7_ask_179 [vi x3] rfl (Nat.le_of_ble_eq_true rfl) hf (fun v1 h2 hf => ?_)
  refine v_icmp_ge ok 215 dX7_ask_182 rfl hf (fun hf => ?_) (fun hf => ?_)
  ·
    refine v_iinc ok x2 (x2 + 1) dX7_ask_215 rfl rfl (by decide) ?_
    refine v_goto ok 167 dX7_ask_218 rfl ?_
    cases hf; exact hk _ ⟨rfl, rfl, rfl, trivial⟩
  ·
    refine v_aload_n ok 0 dX7_ask_185 rfl rfl ?_
    refine v_iload_n ok 2 dX7_ask_186 rfl rfl ?_
    refine v_iload_n ok 3 dX7_ask_187 rfl rfl ?_
    refine v_iconst ok 0 dX7_ask_188 rfl ?_
    refine v_cVv ok (RX7, TX7, 117) cf_7.1 [vi x2, vi x3, vi 0] (F := fun a => X7_laysLine a x2 x3 0 h2) (fun a h1 _ hv => M_X7_laysLine ok.2.2.2.2.2.2.1 (d := 9) (Nat.le_refl _) hv) (by exact Nat.le_trans (by decide) hd) cw_X7_laysLine q2556 q2558 qs146 dX7_ask_189 [] rfl (Nat.le_of_ble_eq_true rfl) hf (fun h3 hf => ?_)
    refine v_aload_n ok 0 dX7_ask_192 rfl rfl ?_
    refine v_gR ok fl_X7_153 (by first | exact Or.inl ⟨_, rfl⟩ | exact Or.inr ⟨_, rfl⟩) dX7_ask_193 hf (fun v4 hf => ?_)
    refine v_bipush ok 8 dX7_ask_196 rfl ?_
    refine v_iload_n ok 2 dX7_ask_198 rfl rfl ?_
    refine v_imul ok dX7_ask_199 ?_
    refine v_iload_n ok 3 dX7_ask_200 rfl rfl ?_
    refine v_iadd ok dX7_ask_201 ?_
    refine v_aload_n ok 0 dX7_ask_202 rfl rfl ?_
    refine v_gR ok fl_X7_144 (by first | exact Or.inl ⟨_, rfl⟩ | exact Or.inr ⟨_, rfl⟩) dX7_ask_203 hf (fun v5 hf => ?_)
    refine v_iconst ok 0 dX7_ask_206 rfl ?_
    refine v_iald ok rfl dX7_ask_207 hf (fun v6 hf => ?_)
    refine v_iast ok rfl dX7_ask_208 hf (fun h7 hf => ?_)
    refine v_iinc ok x3 (x3 + 1) dX7_ask_209 rfl rfl (by decide) ?_
    refine v_goto ok 177 dX7_ask_212 rfl ?_
    cases hf; exact hk _ ⟨rfl, rfl, rfl, rfl, trivial⟩
theorem W_X7_ask_177 {G : GT} {X : CX} {d : Nat} {h0 : AH} {Q : State → Prop} (ok : Ok G X RX7 cX7_ask 4 d h0) (hr : (cxm X).sig.returnType = (Option.some Jvm.ClassFile.FieldType.long)) (hd : 10 ≤ d) {a0 : Nat} {x1 : Int32} {x2 : Int32} {x3 : Int32} {h : AH} {z : ((Int32 × AH) ⊕ (Int64 × AH))} (hf : X7_ask_177  a0 x1 x2 x3 h = some z) (hk : pkX7_ask_167 G X h0 Q a0 x1 z) {lv : List (Nat × AV)} (hl : lle lv [(0, vr (some a0)), (1, vi x1), (2, vi x2), (3, vi x3)]) : V G X 4 h0 Q h 177 lv [] := by
  unfold X7_ask_177 at hf
  exact loopC_walk (Wh := fun s : Int32 × AH => ∀ lv : List (Nat × AV), lle lv [(0, vr (some a0)), (1, vi x1), (2, vi x2), (3, vi s.1)] → V G X 4 h0 Q s.2 177 lv []) (PK := fun z => pkX7_ask_167 G X h0 Q a0 x1 z) (fun s o hf hk lv hl => W_X7_ask_177b ok hr hd hf (by cases o <;> exact hk) hl) _ z hf hk lv hl
theorem W_X7_ask_253 {G : GT} {X : CX} {d : Nat} {h0 : AH} {Q : State → Prop} (ok : Ok G X RX7 cX7_ask 4 d h0) (hr : (cxm X).sig.returnType = (Option.some Jvm.ClassFile.FieldType.long)) (hd : 10 ≤ d) {a0 : Nat} {h : AH} {z : (Int64 × AH)} (hf : X7_ask_253 a0 h = some z) (hk : Q = QM G X h0 (some (vl z.1)) z.2) {lv : List (Nat × AV)} (hl : lle lv [(0, vr (some a0))]) : V G X 4 h0 Q h 253 lv [] := by
  refine V.sub hl ?_
  unfold X7_ask_253 at hf
  refine v_aload_n ok 0 dX7_ask_253 rfl rfl ?_
  refine v_gL ok fl_X7_699 rfl dX7_ask_254 hf (fun v8 hf => ?_)
  exact v_lret ok hr (by cases hf; exact hk) dX7_ask_257
theorem W_X7_ask_228b {G : GT} {X : CX} {d : Nat} {h0 : AH} {Q : State → Prop} (ok : Ok G X RX7 cX7_ask 4 d h0) (hr : (cxm X).sig.returnType = (Option.some Jvm.ClassFile.FieldType.long)) (hd : 10 ≤ d) {a0 : Nat} {x1 : Int32} {x2 : Int32} {h : AH} {z : ((Int32 × AH) ⊕ (Int64 × AH))} (hf : X7_ask_228b  a0 x1 x2 h = some z) (hk : pkX7_ask_228 G X h0 Q a0 x1 z) {lv : List (Nat × AV)} (hl : lle lv [(0, vr (some a0)), (1, vi x1), (2, vi x2)]) : V G X 4 h0 Q h 228 lv [] := by
  refine V.sub hl ?_
  unfold X7_ask_228b at hf
  refine v_iload_n ok 2 dX7_ask_228 rfl rfl ?_
  refine v_aload_n ok 0 dX7_ask_229 rfl rfl ?_
  refine v_cVi ok (RX7, TX7, 117) cf_7.1 [] (F := fun a => X7_wordMany a h) (fun a v h1 _ hv => M_X7_wordMany ok.2.2.2.2.2.2.1 (d := 1) (Nat.le_refl _) hv) (by exact Nat.le_trans (by decide) hd) cw_X7_wordMany q2365 q2367 qs114 dX7_ask_230 [vi x2] rfl (Nat.le_of_ble_eq_true rfl) hf (fun v9 h10 hf => ?_)
  refine v_icmp_ge ok 253 dX7_ask_233 rfl hf (fun hf => ?_) (fun hf => ?_)
  ·
    obtain ⟨o, ho, hz⟩ := ob hf
    cases hz; exact W_X7_ask_253 ok hr hd ho hk ⟨rfl, trivial⟩
  ·
    refine v_aload_n ok 0 dX7_ask_236 rfl rfl ?_
    refine v_iload_n ok 1 dX7_ask_237 rfl rfl ?_
    refine v_aload_n ok 0 dX7_ask_238 rfl rfl ?_
    refine v_iload_n ok 2 dX7_ask_239 rfl rfl ?_
    refine v_cVl ok (RX7, TX7, 117) cf_7.1 [vi x2] (F := fun a => X7_qTold a x2 h10) (fun a v h1 _ hv => M_X7_qTold ok.2.2.2.2.2.2.1 (d := 5) (Nat.le_refl _) hv) (by exact Nat.le_trans (by decide) hd) cw_X7_qTold q2669 q2671 qs159 dX7_ask_240 [vi x1, vr (some a0)] rfl (Nat.le_of_ble_eq_true rfl) hf (fun v11 h12 hf => ?_)
    refine v_iload_n ok 2 dX7_ask_243 rfl rfl ?_
    refine v_cVv ok (RX7, TX7, 117) cf_7.1 [vi x1, vl v11, vi x2] (F := fun a => X7_qTakes a x1 v11 x2 h12) (fun a h1 _ hv => M_X7_qTakes ok.2.2.2.2.2.2.1 (d := 1) (Nat.le_refl _) hv) (by exact Nat.le_trans (by decide) hd) cw_X7_qTakes q2677 q2679 qs161 dX7_ask_244 [] rfl (Nat.le_of_ble_eq_true rfl) hf (fun h13 hf => ?_)
    refine v_iinc ok x2 (x2 + 1) dX7_ask_247 rfl rfl (by decide) ?_
    refine v_goto ok 228 dX7_ask_250 rfl ?_
    cases hf; exact hk _ ⟨rfl, rfl, rfl, trivial⟩
theorem W_X7_ask_228 {G : GT} {X : CX} {d : Nat} {h0 : AH} {Q : State → Prop} (ok : Ok G X RX7 cX7_ask 4 d h0) (hr : (cxm X).sig.returnType = (Option.some Jvm.ClassFile.FieldType.long)) (hd : 10 ≤ d) {a0 : Nat} {x1 : Int32} {x2 : Int32} {h : AH} {z : (Int64 × AH)} (hf : X7_ask_228  a0 x1 x2 h = some z) (hk : Q = QM G X h0 (some (vl z.1)) z.2) {lv : List (Nat × AV)} (hl : lle lv [(0, vr (some a0)), (1, vi x1), (2, vi x2)]) : V G X 4 h0 Q h 228 lv [] := by
  unfold X7_ask_228 at hf
  exact loopC_walk (Wh := fun s : Int32 × AH => ∀ lv : List (Nat × AV), lle lv [(0, vr (some a0)), (1, vi x1), (2, vi s.1)] → V G X 4 h0 Q s.2 228 lv []) (PK := fun z => Q = QM G X h0 (some (vl z.1)) z.2) (fun s o hf hk lv hl => W_X7_ask_228b ok hr hd hf (by cases o <;> exact hk) hl) _ z hf hk lv hl
theorem W_X7_ask_221 {G : GT} {X : CX} {d : Nat} {h0 : AH} {Q : State → Prop} (ok : Ok G X RX7 cX7_ask 4 d h0) (hr : (cxm X).sig.returnType = (Option.some Jvm.ClassFile.FieldType.long)) (hd : 10 ≤ d) {a0 : Nat} {x1 : Int32} {h : AH} {z : (Int64 × AH)} (hf : X7_ask_221 a0 x1 h = some z) (hk : Q = QM G X h0 (some (vl z.1)) z.2) {lv : List (Nat × AV)} (hl : lle lv [(0, vr (some a0)), (1, vi x1)]) : V G X 4 h0 Q h 221 lv [] := by
  refine V.sub hl ?_
  unfold X7_ask_221 at hf
  refine v_aload_n ok 0 dX7_ask_221 rfl rfl ?_
  refine v_iconst ok 2 dX7_ask_222 rfl ?_
  refine v_pI ok fl_X7_314 ⟨fun _ _ _ => rfl, rfl⟩ (FN.of cf_7.1 rfl) dX7_ask_223 hf (fun h14 hf => ?_)
  refine v_iconst ok 0 dX7_ask_226 rfl ?_
  refine v_istore_n ok 2 dX7_ask_227 rfl (by decide) ?_
  exact W_X7_ask_228 ok hr hd hf hk ⟨rfl, rfl, rfl, trivial⟩
theorem W_X7_ask_167b {G : GT} {X : CX} {d : Nat} {h0 : AH} {Q : State → Prop} (ok : Ok G X RX7 cX7_ask 4 d h0) (hr : (cxm X).sig.returnType = (Option.some Jvm.ClassFile.FieldType.long)) (hd : 10 ≤ d) {a0 : Nat} {x1 : Int32} {x2 : Int32} {h : AH} {z : ((Int32 × AH) ⊕ (Int64 × AH))} (hf : X7_ask_167b  a0 x1 x2 h = some z) (hk : pkX7_ask_167 G X h0 Q a0 x1 z) {lv : List (Nat × AV)} (hl : lle lv [(0, vr (some a0)), (1, vi x1), (2, vi x2)]) : V G X 4 h0 Q h 167 lv [] := by
  refine V.sub hl ?_
  unfold X7_ask_167b at hf
  refine v_iload_n ok 2 dX7_ask_167 rfl rfl ?_
  refine v_aload_n ok 0 dX7_ask_168 rfl rfl ?_
  refine v_cVi ok (RX7, TX7, 117) cf_7.1 [] (F := fun a => X7_wordMany a h) (fun a v h1 _ hv => M_X7_wordMany ok.2.2.2.2.2.2.1 (d := 1) (Nat.le_refl _) hv) (by exact Nat.le_trans (by decide) hd) cw_X7_wordMany q2365 q2367 qs114 dX7_ask_169 [vi x2] rfl (Nat.le_of_ble_eq_true rfl) hf (fun v15 h16 hf => ?_)
  refine v_icmp_ge ok 221 dX7_ask_172 rfl hf (fun hf => ?_) (fun hf => ?_)
  ·
    obtain ⟨o, ho, hz⟩ := ob hf
    cases hz; exact W_X7_ask_221 ok hr hd ho hk ⟨rfl, rfl, trivial⟩
  ·
    refine v_iconst ok 0 dX7_ask_175 rfl ?_
    refine v_istore_n ok 3 dX7_ask_176 rfl (by decide) ?_
    exact W_X7_ask_177 ok hr hd hf hk ⟨rfl, rfl, rfl, rfl, trivial⟩
theorem W_X7_ask_167 {G : GT} {X : CX} {d : Nat} {h0 : AH} {Q : State → Prop} (ok : Ok G X RX7 cX7_ask 4 d h0) (hr : (cxm X).sig.returnType = (Option.some Jvm.ClassFile.FieldType.long)) (hd : 10 ≤ d) {a0 : Nat} {x1 : Int32} {x2 : Int32} {h : AH} {z : (Int64 × AH)} (hf : X7_ask_167  a0 x1 x2 h = some z) (hk : Q = QM G X h0 (some (vl z.1)) z.2) {lv : List (Nat × AV)} (hl : lle lv [(0, vr (some a0)), (1, vi x1), (2, vi x2)]) : V G X 4 h0 Q h 167 lv [] := by
  unfold X7_ask_167 at hf
  exact loopC_walk (Wh := fun s : Int32 × AH => ∀ lv : List (Nat × AV), lle lv [(0, vr (some a0)), (1, vi x1), (2, vi s.1)] → V G X 4 h0 Q s.2 167 lv []) (PK := fun z => Q = QM G X h0 (some (vl z.1)) z.2) (fun s o hf hk lv hl => W_X7_ask_167b ok hr hd hf (by cases o <;> exact hk) hl) _ z hf hk lv hl
theorem W_X7_ask_157 {G : GT} {X : CX} {d : Nat} {h0 : AH} {Q : State → Prop} (ok : Ok G X RX7 cX7_ask 4 d h0) (hr : (cxm X).sig.returnType = (Option.some Jvm.ClassFile.FieldType.long)) (hd : 10 ≤ d) {a0 : Nat} {x1 : Int32} {s0 : Option Nat} {s1 : Int64} {h : AH} {z : (Int64 × AH)} (hf : X7_ask_157 a0 x1 s0 s1 h = some z) (hk : Q = QM G X h0 (some (vl z.1)) z.2) {lv : List (Nat × AV)} (hl : lle lv [(0, vr (some a0)), (1, vi x1)]) : V G X 4 h0 Q h 157 lv [vl s1, vr s0] := by
  refine V.sub hl ?_
  unfold X7_ask_157 at hf
  refine v_pL ok fl_X7_699 rfl (FN.of cf_7.1 rfl) dX7_ask_157 hf (fun h17 hf => ?_)
  refine v_aload_n ok 0 dX7_ask_160 rfl rfl ?_
  refine v_iconst ok 1 dX7_ask_161 rfl ?_
  refine v_pZ ok fl_X7_702 ⟨fun _ _ _ => rfl, by first | exact Or.inl rfl | exact Or.inr rfl⟩ (FN.of cf_7.1 rfl) dX7_ask_162 hf (fun h18 hf => ?_)
  refine v_iconst ok 0 dX7_ask_165 rfl ?_
  refine v_istore_n ok 2 dX7_ask_166 rfl (by decide) ?_
  exact W_X7_ask_167 ok hr hd hf hk ⟨rfl, rfl, rfl, trivial⟩
theorem W_X7_ask_117 {G : GT} {X : CX} {d : Nat} {h0 : AH} {Q : State → Prop} (ok : Ok G X RX7 cX7_ask 4 d h0) (hr : (cxm X).sig.returnType = (Option.some Jvm.ClassFile.FieldType.long)) (hd : 10 ≤ d) {a0 : Nat} {x1 : Int32} {h : AH} {z : (Int64 × AH)} (hf : X7_ask_117 a0 x1 h = some z) (hk : Q = QM G X h0 (some (vl z.1)) z.2) {lv : List (Nat × AV)} (hl : lle lv [(0, vr (some a0)), (1, vi x1)]) : V G X 4 h0 Q h 117 lv [] := by
  refine V.sub hl ?_
  unfold X7_ask_117 at hf
  refine v_aload_n ok 0 dX7_ask_117 rfl rfl ?_
  refine v_aload_n ok 0 dX7_ask_118 rfl rfl ?_
  refine v_gI ok fl_X7_257 (fun _ _ _ => rfl) dX7_ask_119 hf (fun v19 hf => ?_)
  refine v_pI ok fl_X7_386 ⟨fun _ _ _ => rfl, rfl⟩ (FN.of cf_7.1 rfl) dX7_ask_122 hf (fun h20 hf => ?_)
  refine v_aload_n ok 0 dX7_ask_125 rfl rfl ?_
  refine v_aload_n ok 0 dX7_ask_126 rfl rfl ?_
  refine v_gI ok fl_X7_260 (fun _ _ _ => rfl) dX7_ask_127 hf (fun v21 hf => ?_)
  refine v_pI ok fl_X7_13 ⟨fun _ _ _ => rfl, rfl⟩ (FN.of cf_7.1 rfl) dX7_ask_130 hf (fun h22 hf => ?_)
  refine v_aload_n ok 0 dX7_ask_133 rfl rfl ?_
  refine v_gI ok fl_X7_257 (fun _ _ _ => rfl) dX7_ask_134 hf (fun v23 hf => ?_)
  refine v_if_eq ok 144 dX7_ask_137 rfl hf (fun hf => ?_) (fun hf => ?_)
  ·
    refine v_aload_n ok 0 dX7_ask_144 rfl rfl ?_
    refine v_iload_n ok 1 dX7_ask_145 rfl rfl ?_
    refine v_iconst ok 2 dX7_ask_146 rfl ?_
    refine v_icmp_ge ok 156 dX7_ask_147 rfl hf (fun hf => ?_) (fun hf => ?_)
    ·
      refine v_lconst ok 0 dX7_ask_156 rfl ?_
      exact W_X7_ask_157 ok hr hd hf hk ⟨rfl, rfl, trivial⟩
    ·
      refine v_ldc2 ok q2668 dX7_ask_150 ?_
      refine v_goto ok 157 dX7_ask_153 rfl ?_
      exact W_X7_ask_157 ok hr hd hf hk ⟨rfl, rfl, trivial⟩
  ·
    refine v_ldc2 ok q2483 dX7_ask_140 ?_
    exact v_lret ok hr (by cases hf; exact hk) dX7_ask_143
theorem W_X7_ask_93 {G : GT} {X : CX} {d : Nat} {h0 : AH} {Q : State → Prop} (ok : Ok G X RX7 cX7_ask 4 d h0) (hr : (cxm X).sig.returnType = (Option.some Jvm.ClassFile.FieldType.long)) (hd : 10 ≤ d) {a0 : Nat} {x1 : Int32} {h : AH} {z : (Int64 × AH)} (hf : X7_ask_93 a0 x1 h = some z) (hk : Q = QM G X h0 (some (vl z.1)) z.2) {lv : List (Nat × AV)} (hl : lle lv [(0, vr (some a0)), (1, vi x1)]) : V G X 4 h0 Q h 93 lv [] := by
  refine V.sub hl ?_
  unfold X7_ask_93 at hf
  refine v_aload_n ok 0 dX7_ask_93 rfl rfl ?_
  refine v_gI ok fl_X7_257 (fun _ _ _ => rfl) dX7_ask_94 hf (fun v24 hf => ?_)
  refine v_if_ne ok 117 dX7_ask_97 rfl hf (fun hf => ?_) (fun hf => ?_)
  ·
    exact W_X7_ask_117 ok hr hd hf hk ⟨rfl, rfl, trivial⟩
  ·
    refine v_aload_n ok 0 dX7_ask_100 rfl rfl ?_
    refine v_cVi ok (RX7, TX7, 117) cf_7.1 [] (F := fun a => X7_look a h) (fun a v h1 _ hv => M_X7_look ok.2.2.2.2.2.2.1 (d := 1) (Nat.le_refl _) hv) (by exact Nat.le_trans (by decide) hd) cw_X7_look q2169 q2171 qs70 dX7_ask_101 [] rfl (Nat.le_of_ble_eq_true rfl) hf (fun v25 h26 hf => ?_)
    refine v_iconst ok (-1) dX7_ask_104 rfl ?_
    refine v_icmp_eq ok 117 dX7_ask_105 rfl hf (fun hf => ?_) (fun hf => ?_)
    ·
      exact W_X7_ask_117 ok hr hd hf hk ⟨rfl, rfl, trivial⟩
    ·
      refine v_aload_n ok 0 dX7_ask_108 rfl rfl ?_
      refine v_iconst ok 1 dX7_ask_109 rfl ?_
      refine v_aload_n ok 0 dX7_ask_110 rfl rfl ?_
      refine v_gI ok fl_X7_263 (fun _ _ _ => rfl) dX7_ask_111 hf (fun v27 hf => ?_)
      refine v_cVv ok (RX7, TX7, 117) cf_7.1 [vi 1, vi v27] (F := fun a => X7_fail a 1 v27 h26) (fun a h1 _ hv => M_X7_fail ok.2.2.2.2.2.2.1 (d := 1) (Nat.le_refl _) hv) (by exact Nat.le_trans (by decide) hd) cw_X7_fail q2177 q2179 qs72 dX7_ask_114 [] rfl (Nat.le_of_ble_eq_true rfl) hf (fun h28 hf => ?_)
      exact W_X7_ask_117 ok hr hd hf hk ⟨rfl, rfl, trivial⟩
theorem W_X7_ask_82 {G : GT} {X : CX} {d : Nat} {h0 : AH} {Q : State → Prop} (ok : Ok G X RX7 cX7_ask 4 d h0) (hr : (cxm X).sig.returnType = (Option.some Jvm.ClassFile.FieldType.long)) (hd : 10 ≤ d) {a0 : Nat} {x1 : Int32} {h : AH} {z : (Int64 × AH)} (hf : X7_ask_82 a0 x1 h = some z) (hk : Q = QM G X h0 (some (vl z.1)) z.2) {lv : List (Nat × AV)} (hl : lle lv [(0, vr (some a0)), (1, vi x1)]) : V G X 4 h0 Q h 82 lv [] := by
  refine V.sub hl ?_
  unfold X7_ask_82 at hf
  refine v_aload_n ok 0 dX7_ask_82 rfl rfl ?_
  refine v_gI ok fl_X7_257 (fun _ _ _ => rfl) dX7_ask_83 hf (fun v29 hf => ?_)
  refine v_if_ne ok 93 dX7_ask_86 rfl hf (fun hf => ?_) (fun hf => ?_)
  ·
    exact W_X7_ask_93 ok hr hd hf hk ⟨rfl, rfl, trivial⟩
  ·
    refine v_aload_n ok 0 dX7_ask_89 rfl rfl ?_
    refine v_cVv ok (RX7, TX7, 117) cf_7.1 [] (F := fun a => X7_qSums a h) (fun a h1 _ hv => M_X7_qSums ok.2.2.2.2.2.2.1 (d := 7) (Nat.le_refl _) hv) (by exact Nat.le_trans (by decide) hd) cw_X7_qSums q2258 q2260 qs90 dX7_ask_90 [] rfl (Nat.le_of_ble_eq_true rfl) hf (fun h30 hf => ?_)
    exact W_X7_ask_93 ok hr hd hf hk ⟨rfl, rfl, trivial⟩
theorem W_X7_ask {G : GT} {X : CX} {d : Nat} {h0 : AH} {Q : State → Prop} (ok : Ok G X RX7 cX7_ask 4 d h0) (hr : (cxm X).sig.returnType = (Option.some Jvm.ClassFile.FieldType.long)) (hd : 10 ≤ d) {a0 : Nat} {h : AH} {z : (Int64 × AH)} (hf : X7_ask a0 h = some z) (hk : Q = QM G X h0 (some (vl z.1)) z.2) {lv : List (Nat × AV)} (hl : lle lv [(0, vr (some a0))]) : V G X 4 h0 Q h 0 lv [] := by
  refine V.sub hl ?_
  unfold X7_ask at hf
  refine v_aload_n ok 0 dX7_ask_0 rfl rfl ?_
  refine v_aload_n ok 0 dX7_ask_1 rfl rfl ?_
  refine v_gI ok fl_X7_254 (fun _ _ _ => rfl) dX7_ask_2 hf (fun v31 hf => ?_)
  refine v_pI ok fl_X7_266 ⟨fun _ _ _ => rfl, rfl⟩ (FN.of cf_7.1 rfl) dX7_ask_5 hf (fun h32 hf => ?_)
  refine v_aload_n ok 0 dX7_ask_8 rfl rfl ?_
  refine v_iconst ok 0 dX7_ask_9 rfl ?_
  refine v_pI ok fl_X7_254 ⟨fun _ _ _ => rfl, rfl⟩ (FN.of cf_7.1 rfl) dX7_ask_10 hf (fun h33 hf => ?_)
  refine v_aload_n ok 0 dX7_ask_13 rfl rfl ?_
  refine v_iconst ok 0 dX7_ask_14 rfl ?_
  refine v_pI ok fl_X7_263 ⟨fun _ _ _ => rfl, rfl⟩ (FN.of cf_7.1 rfl) dX7_ask_15 hf (fun h34 hf => ?_)
  refine v_aload_n ok 0 dX7_ask_18 rfl rfl ?_
  refine v_iconst ok (-1) dX7_ask_19 rfl ?_
  refine v_pI ok fl_X7_277 ⟨fun _ _ _ => rfl, rfl⟩ (FN.of cf_7.1 rfl) dX7_ask_20 hf (fun h35 hf => ?_)
  refine v_aload_n ok 0 dX7_ask_23 rfl rfl ?_
  refine v_iconst ok 0 dX7_ask_24 rfl ?_
  refine v_pI ok fl_X7_257 ⟨fun _ _ _ => rfl, rfl⟩ (FN.of cf_7.1 rfl) dX7_ask_25 hf (fun h36 hf => ?_)
  refine v_aload_n ok 0 dX7_ask_28 rfl rfl ?_
  refine v_iconst ok (-1) dX7_ask_29 rfl ?_
  refine v_pI ok fl_X7_260 ⟨fun _ _ _ => rfl, rfl⟩ (FN.of cf_7.1 rfl) dX7_ask_30 hf (fun h37 hf => ?_)
  refine v_aload_n ok 0 dX7_ask_33 rfl rfl ?_
  refine v_iconst ok 2 dX7_ask_34 rfl ?_
  refine v_pI ok fl_X7_314 ⟨fun _ _ _ => rfl, rfl⟩ (FN.of cf_7.1 rfl) dX7_ask_35 hf (fun h38 hf => ?_)
  refine v_aload_n ok 0 dX7_ask_38 rfl rfl ?_
  refine v_iconst ok 0 dX7_ask_39 rfl ?_
  refine v_pI ok fl_X7_344 ⟨fun _ _ _ => rfl, rfl⟩ (FN.of cf_7.1 rfl) dX7_ask_40 hf (fun h39 hf => ?_)
  refine v_aload_n ok 0 dX7_ask_43 rfl rfl ?_
  refine v_iconst ok 0 dX7_ask_44 rfl ?_
  refine v_pI ok fl_X7_347 ⟨fun _ _ _ => rfl, rfl⟩ (FN.of cf_7.1 rfl) dX7_ask_45 hf (fun h40 hf => ?_)
  refine v_aload_n ok 0 dX7_ask_48 rfl rfl ?_
  refine v_iconst ok 0 dX7_ask_49 rfl ?_
  refine v_pI ok fl_X7_350 ⟨fun _ _ _ => rfl, rfl⟩ (FN.of cf_7.1 rfl) dX7_ask_50 hf (fun h41 hf => ?_)
  refine v_aload_n ok 0 dX7_ask_53 rfl rfl ?_
  refine v_iconst ok 0 dX7_ask_54 rfl ?_
  refine v_pI ok fl_X7_353 ⟨fun _ _ _ => rfl, rfl⟩ (FN.of cf_7.1 rfl) dX7_ask_55 hf (fun h42 hf => ?_)
  refine v_aload_n ok 0 dX7_ask_58 rfl rfl ?_
  refine v_cVi ok (RX7, TX7, 117) cf_7.1 [] (F := fun a => X7_qKind a h42) (fun a v h1 _ hv => M_X7_qKind ok.2.2.2.2.2.2.1 (d := 5) (Nat.le_refl _) hv) (by exact Nat.le_trans (by decide) hd) cw_X7_qKind q2664 q2666 qs158 dX7_ask_59 [] rfl (Nat.le_of_ble_eq_true rfl) hf (fun v43 h44 hf => ?_)
  refine v_istore_n ok 1 dX7_ask_62 rfl (by decide) ?_
  refine v_aload_n ok 0 dX7_ask_63 rfl rfl ?_
  refine v_gI ok fl_X7_257 (fun _ _ _ => rfl) dX7_ask_64 hf (fun v45 hf => ?_)
  refine v_if_ne ok 82 dX7_ask_67 rfl hf (fun hf => ?_) (fun hf => ?_)
  ·
    exact W_X7_ask_82 ok hr hd hf hk ⟨rfl, rfl, trivial⟩
  ·
    refine v_iload_n ok 1 dX7_ask_70 rfl rfl ?_
    refine v_iconst ok 3 dX7_ask_71 rfl ?_
    refine v_icmp_ge ok 82 dX7_ask_72 rfl hf (fun hf => ?_) (fun hf => ?_)
    ·
      exact W_X7_ask_82 ok hr hd hf hk ⟨rfl, rfl, trivial⟩
    ·
      refine v_aload_n ok 0 dX7_ask_75 rfl rfl ?_
      refine v_cVv ok (RX7, TX7, 117) cf_7.1 [] (F := fun a => X7_qTest a h44) (fun a h1 _ hv => M_X7_qTest ok.2.2.2.2.2.2.1 (d := 9) (Nat.le_refl _) hv) (by exact Nat.le_trans (by decide) hd) cw_X7_qTest q2242 q2244 qs86 dX7_ask_76 [] rfl (Nat.le_of_ble_eq_true rfl) hf (fun h46 hf => ?_)
      refine v_goto ok 93 dX7_ask_79 rfl ?_
      exact W_X7_ask_93 ok hr hd hf hk ⟨rfl, rfl, trivial⟩
theorem M_X7_ask {G : GT} {l : Launch} (hG : Glob G) {d : Nat} (hd : 10 ≤ d) {a0 : Nat} {h : AH} {v : Int64} {h' : AH} (hf : X7_ask a0 h = some (v, h')) : MM G l yX7_ask cX7_ask 4 (Option.some Jvm.ClassFile.FieldType.long) d [vr (some a0)] h (some (vl v)) h' := by
  refine mm_of hG (plainFor_of_name (by decide)) (Nat.le_of_ble_eq_true rfl) (fun X hX ok hr hnm => ?_)
  subst hX
  exact W_X7_ask ok hr hd hf rfl ⟨rfl, trivial⟩
theorem cw_X7_checked : CW yX7_checked cX7_checked 4 (Option.some Jvm.ClassFile.FieldType.int) 2 := ⟨q2695, q185, ⟨by decide, by decide⟩, by decide +kernel, by decide⟩
def pkX7_checked_6 (G : GT) (X : CX) (h0 : AH) (Q : State → Prop) (x0 : Option Nat) (x1 : Int32) (o : ((Int32 × Int32 × AH) ⊕ (Int32 × AH))) : Prop := match o with
  | .inl s => ∀ lv : List (Nat × AV), lle lv [(0, vr x0), (1, vi x1), (2, vi s.1), (3, vi s.2.1)] → V G X 4 h0 Q s.2.2 6 lv []
  | .inr z => Q = QM G X h0 (some (vi z.1)) z.2
theorem W_X7_checked_6b {G : GT} {X : CX} {d : Nat} {h0 : AH} {Q : State → Prop} (ok : Ok G X RX7 cX7_checked 4 d h0) (hr : (cxm X).sig.returnType = (Option.some Jvm.ClassFile.FieldType.int)) (hd : 1 ≤ d) {x0 : Option Nat} {x1 : Int32} {x2 : Int32} {x3 : Int32} {h : AH} {z : ((Int32 × Int32 × AH) ⊕ (Int32 × AH))} (hf : X7_checked_6b  x0 x1 x2 x3 h = some z) (hk : pkX7_checked_6 G X h0 Q x0 x1 z) {lv : List (Nat × AV)} (hl : lle lv [(0, vr x0), (1, vi x1), (2, vi x2), (3, vi x3)]) : V G X 4 h0 Q h 6 lv [] := by
  refine V.sub hl ?_
  unfold X7_checked_6b at hf
  refine v_iload_n ok 3 dX7_checked_6 rfl rfl ?_
  refine v_iload_n ok 1 dX7_checked_7 rfl rfl ?_
  refine v_icmp_ge ok 29 dX7_checked_8 rfl hf (fun hf => ?_) (fun hf => ?_)
  ·
    refine v_iload_n ok 2 dX7_checked_29 rfl rfl ?_
    exact v_iret ok hr (by cases hf; exact hk) dX7_checked_30
  ·
    refine v_iconst ok 3 dX7_checked_11 rfl ?_
    refine v_iload_n ok 2 dX7_checked_12 rfl rfl ?_
    refine v_imul ok dX7_checked_13 ?_
    refine v_aload_n ok 0 dX7_checked_14 rfl rfl ?_
    refine v_iload_n ok 3 dX7_checked_15 rfl rfl ?_
    refine v_iald ok rfl dX7_checked_16 hf (fun v1 hf => ?_)
    refine v_iadd ok dX7_checked_17 ?_
    refine v_sipush ok 251 dX7_checked_18 rfl ?_
    refine v_irem ok dX7_checked_21 hf (fun hf => ?_)
    refine v_istore_n ok 2 dX7_checked_22 rfl (by decide) ?_
    refine v_iinc ok x3 (x3 + 1) dX7_checked_23 rfl rfl (by decide) ?_
    refine v_goto ok 6 dX7_checked_26 rfl ?_
    cases hf; exact hk _ ⟨rfl, rfl, rfl, rfl, trivial⟩
theorem W_X7_checked_6 {G : GT} {X : CX} {d : Nat} {h0 : AH} {Q : State → Prop} (ok : Ok G X RX7 cX7_checked 4 d h0) (hr : (cxm X).sig.returnType = (Option.some Jvm.ClassFile.FieldType.int)) (hd : 1 ≤ d) {x0 : Option Nat} {x1 : Int32} {x2 : Int32} {x3 : Int32} {h : AH} {z : (Int32 × AH)} (hf : X7_checked_6  x0 x1 x2 x3 h = some z) (hk : Q = QM G X h0 (some (vi z.1)) z.2) {lv : List (Nat × AV)} (hl : lle lv [(0, vr x0), (1, vi x1), (2, vi x2), (3, vi x3)]) : V G X 4 h0 Q h 6 lv [] := by
  unfold X7_checked_6 at hf
  exact loopC_walk (Wh := fun s : Int32 × Int32 × AH => ∀ lv : List (Nat × AV), lle lv [(0, vr x0), (1, vi x1), (2, vi s.1), (3, vi s.2.1)] → V G X 4 h0 Q s.2.2 6 lv []) (PK := fun z => Q = QM G X h0 (some (vi z.1)) z.2) (fun s o hf hk lv hl => W_X7_checked_6b ok hr hd hf (by cases o <;> exact hk) hl) _ z hf hk lv hl
theorem W_X7_checked {G : GT} {X : CX} {d : Nat} {h0 : AH} {Q : State → Prop} (ok : Ok G X RX7 cX7_checked 4 d h0) (hr : (cxm X).sig.returnType = (Option.some Jvm.ClassFile.FieldType.int)) (hd : 1 ≤ d) {x0 : Option Nat} {x1 : Int32} {h : AH} {z : (Int32 × AH)} (hf : X7_checked x0 x1 h = some z) (hk : Q = QM G X h0 (some (vi z.1)) z.2) {lv : List (Nat × AV)} (hl : lle lv [(0, vr x0), (1, vi x1)]) : V G X 4 h0 Q h 0 lv [] := by
  refine V.sub hl ?_
  unfold X7_checked at hf
  refine v_sipush ok 223 dX7_checked_0 rfl ?_
  refine v_istore_n ok 2 dX7_checked_3 rfl (by decide) ?_
  refine v_iconst ok 0 dX7_checked_4 rfl ?_
  refine v_istore_n ok 3 dX7_checked_5 rfl (by decide) ?_
  exact W_X7_checked_6 ok hr hd hf hk ⟨rfl, rfl, rfl, rfl, trivial⟩
theorem M_X7_checked {G : GT} {l : Launch} (hG : Glob G) {d : Nat} (hd : 1 ≤ d) {x0 : Option Nat} {x1 : Int32} {h : AH} {v : Int32} {h' : AH} (hf : X7_checked x0 x1 h = some (v, h')) : MM G l yX7_checked cX7_checked 4 (Option.some Jvm.ClassFile.FieldType.int) d [vr x0, vi x1] h (some (vi v)) h' := by
  refine mm_of hG (plainFor_of_name (by decide)) (Nat.le_of_ble_eq_true rfl) (fun X hX ok hr hnm => ?_)
  subst hX
  exact W_X7_checked ok hr hd hf rfl ⟨rfl, rfl, trivial⟩
theorem cw_X7_writes : CW yX7_writes cX7_writes 2 none 1 := ⟨q2692, q185, ⟨by decide, by decide⟩, by decide +kernel, by decide⟩
theorem W_X7_writes {G : GT} {X : CX} {d : Nat} {h0 : AH} {Q : State → Prop} (ok : Ok G X RX7 cX7_writes 2 d h0) (hr : (cxm X).sig.returnType = none) (hd : 1 ≤ d) {a0 : Nat} {x1 : Int32} {h : AH} {z : (AH)} (hf : X7_writes a0 x1 h = some z) (hk : Q = QM G X h0 none z) {lv : List (Nat × AV)} (hl : lle lv [(0, vr (some a0)), (1, vi x1)]) : V G X 2 h0 Q h 0 lv [] := by
  refine V.sub hl ?_
  unfold X7_writes at hf
  refine v_aload_n ok 0 dX7_writes_0 rfl rfl ?_
  refine v_gR ok fl_X7_251 (by first | exact Or.inl ⟨_, rfl⟩ | exact Or.inr ⟨_, rfl⟩) dX7_writes_1 hf (fun v1 hf => ?_)
  refine v_aload_n ok 0 dX7_writes_4 rfl rfl ?_
  refine v_gI ok fl_X7_715 (fun _ _ _ => rfl) dX7_writes_5 hf (fun v2 hf => ?_)
  refine v_iload_n ok 1 dX7_writes_8 rfl rfl ?_
  refine v_iast ok rfl dX7_writes_9 hf (fun h3 hf => ?_)
  refine v_aload_n ok 0 dX7_writes_10 rfl rfl ?_
  refine v_dup ok dX7_writes_11 rfl ?_
  refine v_gI ok fl_X7_715 (fun _ _ _ => rfl) dX7_writes_12 hf (fun v4 hf => ?_)
  refine v_iconst ok 1 dX7_writes_15 rfl ?_
  refine v_iadd ok dX7_writes_16 ?_
  refine v_pI ok fl_X7_715 ⟨fun _ _ _ => rfl, rfl⟩ (FN.of cf_7.1 rfl) dX7_writes_17 hf (fun h5 hf => ?_)
  exact v_vret ok hr (by cases hf; exact hk) dX7_writes_20
theorem M_X7_writes {G : GT} {l : Launch} (hG : Glob G) {d : Nat} (hd : 1 ≤ d) {a0 : Nat} {x1 : Int32} {h : AH} {h' : AH} (hf : X7_writes a0 x1 h = some h') : MM G l yX7_writes cX7_writes 2 none d [vr (some a0), vi x1] h none h' := by
  refine mm_of hG (plainFor_of_name (by decide)) (Nat.le_of_ble_eq_true rfl) (fun X hX ok hr hnm => ?_)
  subst hX
  exact W_X7_writes ok hr hd hf rfl ⟨rfl, rfl, trivial⟩
theorem cw_X7_writesTwo : CW yX7_writesTwo cX7_writesTwo 2 none 1 := ⟨q2688, q185, ⟨by decide, by decide⟩, by decide +kernel, by decide⟩
theorem W_X7_writesTwo {G : GT} {X : CX} {d : Nat} {h0 : AH} {Q : State → Prop} (ok : Ok G X RX7 cX7_writesTwo 2 d h0) (hr : (cxm X).sig.returnType = none) (hd : 2 ≤ d) {a0 : Nat} {x1 : Int32} {h : AH} {z : (AH)} (hf : X7_writesTwo a0 x1 h = some z) (hk : Q = QM G X h0 none z) {lv : List (Nat × AV)} (hl : lle lv [(0, vr (some a0)), (1, vi x1)]) : V G X 2 h0 Q h 0 lv [] := by
  refine V.sub hl ?_
  unfold X7_writesTwo at hf
  refine v_aload_n ok 0 dX7_writesTwo_0 rfl rfl ?_
  refine v_iload_n ok 1 dX7_writesTwo_1 rfl rfl ?_
  refine v_sipush ok 256 dX7_writesTwo_2 rfl ?_
  refine v_idiv ok dX7_writesTwo_5 hf (fun hf => ?_)
  refine v_cVv ok (RX7, TX7, 117) cf_7.1 [vi (x1 / 256)] (F := fun a => X7_writes a (x1 / 256) h) (fun a h1 _ hv => M_X7_writes ok.2.2.2.2.2.2.1 (d := 1) (Nat.le_refl _) hv) (by exact Nat.le_trans (by decide) hd) cw_X7_writes q2689 q2691 qs163 dX7_writesTwo_6 [] rfl (Nat.le_of_ble_eq_true rfl) hf (fun h1 hf => ?_)
  refine v_aload_n ok 0 dX7_writesTwo_9 rfl rfl ?_
  refine v_iload_n ok 1 dX7_writesTwo_10 rfl rfl ?_
  refine v_sipush ok 256 dX7_writesTwo_11 rfl ?_
  refine v_irem ok dX7_writesTwo_14 hf (fun hf => ?_)
  refine v_cVv ok (RX7, TX7, 117) cf_7.1 [vi (jrem x1 256)] (F := fun a => X7_writes a (jrem x1 256) h1) (fun a h1 _ hv => M_X7_writes ok.2.2.2.2.2.2.1 (d := 1) (Nat.le_refl _) hv) (by exact Nat.le_trans (by decide) hd) cw_X7_writes q2689 q2691 qs163 dX7_writesTwo_15 [] rfl (Nat.le_of_ble_eq_true rfl) hf (fun h2 hf => ?_)
  exact v_vret ok hr (by cases hf; exact hk) dX7_writesTwo_18
theorem M_X7_writesTwo {G : GT} {l : Launch} (hG : Glob G) {d : Nat} (hd : 2 ≤ d) {a0 : Nat} {x1 : Int32} {h : AH} {h' : AH} (hf : X7_writesTwo a0 x1 h = some h') : MM G l yX7_writesTwo cX7_writesTwo 2 none d [vr (some a0), vi x1] h none h' := by
  refine mm_of hG (plainFor_of_name (by decide)) (Nat.le_of_ble_eq_true rfl) (fun X hX ok hr hnm => ?_)
  subst hX
  exact W_X7_writesTwo ok hr hd hf rfl ⟨rfl, rfl, trivial⟩
theorem cw_X7_image : CW yX7_image cX7_image 3 (Option.some Jvm.ClassFile.FieldType.int) 0 := ⟨q2684, q185, ⟨by decide, by decide⟩, by decide +kernel, by decide⟩
def pkX7_image_17 (G : GT) (X : CX) (h0 : AH) (Q : State → Prop) (a0 : Nat) (o : ((Int32 × AH) ⊕ (Int32 × AH))) : Prop := match o with
  | .inl s => ∀ lv : List (Nat × AV), lle lv [(0, vr (some a0)), (1, vi s.1)] → V G X 3 h0 Q s.2 17 lv []
  | .inr z => Q = QM G X h0 (some (vi z.1)) z.2
def pkX7_image_45 (G : GT) (X : CX) (h0 : AH) (Q : State → Prop) (a0 : Nat) (x1 : Int32) (o : ((Int32 × AH) ⊕ ((Int32 × AH) ⊕ (Int32 × AH)))) : Prop := match o with
  | .inl s => ∀ lv : List (Nat × AV), lle lv [(0, vr (some a0)), (1, vi x1), (2, vi s.1)] → V G X 3 h0 Q s.2 45 lv []
  | .inr z => pkX7_image_17 G X h0 Q a0 z
theorem W_X7_image_45b {G : GT} {X : CX} {d : Nat} {h0 : AH} {Q : State → Prop} (ok : Ok G X RX7 cX7_image 3 d h0) (hr : (cxm X).sig.returnType = (Option.some Jvm.ClassFile.FieldType.int)) (hd : 3 ≤ d) {a0 : Nat} {x1 : Int32} {x2 : Int32} {h : AH} {z : ((Int32 × AH) ⊕ ((Int32 × AH) ⊕ (Int32 × AH)))} (hf : X7_image_45b  a0 x1 x2 h = some z) (hk : pkX7_image_45 G X h0 Q a0 x1 z) {lv : List (Nat × AV)} (hl : lle lv [(0, vr (some a0)), (1, vi x1), (2, vi x2)]) : V G X 3 h0 Q h 45 lv [] := by
  refine V.sub hl ?_
  unfold X7_image_45b at hf
  refine v_iload_n ok 2 dX7_image_45 rfl rfl ?_
  refine v_bipush ok 6 dX7_image_46 rfl ?_
  refine v_icmp_ge ok 67 dX7_image_48 rfl hf (fun hf => ?_) (fun hf => ?_)
  ·
    refine v_iinc ok x1 (x1 + 1) dX7_image_67 rfl rfl (by decide) ?_
    refine v_goto ok 17 dX7_image_70 rfl ?_
    cases hf; exact hk _ ⟨rfl, rfl, trivial⟩
  ·
    refine v_aload_n ok 0 dX7_image_51 rfl rfl ?_
    refine v_aload_n ok 0 dX7_image_52 rfl rfl ?_
    refine v_iload_n ok 1 dX7_image_53 rfl rfl ?_
    refine v_iload_n ok 2 dX7_image_54 rfl rfl ?_
    refine v_cVi ok (RX7, TX7, 117) cf_7.1 [vi x1, vi x2] (F := fun a => X7_glyphAt a x1 x2 h) (fun a v h1 _ hv => M_X7_glyphAt ok.2.2.2.2.2.2.1 (d := 1) (Nat.le_refl _) hv) (by exact Nat.le_trans (by decide) hd) cw_X7_glyphAt q2377 q2379 qs117 dX7_image_55 [vr (some a0)] rfl (Nat.le_of_ble_eq_true rfl) hf (fun v1 h2 hf => ?_)
    refine v_cVv ok (RX7, TX7, 117) cf_7.1 [vi v1] (F := fun a => X7_writesTwo a v1 h2) (fun a h1 _ hv => M_X7_writesTwo ok.2.2.2.2.2.2.1 (d := 2) (Nat.le_refl _) hv) (by exact Nat.le_trans (by decide) hd) cw_X7_writesTwo q2685 q2687 qs162 dX7_image_58 [] rfl (Nat.le_of_ble_eq_true rfl) hf (fun h3 hf => ?_)
    refine v_iinc ok x2 (x2 + 1) dX7_image_61 rfl rfl (by decide) ?_
    refine v_goto ok 45 dX7_image_64 rfl ?_
    cases hf; exact hk _ ⟨rfl, rfl, rfl, trivial⟩
theorem W_X7_image_45 {G : GT} {X : CX} {d : Nat} {h0 : AH} {Q : State → Prop} (ok : Ok G X RX7 cX7_image 3 d h0) (hr : (cxm X).sig.returnType = (Option.some Jvm.ClassFile.FieldType.int)) (hd : 3 ≤ d) {a0 : Nat} {x1 : Int32} {x2 : Int32} {h : AH} {z : ((Int32 × AH) ⊕ (Int32 × AH))} (hf : X7_image_45  a0 x1 x2 h = some z) (hk : pkX7_image_17 G X h0 Q a0 z) {lv : List (Nat × AV)} (hl : lle lv [(0, vr (some a0)), (1, vi x1), (2, vi x2)]) : V G X 3 h0 Q h 45 lv [] := by
  unfold X7_image_45 at hf
  exact loopC_walk (Wh := fun s : Int32 × AH => ∀ lv : List (Nat × AV), lle lv [(0, vr (some a0)), (1, vi x1), (2, vi s.1)] → V G X 3 h0 Q s.2 45 lv []) (PK := fun z => pkX7_image_17 G X h0 Q a0 z) (fun s o hf hk lv hl => W_X7_image_45b ok hr hd hf (by cases o <;> exact hk) hl) _ z hf hk lv hl
theorem W_X7_image_73 {G : GT} {X : CX} {d : Nat} {h0 : AH} {Q : State → Prop} (ok : Ok G X RX7 cX7_image 3 d h0) (hr : (cxm X).sig.returnType = (Option.some Jvm.ClassFile.FieldType.int)) (hd : 3 ≤ d) {a0 : Nat} {h : AH} {z : (Int32 × AH)} (hf : X7_image_73 a0 h = some z) (hk : Q = QM G X h0 (some (vi z.1)) z.2) {lv : List (Nat × AV)} (hl : lle lv [(0, vr (some a0))]) : V G X 3 h0 Q h 73 lv [] := by
  refine V.sub hl ?_
  unfold X7_image_73 at hf
  refine v_aload_n ok 0 dX7_image_73 rfl rfl ?_
  refine v_aload_n ok 0 dX7_image_74 rfl rfl ?_
  refine v_gR ok fl_X7_251 (by first | exact Or.inl ⟨_, rfl⟩ | exact Or.inr ⟨_, rfl⟩) dX7_image_75 hf (fun v4 hf => ?_)
  refine v_aload_n ok 0 dX7_image_78 rfl rfl ?_
  refine v_gI ok fl_X7_715 (fun _ _ _ => rfl) dX7_image_79 hf (fun v5 hf => ?_)
  refine v_cSi ok [vr v4, vi v5] (F := X7_checked v4 v5 h) (fun v h1 hv => M_X7_checked ok.2.2.2.2.2.2.1 (d := 1) (Nat.le_refl _) hv) (by exact Nat.le_trans (by decide) hd) cw_X7_checked q2693 q2694 dX7_image_82 [vr (some a0)] rfl (Nat.le_of_ble_eq_true rfl) hf (fun v6 h7 hf => ?_)
  refine v_cVv ok (RX7, TX7, 117) cf_7.1 [vi v6] (F := fun a => X7_writes a v6 h7) (fun a h1 _ hv => M_X7_writes ok.2.2.2.2.2.2.1 (d := 1) (Nat.le_refl _) hv) (by exact Nat.le_trans (by decide) hd) cw_X7_writes q2689 q2691 qs163 dX7_image_85 [] rfl (Nat.le_of_ble_eq_true rfl) hf (fun h8 hf => ?_)
  refine v_aload_n ok 0 dX7_image_88 rfl rfl ?_
  refine v_gI ok fl_X7_715 (fun _ _ _ => rfl) dX7_image_89 hf (fun v9 hf => ?_)
  exact v_iret ok hr (by cases hf; exact hk) dX7_image_92
theorem W_X7_image_17b {G : GT} {X : CX} {d : Nat} {h0 : AH} {Q : State → Prop} (ok : Ok G X RX7 cX7_image 3 d h0) (hr : (cxm X).sig.returnType = (Option.some Jvm.ClassFile.FieldType.int)) (hd : 3 ≤ d) {a0 : Nat} {x1 : Int32} {h : AH} {z : ((Int32 × AH) ⊕ (Int32 × AH))} (hf : X7_image_17b  a0 x1 h = some z) (hk : pkX7_image_17 G X h0 Q a0 z) {lv : List (Nat × AV)} (hl : lle lv [(0, vr (some a0)), (1, vi x1)]) : V G X 3 h0 Q h 17 lv [] := by
  refine V.sub hl ?_
  unfold X7_image_17b at hf
  refine v_iload_n ok 1 dX7_image_17 rfl rfl ?_
  refine v_aload_n ok 0 dX7_image_18 rfl rfl ?_
  refine v_cVi ok (RX7, TX7, 117) cf_7.1 [] (F := fun a => X7_boardMany a h) (fun a v h1 _ hv => M_X7_boardMany ok.2.2.2.2.2.2.1 (d := 1) (Nat.le_refl _) hv) (by exact Nat.le_trans (by decide) hd) cw_X7_boardMany q2369 q2371 qs115 dX7_image_19 [vi x1] rfl (Nat.le_of_ble_eq_true rfl) hf (fun v10 h11 hf => ?_)
  refine v_icmp_ge ok 73 dX7_image_22 rfl hf (fun hf => ?_) (fun hf => ?_)
  ·
    obtain ⟨o, ho, hz⟩ := ob hf
    cases hz; exact W_X7_image_73 ok hr hd ho hk ⟨rfl, trivial⟩
  ·
    refine v_aload_n ok 0 dX7_image_25 rfl rfl ?_
    refine v_aload_n ok 0 dX7_image_26 rfl rfl ?_
    refine v_iload_n ok 1 dX7_image_27 rfl rfl ?_
    refine v_cVi ok (RX7, TX7, 117) cf_7.1 [vi x1] (F := fun a => X7_wordOf a x1 h11) (fun a v h1 _ hv => M_X7_wordOf ok.2.2.2.2.2.2.1 (d := 1) (Nat.le_refl _) hv) (by exact Nat.le_trans (by decide) hd) cw_X7_wordOf q2413 q2415 qs122 dX7_image_28 [vr (some a0)] rfl (Nat.le_of_ble_eq_true rfl) hf (fun v12 h13 hf => ?_)
    refine v_cVv ok (RX7, TX7, 117) cf_7.1 [vi v12] (F := fun a => X7_writes a v12 h13) (fun a h1 _ hv => M_X7_writes ok.2.2.2.2.2.2.1 (d := 1) (Nat.le_refl _) hv) (by exact Nat.le_trans (by decide) hd) cw_X7_writes q2689 q2691 qs163 dX7_image_31 [] rfl (Nat.le_of_ble_eq_true rfl) hf (fun h14 hf => ?_)
    refine v_aload_n ok 0 dX7_image_34 rfl rfl ?_
    refine v_aload_n ok 0 dX7_image_35 rfl rfl ?_
    refine v_iload_n ok 1 dX7_image_36 rfl rfl ?_
    refine v_cVi ok (RX7, TX7, 117) cf_7.1 [vi x1] (F := fun a => X7_handOf a x1 h14) (fun a v h1 _ hv => M_X7_handOf ok.2.2.2.2.2.2.1 (d := 1) (Nat.le_refl _) hv) (by exact Nat.le_trans (by decide) hd) cw_X7_handOf q2417 q2419 qs123 dX7_image_37 [vr (some a0)] rfl (Nat.le_of_ble_eq_true rfl) hf (fun v15 h16 hf => ?_)
    refine v_cVv ok (RX7, TX7, 117) cf_7.1 [vi v15] (F := fun a => X7_writes a v15 h16) (fun a h1 _ hv => M_X7_writes ok.2.2.2.2.2.2.1 (d := 1) (Nat.le_refl _) hv) (by exact Nat.le_trans (by decide) hd) cw_X7_writes q2689 q2691 qs163 dX7_image_40 [] rfl (Nat.le_of_ble_eq_true rfl) hf (fun h17 hf => ?_)
    refine v_iconst ok 0 dX7_image_43 rfl ?_
    refine v_istore_n ok 2 dX7_image_44 rfl (by decide) ?_
    exact W_X7_image_45 ok hr hd hf hk ⟨rfl, rfl, rfl, trivial⟩
theorem W_X7_image_17 {G : GT} {X : CX} {d : Nat} {h0 : AH} {Q : State → Prop} (ok : Ok G X RX7 cX7_image 3 d h0) (hr : (cxm X).sig.returnType = (Option.some Jvm.ClassFile.FieldType.int)) (hd : 3 ≤ d) {a0 : Nat} {x1 : Int32} {h : AH} {z : (Int32 × AH)} (hf : X7_image_17  a0 x1 h = some z) (hk : Q = QM G X h0 (some (vi z.1)) z.2) {lv : List (Nat × AV)} (hl : lle lv [(0, vr (some a0)), (1, vi x1)]) : V G X 3 h0 Q h 17 lv [] := by
  unfold X7_image_17 at hf
  exact loopC_walk (Wh := fun s : Int32 × AH => ∀ lv : List (Nat × AV), lle lv [(0, vr (some a0)), (1, vi s.1)] → V G X 3 h0 Q s.2 17 lv []) (PK := fun z => Q = QM G X h0 (some (vi z.1)) z.2) (fun s o hf hk lv hl => W_X7_image_17b ok hr hd hf (by cases o <;> exact hk) hl) _ z hf hk lv hl
theorem W_X7_image {G : GT} {X : CX} {d : Nat} {h0 : AH} {Q : State → Prop} (ok : Ok G X RX7 cX7_image 3 d h0) (hr : (cxm X).sig.returnType = (Option.some Jvm.ClassFile.FieldType.int)) (hd : 3 ≤ d) {a0 : Nat} {h : AH} {z : (Int32 × AH)} (hf : X7_image a0 h = some z) (hk : Q = QM G X h0 (some (vi z.1)) z.2) {lv : List (Nat × AV)} (hl : lle lv [(0, vr (some a0))]) : V G X 3 h0 Q h 0 lv [] := by
  refine V.sub hl ?_
  unfold X7_image at hf
  refine v_aload_n ok 0 dX7_image_0 rfl rfl ?_
  refine v_iconst ok 0 dX7_image_1 rfl ?_
  refine v_pI ok fl_X7_715 ⟨fun _ _ _ => rfl, rfl⟩ (FN.of cf_7.1 rfl) dX7_image_2 hf (fun h18 hf => ?_)
  refine v_aload_n ok 0 dX7_image_5 rfl rfl ?_
  refine v_aload_n ok 0 dX7_image_6 rfl rfl ?_
  refine v_gR ok fl_X7_132 (by first | exact Or.inl ⟨_, rfl⟩ | exact Or.inr ⟨_, rfl⟩) dX7_image_7 hf (fun v19 hf => ?_)
  refine v_iconst ok 0 dX7_image_10 rfl ?_
  refine v_iald ok rfl dX7_image_11 hf (fun v20 hf => ?_)
  refine v_cVv ok (RX7, TX7, 117) cf_7.1 [vi v20] (F := fun a => X7_writesTwo a v20 h18) (fun a h1 _ hv => M_X7_writesTwo ok.2.2.2.2.2.2.1 (d := 2) (Nat.le_refl _) hv) (by exact Nat.le_trans (by decide) hd) cw_X7_writesTwo q2685 q2687 qs162 dX7_image_12 [] rfl (Nat.le_of_ble_eq_true rfl) hf (fun h21 hf => ?_)
  refine v_iconst ok 0 dX7_image_15 rfl ?_
  refine v_istore_n ok 1 dX7_image_16 rfl (by decide) ?_
  exact W_X7_image_17 ok hr hd hf hk ⟨rfl, rfl, trivial⟩
theorem M_X7_image {G : GT} {l : Launch} (hG : Glob G) {d : Nat} (hd : 3 ≤ d) {a0 : Nat} {h : AH} {v : Int32} {h' : AH} (hf : X7_image a0 h = some (v, h')) : MM G l yX7_image cX7_image 3 (Option.some Jvm.ClassFile.FieldType.int) d [vr (some a0)] h (some (vi v)) h' := by
  refine mm_of hG (plainFor_of_name (by decide)) (Nat.le_of_ble_eq_true rfl) (fun X hX ok hr hnm => ?_)
  subst hX
  exact W_X7_image ok hr hd hf rfl ⟨rfl, trivial⟩
theorem cw_X7_octet : CW yX7_octet cX7_octet 2 (Option.some Jvm.ClassFile.FieldType.int) 1 := ⟨q2699, q185, ⟨by decide, by decide⟩, by decide +kernel, by decide⟩
theorem W_X7_octet {G : GT} {X : CX} {d : Nat} {h0 : AH} {Q : State → Prop} (ok : Ok G X RX7 cX7_octet 2 d h0) (hr : (cxm X).sig.returnType = (Option.some Jvm.ClassFile.FieldType.int)) (hd : 1 ≤ d) {a0 : Nat} {x1 : Int32} {h : AH} {z : (Int32 × AH)} (hf : X7_octet a0 x1 h = some z) (hk : Q = QM G X h0 (some (vi z.1)) z.2) {lv : List (Nat × AV)} (hl : lle lv [(0, vr (some a0)), (1, vi x1)]) : V G X 2 h0 Q h 0 lv [] := by
  refine V.sub hl ?_
  unfold X7_octet at hf
  refine v_iload_n ok 1 dX7_octet_0 rfl rfl ?_
  refine v_if_lt ok 21 dX7_octet_1 rfl hf (fun hf => ?_) (fun hf => ?_)
  ·
    refine v_iconst ok (-1) dX7_octet_21 rfl ?_
    exact v_iret ok hr (by cases hf; exact hk) dX7_octet_22
  ·
    refine v_iload_n ok 1 dX7_octet_4 rfl rfl ?_
    refine v_aload_n ok 0 dX7_octet_5 rfl rfl ?_
    refine v_gI ok fl_X7_715 (fun _ _ _ => rfl) dX7_octet_6 hf (fun v1 hf => ?_)
    refine v_icmp_ge ok 21 dX7_octet_9 rfl hf (fun hf => ?_) (fun hf => ?_)
    ·
      refine v_iconst ok (-1) dX7_octet_21 rfl ?_
      exact v_iret ok hr (by cases hf; exact hk) dX7_octet_22
    ·
      refine v_aload_n ok 0 dX7_octet_12 rfl rfl ?_
      refine v_gR ok fl_X7_251 (by first | exact Or.inl ⟨_, rfl⟩ | exact Or.inr ⟨_, rfl⟩) dX7_octet_13 hf (fun v2 hf => ?_)
      refine v_iload_n ok 1 dX7_octet_16 rfl rfl ?_
      refine v_iald ok rfl dX7_octet_17 hf (fun v3 hf => ?_)
      refine v_goto ok 22 dX7_octet_18 rfl ?_
      exact v_iret ok hr (by cases hf; exact hk) dX7_octet_22
theorem M_X7_octet {G : GT} {l : Launch} (hG : Glob G) {d : Nat} (hd : 1 ≤ d) {a0 : Nat} {x1 : Int32} {h : AH} {v : Int32} {h' : AH} (hf : X7_octet a0 x1 h = some (v, h')) : MM G l yX7_octet cX7_octet 2 (Option.some Jvm.ClassFile.FieldType.int) d [vr (some a0), vi x1] h (some (vi v)) h' := by
  refine mm_of hG (plainFor_of_name (by decide)) (Nat.le_of_ble_eq_true rfl) (fun X hX ok hr hnm => ?_)
  subst hX
  exact W_X7_octet ok hr hd hf rfl ⟨rfl, rfl, trivial⟩
theorem cw_X7_twoAt : CW yX7_twoAt cX7_twoAt 2 (Option.some Jvm.ClassFile.FieldType.int) 1 := ⟨q2711, q185, ⟨by decide, by decide⟩, by decide +kernel, by decide⟩
theorem W_X7_twoAt {G : GT} {X : CX} {d : Nat} {h0 : AH} {Q : State → Prop} (ok : Ok G X RX7 cX7_twoAt 2 d h0) (hr : (cxm X).sig.returnType = (Option.some Jvm.ClassFile.FieldType.int)) (hd : 1 ≤ d) {a0 : Nat} {x1 : Int32} {h : AH} {z : (Int32 × AH)} (hf : X7_twoAt a0 x1 h = some z) (hk : Q = QM G X h0 (some (vi z.1)) z.2) {lv : List (Nat × AV)} (hl : lle lv [(0, vr (some a0)), (1, vi x1)]) : V G X 2 h0 Q h 0 lv [] := by
  refine V.sub hl ?_
  unfold X7_twoAt at hf
  refine v_sipush ok 256 dX7_twoAt_0 rfl ?_
  refine v_aload_n ok 0 dX7_twoAt_3 rfl rfl ?_
  refine v_gR ok fl_X7_7 (by first | exact Or.inl ⟨_, rfl⟩ | exact Or.inr ⟨_, rfl⟩) dX7_twoAt_4 hf (fun v1 hf => ?_)
  refine v_iload_n ok 1 dX7_twoAt_7 rfl rfl ?_
  refine v_iald ok rfl dX7_twoAt_8 hf (fun v2 hf => ?_)
  refine v_imul ok dX7_twoAt_9 ?_
  refine v_aload_n ok 0 dX7_twoAt_10 rfl rfl ?_
  refine v_gR ok fl_X7_7 (by first | exact Or.inl ⟨_, rfl⟩ | exact Or.inr ⟨_, rfl⟩) dX7_twoAt_11 hf (fun v3 hf => ?_)
  refine v_iload_n ok 1 dX7_twoAt_14 rfl rfl ?_
  refine v_iconst ok 1 dX7_twoAt_15 rfl ?_
  refine v_iadd ok dX7_twoAt_16 ?_
  refine v_iald ok rfl dX7_twoAt_17 hf (fun v4 hf => ?_)
  refine v_iadd ok dX7_twoAt_18 ?_
  exact v_iret ok hr (by cases hf; exact hk) dX7_twoAt_19
theorem M_X7_twoAt {G : GT} {l : Launch} (hG : Glob G) {d : Nat} (hd : 1 ≤ d) {a0 : Nat} {x1 : Int32} {h : AH} {v : Int32} {h' : AH} (hf : X7_twoAt a0 x1 h = some (v, h')) : MM G l yX7_twoAt cX7_twoAt 2 (Option.some Jvm.ClassFile.FieldType.int) d [vr (some a0), vi x1] h (some (vi v)) h' := by
  refine mm_of hG (plainFor_of_name (by decide)) (Nat.le_of_ble_eq_true rfl) (fun X hX ok hr hnm => ?_)
  subst hX
  exact W_X7_twoAt ok hr hd hf rfl ⟨rfl, rfl, trivial⟩
theorem cw_X7_isBoardTold : CW yX7_isBoardTold cX7_isBoardTold 4 (Option.some Jvm.ClassFile.FieldType.boolean) 1 := ⟨q2715, q185, ⟨by decide, by decide⟩, by decide +kernel, by decide⟩
def pkX7_isBoardTold_51 (G : GT) (X : CX) (h0 : AH) (Q : State → Prop) (a0 : Nat) (x1 : Int32) (x2 : Int32) (o : ((Int32 × AH) ⊕ (Int32 × AH))) : Prop := match o with
  | .inl s => ∀ lv : List (Nat × AV), lle lv [(0, vr (some a0)), (1, vi x1), (2, vi x2), (3, vi s.1)] → V G X 4 h0 Q s.2 51 lv []
  | .inr z => Q = QM G X h0 (some (vi z.1)) z.2
theorem W_X7_isBoardTold_84 {G : GT} {X : CX} {d : Nat} {h0 : AH} {Q : State → Prop} (ok : Ok G X RX7 cX7_isBoardTold 4 d h0) (hr : (cxm X).sig.returnType = (Option.some Jvm.ClassFile.FieldType.boolean)) (hd : 4 ≤ d) {a0 : Nat} {x1 : Int32} {x2 : Int32} {x3 : Int32} {s0 : Int32} {s1 : Int32} {h : AH} {z : ((Int32 × AH) ⊕ (Int32 × AH))} (hf : X7_isBoardTold_84 a0 x1 x2 x3 s0 s1 h = some z) (hk : pkX7_isBoardTold_51 G X h0 Q a0 x1 x2 z) {lv : List (Nat × AV)} (hl : lle lv [(0, vr (some a0)), (1, vi x1), (2, vi x2), (3, vi x3)]) : V G X 4 h0 Q h 84 lv [vi s1, vi s0] := by
  refine V.sub hl ?_
  unfold X7_isBoardTold_84 at hf
  refine v_icmp_le ok 89 dX7_isBoardTold_84 rfl hf (fun hf => ?_) (fun hf => ?_)
  ·
    refine v_iinc ok x3 (x3 + 1) dX7_isBoardTold_89 rfl rfl (by decide) ?_
    refine v_goto ok 51 dX7_isBoardTold_92 rfl ?_
    cases hf; exact hk _ ⟨rfl, rfl, rfl, rfl, trivial⟩
  ·
    refine v_iconst ok 0 dX7_isBoardTold_87 rfl ?_
    exact v_zretL ok hr (by decide) (by decide) (by cases hf; exact hk) dX7_isBoardTold_88
theorem W_X7_isBoardTold_51b {G : GT} {X : CX} {d : Nat} {h0 : AH} {Q : State → Prop} (ok : Ok G X RX7 cX7_isBoardTold 4 d h0) (hr : (cxm X).sig.returnType = (Option.some Jvm.ClassFile.FieldType.boolean)) (hd : 4 ≤ d) {a0 : Nat} {x1 : Int32} {x2 : Int32} {x3 : Int32} {h : AH} {z : ((Int32 × AH) ⊕ (Int32 × AH))} (hf : X7_isBoardTold_51b  a0 x1 x2 x3 h = some z) (hk : pkX7_isBoardTold_51 G X h0 Q a0 x1 x2 z) {lv : List (Nat × AV)} (hl : lle lv [(0, vr (some a0)), (1, vi x1), (2, vi x2), (3, vi x3)]) : V G X 4 h0 Q h 51 lv [] := by
  refine V.sub hl ?_
  unfold X7_isBoardTold_51b at hf
  refine v_iload_n ok 3 dX7_isBoardTold_51 rfl rfl ?_
  refine v_bipush ok 6 dX7_isBoardTold_52 rfl ?_
  refine v_icmp_ge ok 95 dX7_isBoardTold_54 rfl hf (fun hf => ?_) (fun hf => ?_)
  ·
    refine v_iconst ok 1 dX7_isBoardTold_95 rfl ?_
    exact v_zretL ok hr (by decide) (by decide) (by cases hf; exact hk) dX7_isBoardTold_96
  ·
    refine v_aload_n ok 0 dX7_isBoardTold_57 rfl rfl ?_
    refine v_iload_n ok 1 dX7_isBoardTold_58 rfl rfl ?_
    refine v_iconst ok 2 dX7_isBoardTold_59 rfl ?_
    refine v_iadd ok dX7_isBoardTold_60 ?_
    refine v_iconst ok 2 dX7_isBoardTold_61 rfl ?_
    refine v_iload_n ok 3 dX7_isBoardTold_62 rfl rfl ?_
    refine v_imul ok dX7_isBoardTold_63 ?_
    refine v_iadd ok dX7_isBoardTold_64 ?_
    refine v_cVi ok (RX7, TX7, 117) cf_7.1 [vi ((x1 + 2) + (2 * x3))] (F := fun a => X7_twoAt a ((x1 + 2) + (2 * x3)) h) (fun a v h1 _ hv => M_X7_twoAt ok.2.2.2.2.2.2.1 (d := 1) (Nat.le_refl _) hv) (by exact Nat.le_trans (by decide) hd) cw_X7_twoAt q2708 q2710 qs165 dX7_isBoardTold_65 [] rfl (Nat.le_of_ble_eq_true rfl) hf (fun v1 h2 hf => ?_)
    refine v_iload_n ok 3 dX7_isBoardTold_68 rfl rfl ?_
    refine v_aload_n ok 0 dX7_isBoardTold_69 rfl rfl ?_
    refine v_iload_n ok 2 dX7_isBoardTold_70 rfl rfl ?_
    refine v_cVi ok (RX7, TX7, 117) cf_7.1 [vi x2] (F := fun a => X7_longOf a x2 h2) (fun a v h1 _ hv => M_X7_longOf ok.2.2.2.2.2.2.1 (d := 1) (Nat.le_refl _) hv) (by exact Nat.le_trans (by decide) hd) cw_X7_longOf q2337 q2339 qs109 dX7_isBoardTold_71 [vi x3, vi v1] rfl (Nat.le_of_ble_eq_true rfl) hf (fun v3 h4 hf => ?_)
    refine v_icmp_ge ok 83 dX7_isBoardTold_74 rfl hf (fun hf => ?_) (fun hf => ?_)
    ·
      refine v_iconst ok 0 dX7_isBoardTold_83 rfl ?_
      exact W_X7_isBoardTold_84 ok hr hd hf hk ⟨rfl, rfl, rfl, rfl, trivial⟩
    ·
      refine v_sipush ok 32767 dX7_isBoardTold_77 rfl ?_
      refine v_goto ok 84 dX7_isBoardTold_80 rfl ?_
      exact W_X7_isBoardTold_84 ok hr hd hf hk ⟨rfl, rfl, rfl, rfl, trivial⟩
theorem W_X7_isBoardTold_51 {G : GT} {X : CX} {d : Nat} {h0 : AH} {Q : State → Prop} (ok : Ok G X RX7 cX7_isBoardTold 4 d h0) (hr : (cxm X).sig.returnType = (Option.some Jvm.ClassFile.FieldType.boolean)) (hd : 4 ≤ d) {a0 : Nat} {x1 : Int32} {x2 : Int32} {x3 : Int32} {h : AH} {z : (Int32 × AH)} (hf : X7_isBoardTold_51  a0 x1 x2 x3 h = some z) (hk : Q = QM G X h0 (some (vi z.1)) z.2) {lv : List (Nat × AV)} (hl : lle lv [(0, vr (some a0)), (1, vi x1), (2, vi x2), (3, vi x3)]) : V G X 4 h0 Q h 51 lv [] := by
  unfold X7_isBoardTold_51 at hf
  exact loopC_walk (Wh := fun s : Int32 × AH => ∀ lv : List (Nat × AV), lle lv [(0, vr (some a0)), (1, vi x1), (2, vi x2), (3, vi s.1)] → V G X 4 h0 Q s.2 51 lv []) (PK := fun z => Q = QM G X h0 (some (vi z.1)) z.2) (fun s o hf hk lv hl => W_X7_isBoardTold_51b ok hr hd hf (by cases o <;> exact hk) hl) _ z hf hk lv hl
theorem W_X7_isBoardTold {G : GT} {X : CX} {d : Nat} {h0 : AH} {Q : State → Prop} (ok : Ok G X RX7 cX7_isBoardTold 4 d h0) (hr : (cxm X).sig.returnType = (Option.some Jvm.ClassFile.FieldType.boolean)) (hd : 4 ≤ d) {a0 : Nat} {x1 : Int32} {h : AH} {z : (Int32 × AH)} (hf : X7_isBoardTold a0 x1 h = some z) (hk : Q = QM G X h0 (some (vi z.1)) z.2) {lv : List (Nat × AV)} (hl : lle lv [(0, vr (some a0)), (1, vi x1)]) : V G X 4 h0 Q h 0 lv [] := by
  refine V.sub hl ?_
  unfold X7_isBoardTold at hf
  refine v_aload_n ok 0 dX7_isBoardTold_0 rfl rfl ?_
  refine v_gR ok fl_X7_7 (by first | exact Or.inl ⟨_, rfl⟩ | exact Or.inr ⟨_, rfl⟩) dX7_isBoardTold_1 hf (fun v5 hf => ?_)
  refine v_iload_n ok 1 dX7_isBoardTold_4 rfl rfl ?_
  refine v_iald ok rfl dX7_isBoardTold_5 hf (fun v6 hf => ?_)
  refine v_istore_n ok 2 dX7_isBoardTold_6 rfl (by decide) ?_
  refine v_aload_n ok 0 dX7_isBoardTold_7 rfl rfl ?_
  refine v_iload_n ok 2 dX7_isBoardTold_8 rfl rfl ?_
  refine v_i2l ok dX7_isBoardTold_9 ?_
  refine v_cVi ok (RX7, TX7, 117) cf_7.1 [vl (Int32.toInt64 v6)] (F := fun a => X7_isWord a (Int32.toInt64 v6) h) (fun a v h1 _ hv => M_X7_isWord ok.2.2.2.2.2.2.1 (d := 2) (Nat.le_refl _) hv) (by exact Nat.le_trans (by decide) hd) cw_X7_isWord q2400 q2402 qs120 dX7_isBoardTold_10 [] rfl (Nat.le_of_ble_eq_true rfl) hf (fun v7 h8 hf => ?_)
  refine v_if_eq ok 47 dX7_isBoardTold_13 rfl hf (fun hf => ?_) (fun hf => ?_)
  ·
    refine v_iconst ok 0 dX7_isBoardTold_47 rfl ?_
    exact v_zretL ok hr (by decide) (by decide) (by cases hf; exact hk) dX7_isBoardTold_48
  ·
    refine v_aload_n ok 0 dX7_isBoardTold_16 rfl rfl ?_
    refine v_aload_n ok 0 dX7_isBoardTold_17 rfl rfl ?_
    refine v_gR ok fl_X7_7 (by first | exact Or.inl ⟨_, rfl⟩ | exact Or.inr ⟨_, rfl⟩) dX7_isBoardTold_18 hf (fun v9 hf => ?_)
    refine v_iload_n ok 1 dX7_isBoardTold_21 rfl rfl ?_
    refine v_iconst ok 1 dX7_isBoardTold_22 rfl ?_
    refine v_iadd ok dX7_isBoardTold_23 ?_
    refine v_iald ok rfl dX7_isBoardTold_24 hf (fun v10 hf => ?_)
    refine v_cVi ok (RX7, TX7, 117) cf_7.1 [vi v10] (F := fun a => X7_isHand a v10 h8) (fun a v h1 _ hv => M_X7_isHand ok.2.2.2.2.2.2.1 (d := 2) (Nat.le_refl _) hv) (by exact Nat.le_trans (by decide) hd) cw_X7_isHand q2392 q2394 qs119 dX7_isBoardTold_25 [] rfl (Nat.le_of_ble_eq_true rfl) hf (fun v11 h12 hf => ?_)
    refine v_if_eq ok 47 dX7_isBoardTold_28 rfl hf (fun hf => ?_) (fun hf => ?_)
    ·
      refine v_iconst ok 0 dX7_isBoardTold_47 rfl ?_
      exact v_zretL ok hr (by decide) (by decide) (by cases hf; exact hk) dX7_isBoardTold_48
    ·
      refine v_aload_n ok 0 dX7_isBoardTold_31 rfl rfl ?_
      refine v_iload_n ok 2 dX7_isBoardTold_32 rfl rfl ?_
      refine v_aload_n ok 0 dX7_isBoardTold_33 rfl rfl ?_
      refine v_gR ok fl_X7_7 (by first | exact Or.inl ⟨_, rfl⟩ | exact Or.inr ⟨_, rfl⟩) dX7_isBoardTold_34 hf (fun v13 hf => ?_)
      refine v_iload_n ok 1 dX7_isBoardTold_37 rfl rfl ?_
      refine v_iconst ok 1 dX7_isBoardTold_38 rfl ?_
      refine v_iadd ok dX7_isBoardTold_39 ?_
      refine v_iald ok rfl dX7_isBoardTold_40 hf (fun v14 hf => ?_)
      refine v_cVi ok (RX7, TX7, 117) cf_7.1 [vi v6, vi v14] (F := fun a => X7_canPaint a v6 v14 h12) (fun a v h1 _ hv => M_X7_canPaint ok.2.2.2.2.2.2.1 (d := 3) (Nat.le_refl _) hv) (by exact Nat.le_trans (by decide) hd) cw_X7_canPaint q2540 q2542 qs143 dX7_isBoardTold_41 [] rfl (Nat.le_of_ble_eq_true rfl) hf (fun v15 h16 hf => ?_)
      refine v_if_ne ok 49 dX7_isBoardTold_44 rfl hf (fun hf => ?_) (fun hf => ?_)
      ·
        refine v_iconst ok 0 dX7_isBoardTold_49 rfl ?_
        refine v_istore_n ok 3 dX7_isBoardTold_50 rfl (by decide) ?_
        exact W_X7_isBoardTold_51 ok hr hd hf hk ⟨rfl, rfl, rfl, rfl, trivial⟩
      ·
        refine v_iconst ok 0 dX7_isBoardTold_47 rfl ?_
        exact v_zretL ok hr (by decide) (by decide) (by cases hf; exact hk) dX7_isBoardTold_48
theorem M_X7_isBoardTold {G : GT} {l : Launch} (hG : Glob G) {d : Nat} (hd : 4 ≤ d) {a0 : Nat} {x1 : Int32} {h : AH} {v : Int32} {h' : AH} (hf : X7_isBoardTold a0 x1 h = some (v, h')) : MM G l yX7_isBoardTold cX7_isBoardTold 4 (Option.some Jvm.ClassFile.FieldType.boolean) d [vr (some a0), vi x1] h (some (vi v)) h' := by
  refine mm_of hG (plainFor_of_name (by decide)) (Nat.le_of_ble_eq_true rfl) (fun X hX ok hr hnm => ?_)
  subst hX
  exact W_X7_isBoardTold ok hr hd hf rfl ⟨rfl, rfl, trivial⟩
