set_option maxRecDepth 100000
theorem cw_X2_byteAt : CW yX2_byteAt cX2_byteAt 2 (Option.some Jvm.ClassFile.FieldType.int) 1 := ⟨q679, q177, ⟨by decide, by decide⟩, by decide +kernel, by decide⟩
theorem W_X2_byteAt {G : GT} {X : CX} {d : Nat} {h0 : AH} {Q : State → Prop} (ok : Ok G X RX2 cX2_byteAt 2 d h0) (hr : (cxm X).sig.returnType = (Option.some Jvm.ClassFile.FieldType.int)) (hd : 1 ≤ d) {a0 : Nat} {x1 : Int32} {h : AH} {z : (Int32 × AH)} (hf : X2_byteAt a0 x1 h = some z) (hk : Q = QM G X h0 (some (vi z.1)) z.2) {lv : List (Nat × AV)} (hl : lle lv [(0, vr (some a0)), (1, vi x1)]) : V G X 2 h0 Q h 0 lv [] := by
  refine V.sub hl ?_
  unfold X2_byteAt at hf
  refine v_iload_n ok 1 dX2_byteAt_0 rfl rfl ?_
  refine v_if_lt ok 28 dX2_byteAt_1 rfl hf (fun hf => ?_) (fun hf => ?_)
  ·
    refine v_iconst ok (-1) dX2_byteAt_28 rfl ?_
    exact v_iret ok hr (by cases hf; exact hk) dX2_byteAt_29
  ·
    refine v_iload_n ok 1 dX2_byteAt_4 rfl rfl ?_
    refine v_aload_n ok 0 dX2_byteAt_5 rfl rfl ?_
    refine v_gI ok fl_X2_29 (fun _ _ _ => rfl) dX2_byteAt_6 hf (fun v1 hf => ?_)
    refine v_icmp_ge ok 28 dX2_byteAt_9 rfl hf (fun hf => ?_) (fun hf => ?_)
    ·
      refine v_iconst ok (-1) dX2_byteAt_28 rfl ?_
      exact v_iret ok hr (by cases hf; exact hk) dX2_byteAt_29
    ·
      refine v_aload_n ok 0 dX2_byteAt_12 rfl rfl ?_
      refine v_gR ok fl_X2_3 (by first | exact Or.inl ⟨_, rfl⟩ | exact Or.inr ⟨_, rfl⟩) dX2_byteAt_13 hf (fun v2 hf => ?_)
      refine v_gRN ok fl_X2_32 (by first | exact Or.inl ⟨_, rfl⟩ | exact Or.inr ⟨_, rfl⟩) dX2_byteAt_16 hf (fun v3 hf => ?_)
      refine v_iload_n ok 1 dX2_byteAt_19 rfl rfl ?_
      refine v_bald ok rfl dX2_byteAt_20 hf (fun v4 hf => ?_)
      refine v_sipush ok 255 dX2_byteAt_21 rfl ?_
      refine v_iand ok dX2_byteAt_24 ?_
      refine v_goto ok 29 dX2_byteAt_25 rfl ?_
      exact v_iret ok hr (by cases hf; exact hk) dX2_byteAt_29
theorem M_X2_byteAt {G : GT} {l : Launch} (hG : Glob G) {d : Nat} (hd : 1 ≤ d) {a0 : Nat} {x1 : Int32} {h : AH} {v : Int32} {h' : AH} (hf : X2_byteAt a0 x1 h = some (v, h')) : MM G l yX2_byteAt cX2_byteAt 2 (Option.some Jvm.ClassFile.FieldType.int) d [vr (some a0), vi x1] h (some (vi v)) h' := by
  refine mm_of hG (plainFor_of_name (by decide)) (Nat.le_of_ble_eq_true rfl) (fun X hX ok hr hnm => ?_)
  subst hX
  exact W_X2_byteAt ok hr hd hf rfl ⟨rfl, rfl, trivial⟩
theorem cw_X2_here : CW yX2_here cX2_here 1 (Option.some Jvm.ClassFile.FieldType.int) 0 := ⟨q675, q177, ⟨by decide, by decide⟩, by decide +kernel, by decide⟩
def pkX2_here_0 (G : GT) (X : CX) (h0 : AH) (Q : State → Prop) (a0 : Nat) (o : ((AH) ⊕ (Int32 × AH))) : Prop := match o with
  | .inl s => ∀ lv : List (Nat × AV), lle lv [(0, vr (some a0))] → V G X 1 h0 Q s 0 lv []
  | .inr z => Q = QM G X h0 (some (vi z.1)) z.2
theorem W_X2_here_26 {G : GT} {X : CX} {d : Nat} {h0 : AH} {Q : State → Prop} (ok : Ok G X RX2 cX2_here 1 d h0) (hr : (cxm X).sig.returnType = (Option.some Jvm.ClassFile.FieldType.int)) (hd : 2 ≤ d) {a0 : Nat} {h : AH} {z : ((AH) ⊕ (Int32 × AH))} (hf : X2_here_26 a0 h = some z) (hk : pkX2_here_0 G X h0 Q a0 z) {lv : List (Nat × AV)} (hl : lle lv [(0, vr (some a0))]) : V G X 1 h0 Q h 26 lv [] := by
  refine V.sub hl ?_
  unfold X2_here_26 at hf
  refine v_aload_n ok 0 dX2_here_26 rfl rfl ?_
  refine v_dup ok dX2_here_27 rfl ?_
  refine v_gI ok fl_X2_36 (fun _ _ _ => rfl) dX2_here_28 hf (fun v1 hf => ?_)
  refine v_iconst ok 1 dX2_here_31 rfl ?_
  refine v_iadd ok dX2_here_32 ?_
  refine v_pI ok fl_X2_36 ⟨fun _ _ _ => rfl, rfl⟩ (FN.of cf_2.1 rfl) dX2_here_33 hf (fun h2 hf => ?_)
  refine v_goto ok 0 dX2_here_36 rfl ?_
  cases hf; exact hk _ ⟨rfl, trivial⟩
theorem W_X2_here_39 {G : GT} {X : CX} {d : Nat} {h0 : AH} {Q : State → Prop} (ok : Ok G X RX2 cX2_here 1 d h0) (hr : (cxm X).sig.returnType = (Option.some Jvm.ClassFile.FieldType.int)) (hd : 2 ≤ d) {a0 : Nat} {h : AH} {z : (Int32 × AH)} (hf : X2_here_39 a0 h = some z) (hk : Q = QM G X h0 (some (vi z.1)) z.2) {lv : List (Nat × AV)} (hl : lle lv [(0, vr (some a0))]) : V G X 1 h0 Q h 39 lv [] := by
  refine V.sub hl ?_
  unfold X2_here_39 at hf
  refine v_aload_n ok 0 dX2_here_39 rfl rfl ?_
  refine v_aload_n ok 0 dX2_here_40 rfl rfl ?_
  refine v_gI ok fl_X2_36 (fun _ _ _ => rfl) dX2_here_41 hf (fun v3 hf => ?_)
  refine v_cVi ok (RX2, TX2, 8) cf_2.1 [vi v3] (F := fun a => X2_byteAt a v3 h) (fun a v h1 _ hv => M_X2_byteAt ok.2.2.2.2.2.2.1 (d := 1) (Nat.le_refl _) hv) (by exact Nat.le_trans (by decide) hd) cw_X2_byteAt q676 q678 qs8 dX2_here_44 [] rfl (Nat.le_of_ble_eq_true rfl) hf (fun v4 h5 hf => ?_)
  exact v_iret ok hr (by cases hf; exact hk) dX2_here_47
theorem W_X2_here_0b {G : GT} {X : CX} {d : Nat} {h0 : AH} {Q : State → Prop} (ok : Ok G X RX2 cX2_here 1 d h0) (hr : (cxm X).sig.returnType = (Option.some Jvm.ClassFile.FieldType.int)) (hd : 2 ≤ d) {a0 : Nat} {h : AH} {z : ((AH) ⊕ (Int32 × AH))} (hf : X2_here_0b  a0  h = some z) (hk : pkX2_here_0 G X h0 Q a0 z) {lv : List (Nat × AV)} (hl : lle lv [(0, vr (some a0))]) : V G X 1 h0 Q h 0 lv [] := by
  refine V.sub hl ?_
  unfold X2_here_0b at hf
  refine v_aload_n ok 0 dX2_here_0 rfl rfl ?_
  refine v_aload_n ok 0 dX2_here_1 rfl rfl ?_
  refine v_gI ok fl_X2_36 (fun _ _ _ => rfl) dX2_here_2 hf (fun v6 hf => ?_)
  refine v_cVi ok (RX2, TX2, 8) cf_2.1 [vi v6] (F := fun a => X2_byteAt a v6 h) (fun a v h1 _ hv => M_X2_byteAt ok.2.2.2.2.2.2.1 (d := 1) (Nat.le_refl _) hv) (by exact Nat.le_trans (by decide) hd) cw_X2_byteAt q676 q678 qs8 dX2_here_5 [] rfl (Nat.le_of_ble_eq_true rfl) hf (fun v7 h8 hf => ?_)
  refine v_bipush ok 32 dX2_here_8 rfl ?_
  refine v_icmp_eq ok 26 dX2_here_10 rfl hf (fun hf => ?_) (fun hf => ?_)
  ·
    exact W_X2_here_26 ok hr hd hf hk ⟨rfl, trivial⟩
  ·
    refine v_aload_n ok 0 dX2_here_13 rfl rfl ?_
    refine v_aload_n ok 0 dX2_here_14 rfl rfl ?_
    refine v_gI ok fl_X2_36 (fun _ _ _ => rfl) dX2_here_15 hf (fun v9 hf => ?_)
    refine v_cVi ok (RX2, TX2, 8) cf_2.1 [vi v9] (F := fun a => X2_byteAt a v9 h8) (fun a v h1 _ hv => M_X2_byteAt ok.2.2.2.2.2.2.1 (d := 1) (Nat.le_refl _) hv) (by exact Nat.le_trans (by decide) hd) cw_X2_byteAt q676 q678 qs8 dX2_here_18 [] rfl (Nat.le_of_ble_eq_true rfl) hf (fun v10 h11 hf => ?_)
    refine v_bipush ok 10 dX2_here_21 rfl ?_
    refine v_icmp_ne ok 39 dX2_here_23 rfl hf (fun hf => ?_) (fun hf => ?_)
    ·
      obtain ⟨o, ho, hz⟩ := ob hf
      cases hz; exact W_X2_here_39 ok hr hd ho hk ⟨rfl, trivial⟩
    ·
      exact W_X2_here_26 ok hr hd hf hk ⟨rfl, trivial⟩
theorem W_X2_here {G : GT} {X : CX} {d : Nat} {h0 : AH} {Q : State → Prop} (ok : Ok G X RX2 cX2_here 1 d h0) (hr : (cxm X).sig.returnType = (Option.some Jvm.ClassFile.FieldType.int)) (hd : 2 ≤ d) {a0 : Nat} {h : AH} {z : (Int32 × AH)} (hf : X2_here  a0 h = some z) (hk : Q = QM G X h0 (some (vi z.1)) z.2) {lv : List (Nat × AV)} (hl : lle lv [(0, vr (some a0))]) : V G X 1 h0 Q h 0 lv [] := by
  unfold X2_here at hf
  exact loopC_walk (Wh := fun s : AH => ∀ lv : List (Nat × AV), lle lv [(0, vr (some a0))] → V G X 1 h0 Q s 0 lv []) (PK := fun z => Q = QM G X h0 (some (vi z.1)) z.2) (fun s o hf hk lv hl => W_X2_here_0b ok hr hd hf (by cases o <;> exact hk) hl) _ z hf hk lv hl
theorem M_X2_here {G : GT} {l : Launch} (hG : Glob G) {d : Nat} (hd : 2 ≤ d) {a0 : Nat} {h : AH} {v : Int32} {h' : AH} (hf : X2_here a0 h = some (v, h')) : MM G l yX2_here cX2_here 1 (Option.some Jvm.ClassFile.FieldType.int) d [vr (some a0)] h (some (vi v)) h' := by
  refine mm_of hG (plainFor_of_name (by decide)) (Nat.le_of_ble_eq_true rfl) (fun X hX ok hr hnm => ?_)
  subst hX
  exact W_X2_here ok hr hd hf rfl ⟨rfl, trivial⟩
theorem cw_X1_letter : CW yX1_letter cX1_letter 5 (Option.some Jvm.ClassFile.FieldType.int) 2 := ⟨q931, q169, ⟨by decide, by decide⟩, by decide +kernel, by decide⟩
def pkX1_letter_17 (G : GT) (X : CX) (h0 : AH) (Q : State → Prop) (x2 : Int32) (x3 : Option Nat) (o : ((Int32 × AH) ⊕ (Int32 × AH))) : Prop := match o with
  | .inl s => ∀ lv : List (Nat × AV), lle lv [(2, vi x2), (3, vr x3), (4, vi s.1)] → V G X 5 h0 Q s.2 17 lv []
  | .inr z => Q = QM G X h0 (some (vi z.1)) z.2
theorem W_X1_letter_17b {G : GT} {X : CX} {d : Nat} {h0 : AH} {Q : State → Prop} (ok : Ok G X RX1 cX1_letter 5 d h0) (hr : (cxm X).sig.returnType = (Option.some Jvm.ClassFile.FieldType.int)) (hd : 4 ≤ d) {x2 : Int32} {x3 : Option Nat} {x4 : Int32} {h : AH} {z : ((Int32 × AH) ⊕ (Int32 × AH))} (hf : X1_letter_17b  x2 x3 x4 h = some z) (hk : pkX1_letter_17 G X h0 Q x2 x3 z) {lv : List (Nat × AV)} (hl : lle lv [(2, vi x2), (3, vr x3), (4, vi x4)]) : V G X 5 h0 Q h 17 lv [] := by
  refine V.sub hl ?_
  unfold X1_letter_17b at hf
  refine v_iload ok dX1_letter_17 rfl ?_
  refine v_aload_n ok 3 dX1_letter_19 rfl rfl ?_
  refine v_cFi ok (RJ2, TJ2, 3) cf_23.1 [] (F := fun a => J2_size a h) (fun a v h1 _ hv => M_J2_size ok.2.2.2.2.2.2.1 (d := 1) (Nat.le_refl _) hv) (by exact Nat.le_trans (by decide) hd) cw_J2_size q936 q925 cwf_J2_size dX1_letter_20 [vi x4] rfl (Nat.le_of_ble_eq_true rfl) hf (fun v1 h2 hf => ?_)
  refine v_icmp_ge ok 55 dX1_letter_25 rfl hf (fun hf => ?_) (fun hf => ?_)
  ·
    refine v_iconst ok (-1) dX1_letter_55 rfl ?_
    exact v_iret ok hr (by cases hf; exact hk) dX1_letter_56
  ·
    refine v_aload_n ok 3 dX1_letter_28 rfl rfl ?_
    refine v_iload ok dX1_letter_29 rfl ?_
    refine v_cFr ok (RJ2, TJ2, 3) cf_23.1 [vi x4] (F := fun a => J2_get a x4 h2) (fun a v h1 _ hv => M_J2_get ok.2.2.2.2.2.2.1 (d := 3) (Nat.le_refl _) hv) (by exact Nat.le_trans (by decide) hd) cw_J2_get q933 q907 cwf_J2_get dX1_letter_31 [] rfl (Nat.le_of_ble_eq_true rfl) hf (fun v3 h4 hf => ?_)
    refine v_cast_ ok ck_TurnedBoards_Letter q937 dX1_letter_36 hf (fun hf => ?_)
    refine v_gIN ok fl_X1_49 (fun _ _ _ => rfl) dX1_letter_39 hf (fun v5 hf => ?_)
    refine v_iload_n ok 2 dX1_letter_42 rfl rfl ?_
    refine v_icmp_ne ok 49 dX1_letter_43 rfl hf (fun hf => ?_) (fun hf => ?_)
    ·
      refine v_iinc ok x4 (x4 + 1) dX1_letter_49 rfl rfl (by decide) ?_
      refine v_goto ok 17 dX1_letter_52 rfl ?_
      cases hf; exact hk _ ⟨rfl, rfl, rfl, trivial⟩
    ·
      refine v_iload ok dX1_letter_46 rfl ?_
      exact v_iret ok hr (by cases hf; exact hk) dX1_letter_48
theorem W_X1_letter_17 {G : GT} {X : CX} {d : Nat} {h0 : AH} {Q : State → Prop} (ok : Ok G X RX1 cX1_letter 5 d h0) (hr : (cxm X).sig.returnType = (Option.some Jvm.ClassFile.FieldType.int)) (hd : 4 ≤ d) {x2 : Int32} {x3 : Option Nat} {x4 : Int32} {h : AH} {z : (Int32 × AH)} (hf : X1_letter_17  x2 x3 x4 h = some z) (hk : Q = QM G X h0 (some (vi z.1)) z.2) {lv : List (Nat × AV)} (hl : lle lv [(2, vi x2), (3, vr x3), (4, vi x4)]) : V G X 5 h0 Q h 17 lv [] := by
  unfold X1_letter_17 at hf
  exact loopC_walk (Wh := fun s : Int32 × AH => ∀ lv : List (Nat × AV), lle lv [(2, vi x2), (3, vr x3), (4, vi s.1)] → V G X 5 h0 Q s.2 17 lv []) (PK := fun z => Q = QM G X h0 (some (vi z.1)) z.2) (fun s o hf hk lv hl => W_X1_letter_17b ok hr hd hf (by cases o <;> exact hk) hl) _ z hf hk lv hl
theorem W_X1_letter {G : GT} {X : CX} {d : Nat} {h0 : AH} {Q : State → Prop} (ok : Ok G X RX1 cX1_letter 5 d h0) (hr : (cxm X).sig.returnType = (Option.some Jvm.ClassFile.FieldType.int)) (hd : 4 ≤ d) {a0 : Nat} {x1 : Int32} {x2 : Int32} {h : AH} {z : (Int32 × AH)} (hf : X1_letter a0 x1 x2 h = some z) (hk : Q = QM G X h0 (some (vi z.1)) z.2) {lv : List (Nat × AV)} (hl : lle lv [(0, vr (some a0)), (1, vi x1), (2, vi x2)]) : V G X 5 h0 Q h 0 lv [] := by
  refine V.sub hl ?_
  unfold X1_letter at hf
  refine v_aload_n ok 0 dX1_letter_0 rfl rfl ?_
  refine v_gR ok fl_X1_23 (by first | exact Or.inl ⟨_, rfl⟩ | exact Or.inr ⟨_, rfl⟩) dX1_letter_1 hf (fun v6 hf => ?_)
  refine v_iload_n ok 1 dX1_letter_4 rfl rfl ?_
  refine v_cFr ok (RJ2, TJ2, 3) cf_23.1 [vi x1] (F := fun a => J2_get a x1 h) (fun a v h1 _ hv => M_J2_get ok.2.2.2.2.2.2.1 (d := 3) (Nat.le_refl _) hv) (by exact Nat.le_trans (by decide) hd) cw_J2_get q933 q907 cwf_J2_get dX1_letter_5 [] rfl (Nat.le_of_ble_eq_true rfl) hf (fun v7 h8 hf => ?_)
  refine v_cast_ ok ck_java_util_List q934 dX1_letter_10 hf (fun hf => ?_)
  refine v_astore_n ok 3 dX1_letter_13 rfl (by decide) ?_
  refine v_iconst ok 0 dX1_letter_14 rfl ?_
  refine v_istore ok dX1_letter_15 (by decide) ?_
  exact W_X1_letter_17 ok hr hd hf hk ⟨rfl, rfl, rfl, trivial⟩
theorem M_X1_letter {G : GT} {l : Launch} (hG : Glob G) {d : Nat} (hd : 4 ≤ d) {a0 : Nat} {x1 : Int32} {x2 : Int32} {h : AH} {v : Int32} {h' : AH} (hf : X1_letter a0 x1 x2 h = some (v, h')) : MM G l yX1_letter cX1_letter 5 (Option.some Jvm.ClassFile.FieldType.int) d [vr (some a0), vi x1, vi x2] h (some (vi v)) h' := by
  refine mm_of hG (plainFor_of_name (by decide)) (Nat.le_of_ble_eq_true rfl) (fun X hX ok hr hnm => ?_)
  subst hX
  exact W_X1_letter ok hr hd hf rfl ⟨rfl, rfl, rfl, trivial⟩
theorem cw_X9_at : CW yX9_at cX9_at 2 (Option.some Jvm.ClassFile.FieldType.int) 1 := ⟨q996, q192, ⟨by decide, by decide⟩, by decide +kernel, by decide⟩
theorem W_X9_at {G : GT} {X : CX} {d : Nat} {h0 : AH} {Q : State → Prop} (ok : Ok G X RX9 cX9_at 2 d h0) (hr : (cxm X).sig.returnType = (Option.some Jvm.ClassFile.FieldType.int)) (hd : 6 ≤ d) {a0 : Nat} {x1 : Int32} {h : AH} {z : (Int32 × AH)} (hf : X9_at a0 x1 h = some z) (hk : Q = QM G X h0 (some (vi z.1)) z.2) {lv : List (Nat × AV)} (hl : lle lv [(0, vr (some a0)), (1, vi x1)]) : V G X 2 h0 Q h 0 lv [] := by
  refine V.sub hl ?_
  unfold X9_at at hf
  refine v_iload_n ok 1 dX9_at_0 rfl rfl ?_
  refine v_aload_n ok 0 dX9_at_1 rfl rfl ?_
  refine v_gR ok fl_X9_7 (by first | exact Or.inl ⟨_, rfl⟩ | exact Or.inr ⟨_, rfl⟩) dX9_at_2 hf (fun v1 hf => ?_)
  refine v_cVi ok (RJ9, TJ9, 4) cf_24.1 [] (F := fun a => J9_length a h) (fun a v h1 _ hv => M_J9_length ok.2.2.2.2.2.2.1 (d := 2) (Nat.le_refl _) hv) (by exact Nat.le_trans (by decide) hd) cw_J9_length q992 q858 q859 dX9_at_5 [vi x1] rfl (Nat.le_of_ble_eq_true rfl) hf (fun v2 h3 hf => ?_)
  refine v_icmp_ge ok 27 dX9_at_8 rfl hf (fun hf => ?_) (fun hf => ?_)
  ·
    refine v_iconst ok 0 dX9_at_27 rfl ?_
    exact v_iret ok hr (by cases hf; exact hk) dX9_at_28
  ·
    refine v_aload_n ok 0 dX9_at_11 rfl rfl ?_
    refine v_gR ok fl_X9_7 (by first | exact Or.inl ⟨_, rfl⟩ | exact Or.inr ⟨_, rfl⟩) dX9_at_12 hf (fun v4 hf => ?_)
    refine v_iload_n ok 1 dX9_at_15 rfl rfl ?_
    refine v_cVi ok (RJ9, TJ9, 4) cf_24.1 [vi x1] (F := fun a => J9_charAt a x1 h3) (fun a v h1 _ hv => M_J9_charAt ok.2.2.2.2.2.2.1 (d := 5) (Nat.le_refl _) hv) (by exact Nat.le_trans (by decide) hd) cw_J9_charAt q997 q866 q867 dX9_at_16 [] rfl (Nat.le_of_ble_eq_true rfl) hf (fun v5 h6 hf => ?_)
    refine v_bipush ok 97 dX9_at_19 rfl ?_
    refine v_isub ok dX9_at_21 ?_
    refine v_iconst ok 1 dX9_at_22 rfl ?_
    refine v_iadd ok dX9_at_23 ?_
    refine v_goto ok 28 dX9_at_24 rfl ?_
    exact v_iret ok hr (by cases hf; exact hk) dX9_at_28
theorem M_X9_at {G : GT} {l : Launch} (hG : Glob G) {d : Nat} (hd : 6 ≤ d) {a0 : Nat} {x1 : Int32} {h : AH} {v : Int32} {h' : AH} (hf : X9_at a0 x1 h = some (v, h')) : MM G l yX9_at cX9_at 2 (Option.some Jvm.ClassFile.FieldType.int) d [vr (some a0), vi x1] h (some (vi v)) h' := by
  refine mm_of hG (plainFor_of_name (by decide)) (Nat.le_of_ble_eq_true rfl) (fun X hX ok hr hnm => ?_)
  subst hX
  exact W_X9_at ok hr hd hf rfl ⟨rfl, rfl, trivial⟩
theorem cw_X9_size : CW yX9_size cX9_size 1 (Option.some Jvm.ClassFile.FieldType.int) 0 := ⟨q991, q192, ⟨by decide, by decide⟩, by decide +kernel, by decide⟩
theorem W_X9_size {G : GT} {X : CX} {d : Nat} {h0 : AH} {Q : State → Prop} (ok : Ok G X RX9 cX9_size 1 d h0) (hr : (cxm X).sig.returnType = (Option.some Jvm.ClassFile.FieldType.int)) (hd : 3 ≤ d) {a0 : Nat} {h : AH} {z : (Int32 × AH)} (hf : X9_size a0 h = some z) (hk : Q = QM G X h0 (some (vi z.1)) z.2) {lv : List (Nat × AV)} (hl : lle lv [(0, vr (some a0))]) : V G X 1 h0 Q h 0 lv [] := by
  refine V.sub hl ?_
  unfold X9_size at hf
  refine v_aload_n ok 0 dX9_size_0 rfl rfl ?_
  refine v_gR ok fl_X9_7 (by first | exact Or.inl ⟨_, rfl⟩ | exact Or.inr ⟨_, rfl⟩) dX9_size_1 hf (fun v1 hf => ?_)
  refine v_cVi ok (RJ9, TJ9, 4) cf_24.1 [] (F := fun a => J9_length a h) (fun a v h1 _ hv => M_J9_length ok.2.2.2.2.2.2.1 (d := 2) (Nat.le_refl _) hv) (by exact Nat.le_trans (by decide) hd) cw_J9_length q992 q858 q859 dX9_size_4 [] rfl (Nat.le_of_ble_eq_true rfl) hf (fun v2 h3 hf => ?_)
  exact v_iret ok hr (by cases hf; exact hk) dX9_size_7
theorem M_X9_size {G : GT} {l : Launch} (hG : Glob G) {d : Nat} (hd : 3 ≤ d) {a0 : Nat} {h : AH} {v : Int32} {h' : AH} (hf : X9_size a0 h = some (v, h')) : MM G l yX9_size cX9_size 1 (Option.some Jvm.ClassFile.FieldType.int) d [vr (some a0)] h (some (vi v)) h' := by
  refine mm_of hG (plainFor_of_name (by decide)) (Nat.le_of_ble_eq_true rfl) (fun X hX ok hr hnm => ?_)
  subst hX
  exact W_X9_size ok hr hd hf rfl ⟨rfl, trivial⟩
theorem cw_X1_isIn : CW yX1_isIn cX1_isIn 4 (Option.some Jvm.ClassFile.FieldType.boolean) 2 := ⟨q987, q169, ⟨by decide, by decide⟩, by decide +kernel, by decide⟩
def pkX1_isIn_2 (G : GT) (X : CX) (h0 : AH) (Q : State → Prop) (a0 : Nat) (x1 : Int32) (x2 : Option Nat) (o : ((Int32 × AH) ⊕ (Int32 × AH))) : Prop := match o with
  | .inl s => ∀ lv : List (Nat × AV), lle lv [(0, vr (some a0)), (1, vi x1), (2, vr x2), (3, vi s.1)] → V G X 4 h0 Q s.2 2 lv []
  | .inr z => Q = QM G X h0 (some (vi z.1)) z.2
theorem W_X1_isIn_2b {G : GT} {X : CX} {d : Nat} {h0 : AH} {Q : State → Prop} (ok : Ok G X RX1 cX1_isIn 4 d h0) (hr : (cxm X).sig.returnType = (Option.some Jvm.ClassFile.FieldType.boolean)) (hd : 7 ≤ d) {a0 : Nat} {x1 : Int32} {x2 : Option Nat} {x3 : Int32} {h : AH} {z : ((Int32 × AH) ⊕ (Int32 × AH))} (hf : X1_isIn_2b  a0 x1 x2 x3 h = some z) (hk : pkX1_isIn_2 G X h0 Q a0 x1 x2 z) {lv : List (Nat × AV)} (hl : lle lv [(0, vr (some a0)), (1, vi x1), (2, vr x2), (3, vi x3)]) : V G X 4 h0 Q h 2 lv [] := by
  refine V.sub hl ?_
  unfold X1_isIn_2b at hf
  refine v_iload_n ok 3 dX1_isIn_2 rfl rfl ?_
  refine v_aload_n ok 2 dX1_isIn_3 rfl rfl ?_
  refine v_cVi ok (RX9, TX9, 1) cf_9.1 [] (F := fun a => X9_size a h) (fun a v h1 _ hv => M_X9_size ok.2.2.2.2.2.2.1 (d := 3) (Nat.le_refl _) hv) (by exact Nat.le_trans (by decide) hd) cw_X9_size q988 q989 q990 dX1_isIn_4 [vi x3] rfl (Nat.le_of_ble_eq_true rfl) hf (fun v1 h2 hf => ?_)
  refine v_icmp_ge ok 32 dX1_isIn_7 rfl hf (fun hf => ?_) (fun hf => ?_)
  ·
    refine v_iconst ok 1 dX1_isIn_32 rfl ?_
    exact v_zretL ok hr (by decide) (by decide) (by cases hf; exact hk) dX1_isIn_33
  ·
    refine v_aload_n ok 0 dX1_isIn_10 rfl rfl ?_
    refine v_iload_n ok 1 dX1_isIn_11 rfl rfl ?_
    refine v_aload_n ok 2 dX1_isIn_12 rfl rfl ?_
    refine v_iload_n ok 3 dX1_isIn_13 rfl rfl ?_
    refine v_cVi ok (RX9, TX9, 1) cf_9.1 [vi x3] (F := fun a => X9_at a x3 h2) (fun a v h1 _ hv => M_X9_at ok.2.2.2.2.2.2.1 (d := 6) (Nat.le_refl _) hv) (by exact Nat.le_trans (by decide) hd) cw_X9_at q993 q994 q995 dX1_isIn_14 [vi x1, vr (some a0)] rfl (Nat.le_of_ble_eq_true rfl) hf (fun v3 h4 hf => ?_)
    refine v_cVi ok (RX1, TX1, 9) cf_1.1 [vi x1, vi v3] (F := fun a => X1_letter a x1 v3 h4) (fun a v h1 _ hv => M_X1_letter ok.2.2.2.2.2.2.1 (d := 4) (Nat.le_refl _) hv) (by exact Nat.le_trans (by decide) hd) cw_X1_letter q998 q929 q930 dX1_isIn_17 [] rfl (Nat.le_of_ble_eq_true rfl) hf (fun v5 h6 hf => ?_)
    refine v_iconst ok (-1) dX1_isIn_20 rfl ?_
    refine v_icmp_ne ok 26 dX1_isIn_21 rfl hf (fun hf => ?_) (fun hf => ?_)
    ·
      refine v_iinc ok x3 (x3 + 1) dX1_isIn_26 rfl rfl (by decide) ?_
      refine v_goto ok 2 dX1_isIn_29 rfl ?_
      cases hf; exact hk _ ⟨rfl, rfl, rfl, rfl, trivial⟩
    ·
      refine v_iconst ok 0 dX1_isIn_24 rfl ?_
      exact v_zretL ok hr (by decide) (by decide) (by cases hf; exact hk) dX1_isIn_25
theorem W_X1_isIn_2 {G : GT} {X : CX} {d : Nat} {h0 : AH} {Q : State → Prop} (ok : Ok G X RX1 cX1_isIn 4 d h0) (hr : (cxm X).sig.returnType = (Option.some Jvm.ClassFile.FieldType.boolean)) (hd : 7 ≤ d) {a0 : Nat} {x1 : Int32} {x2 : Option Nat} {x3 : Int32} {h : AH} {z : (Int32 × AH)} (hf : X1_isIn_2  a0 x1 x2 x3 h = some z) (hk : Q = QM G X h0 (some (vi z.1)) z.2) {lv : List (Nat × AV)} (hl : lle lv [(0, vr (some a0)), (1, vi x1), (2, vr x2), (3, vi x3)]) : V G X 4 h0 Q h 2 lv [] := by
  unfold X1_isIn_2 at hf
  exact loopC_walk (Wh := fun s : Int32 × AH => ∀ lv : List (Nat × AV), lle lv [(0, vr (some a0)), (1, vi x1), (2, vr x2), (3, vi s.1)] → V G X 4 h0 Q s.2 2 lv []) (PK := fun z => Q = QM G X h0 (some (vi z.1)) z.2) (fun s o hf hk lv hl => W_X1_isIn_2b ok hr hd hf (by cases o <;> exact hk) hl) _ z hf hk lv hl
theorem W_X1_isIn {G : GT} {X : CX} {d : Nat} {h0 : AH} {Q : State → Prop} (ok : Ok G X RX1 cX1_isIn 4 d h0) (hr : (cxm X).sig.returnType = (Option.some Jvm.ClassFile.FieldType.boolean)) (hd : 7 ≤ d) {a0 : Nat} {x1 : Int32} {x2 : Option Nat} {h : AH} {z : (Int32 × AH)} (hf : X1_isIn a0 x1 x2 h = some z) (hk : Q = QM G X h0 (some (vi z.1)) z.2) {lv : List (Nat × AV)} (hl : lle lv [(0, vr (some a0)), (1, vi x1), (2, vr x2)]) : V G X 4 h0 Q h 0 lv [] := by
  refine V.sub hl ?_
  unfold X1_isIn at hf
  refine v_iconst ok 0 dX1_isIn_0 rfl ?_
  refine v_istore_n ok 3 dX1_isIn_1 rfl (by decide) ?_
  exact W_X1_isIn_2 ok hr hd hf hk ⟨rfl, rfl, rfl, rfl, trivial⟩
theorem M_X1_isIn {G : GT} {l : Launch} (hG : Glob G) {d : Nat} (hd : 7 ≤ d) {a0 : Nat} {x1 : Int32} {x2 : Option Nat} {h : AH} {v : Int32} {h' : AH} (hf : X1_isIn a0 x1 x2 h = some (v, h')) : MM G l yX1_isIn cX1_isIn 4 (Option.some Jvm.ClassFile.FieldType.boolean) d [vr (some a0), vi x1, vr x2] h (some (vi v)) h' := by
  refine mm_of hG (plainFor_of_name (by decide)) (Nat.le_of_ble_eq_true rfl) (fun X hX ok hr hnm => ?_)
  subst hX
  exact W_X1_isIn ok hr hd hf rfl ⟨rfl, rfl, rfl, trivial⟩
theorem cw_X1_word : CW yX1_word cX1_word 3 (Option.some Jvm.ClassFile.FieldType.int) 1 := ⟨q981, q169, ⟨by decide, by decide⟩, by decide +kernel, by decide⟩
def pkX1_word_2 (G : GT) (X : CX) (h0 : AH) (Q : State → Prop) (a0 : Nat) (x1 : Option Nat) (o : ((Int32 × AH) ⊕ (Int32 × AH))) : Prop := match o with
  | .inl s => ∀ lv : List (Nat × AV), lle lv [(0, vr (some a0)), (1, vr x1), (2, vi s.1)] → V G X 3 h0 Q s.2 2 lv []
  | .inr z => Q = QM G X h0 (some (vi z.1)) z.2
theorem W_X1_word_2b {G : GT} {X : CX} {d : Nat} {h0 : AH} {Q : State → Prop} (ok : Ok G X RX1 cX1_word 3 d h0) (hr : (cxm X).sig.returnType = (Option.some Jvm.ClassFile.FieldType.int)) (hd : 4 ≤ d) {a0 : Nat} {x1 : Option Nat} {x2 : Int32} {h : AH} {z : ((Int32 × AH) ⊕ (Int32 × AH))} (hf : X1_word_2b  a0 x1 x2 h = some z) (hk : pkX1_word_2 G X h0 Q a0 x1 z) {lv : List (Nat × AV)} (hl : lle lv [(0, vr (some a0)), (1, vr x1), (2, vi x2)]) : V G X 3 h0 Q h 2 lv [] := by
  refine V.sub hl ?_
  unfold X1_word_2b at hf
  refine v_iload_n ok 2 dX1_word_2 rfl rfl ?_
  refine v_aload_n ok 0 dX1_word_3 rfl rfl ?_
  refine v_gR ok fl_X1_27 (by first | exact Or.inl ⟨_, rfl⟩ | exact Or.inr ⟨_, rfl⟩) dX1_word_4 hf (fun v1 hf => ?_)
  refine v_cFi ok (RJ2, TJ2, 3) cf_23.1 [] (F := fun a => J2_size a h) (fun a v h1 _ hv => M_J2_size ok.2.2.2.2.2.2.1 (d := 1) (Nat.le_refl _) hv) (by exact Nat.le_trans (by decide) hd) cw_J2_size q936 q925 cwf_J2_size dX1_word_7 [vi x2] rfl (Nat.le_of_ble_eq_true rfl) hf (fun v2 h3 hf => ?_)
  refine v_icmp_ge ok 46 dX1_word_12 rfl hf (fun hf => ?_) (fun hf => ?_)
  ·
    refine v_iconst ok (-1) dX1_word_46 rfl ?_
    exact v_iret ok hr (by cases hf; exact hk) dX1_word_47
  ·
    refine v_aload_n ok 0 dX1_word_15 rfl rfl ?_
    refine v_gR ok fl_X1_27 (by first | exact Or.inl ⟨_, rfl⟩ | exact Or.inr ⟨_, rfl⟩) dX1_word_16 hf (fun v4 hf => ?_)
    refine v_iload_n ok 2 dX1_word_19 rfl rfl ?_
    refine v_cFr ok (RJ2, TJ2, 3) cf_23.1 [vi x2] (F := fun a => J2_get a x2 h3) (fun a v h1 _ hv => M_J2_get ok.2.2.2.2.2.2.1 (d := 3) (Nat.le_refl _) hv) (by exact Nat.le_trans (by decide) hd) cw_J2_get q933 q907 cwf_J2_get dX1_word_20 [] rfl (Nat.le_of_ble_eq_true rfl) hf (fun v5 h6 hf => ?_)
    refine v_cast_ ok ck_TurnedBoards_Word q982 dX1_word_25 hf (fun hf => ?_)
    refine v_gRN ok fl_X1_63 (by first | exact Or.inl ⟨_, rfl⟩ | exact Or.inr ⟨_, rfl⟩) dX1_word_28 hf (fun v7 hf => ?_)
    refine v_aload_n ok 1 dX1_word_31 rfl rfl ?_
    refine v_cVi ok (RJ9, TJ9, 4) cf_24.1 [vr x1] (F := fun a => J9_equals a x1 h6) (fun a v h1 _ hv => M_J9_equals ok.2.2.2.2.2.2.1 (d := 2) (Nat.le_refl _) hv) (by exact Nat.le_trans (by decide) hd) cw_J9_equals q983 q839 q840 dX1_word_32 [] rfl (Nat.le_of_ble_eq_true rfl) hf (fun v8 h9 hf => ?_)
    refine v_if_eq ok 40 dX1_word_35 rfl hf (fun hf => ?_) (fun hf => ?_)
    ·
      refine v_iinc ok x2 (x2 + 1) dX1_word_40 rfl rfl (by decide) ?_
      refine v_goto ok 2 dX1_word_43 rfl ?_
      cases hf; exact hk _ ⟨rfl, rfl, rfl, trivial⟩
    ·
      refine v_iload_n ok 2 dX1_word_38 rfl rfl ?_
      exact v_iret ok hr (by cases hf; exact hk) dX1_word_39
theorem W_X1_word_2 {G : GT} {X : CX} {d : Nat} {h0 : AH} {Q : State → Prop} (ok : Ok G X RX1 cX1_word 3 d h0) (hr : (cxm X).sig.returnType = (Option.some Jvm.ClassFile.FieldType.int)) (hd : 4 ≤ d) {a0 : Nat} {x1 : Option Nat} {x2 : Int32} {h : AH} {z : (Int32 × AH)} (hf : X1_word_2  a0 x1 x2 h = some z) (hk : Q = QM G X h0 (some (vi z.1)) z.2) {lv : List (Nat × AV)} (hl : lle lv [(0, vr (some a0)), (1, vr x1), (2, vi x2)]) : V G X 3 h0 Q h 2 lv [] := by
  unfold X1_word_2 at hf
  exact loopC_walk (Wh := fun s : Int32 × AH => ∀ lv : List (Nat × AV), lle lv [(0, vr (some a0)), (1, vr x1), (2, vi s.1)] → V G X 3 h0 Q s.2 2 lv []) (PK := fun z => Q = QM G X h0 (some (vi z.1)) z.2) (fun s o hf hk lv hl => W_X1_word_2b ok hr hd hf (by cases o <;> exact hk) hl) _ z hf hk lv hl
theorem W_X1_word {G : GT} {X : CX} {d : Nat} {h0 : AH} {Q : State → Prop} (ok : Ok G X RX1 cX1_word 3 d h0) (hr : (cxm X).sig.returnType = (Option.some Jvm.ClassFile.FieldType.int)) (hd : 4 ≤ d) {a0 : Nat} {x1 : Option Nat} {h : AH} {z : (Int32 × AH)} (hf : X1_word a0 x1 h = some z) (hk : Q = QM G X h0 (some (vi z.1)) z.2) {lv : List (Nat × AV)} (hl : lle lv [(0, vr (some a0)), (1, vr x1)]) : V G X 3 h0 Q h 0 lv [] := by
  refine V.sub hl ?_
  unfold X1_word at hf
  refine v_iconst ok 0 dX1_word_0 rfl ?_
  refine v_istore_n ok 2 dX1_word_1 rfl (by decide) ?_
  exact W_X1_word_2 ok hr hd hf hk ⟨rfl, rfl, rfl, trivial⟩
theorem M_X1_word {G : GT} {l : Launch} (hG : Glob G) {d : Nat} (hd : 4 ≤ d) {a0 : Nat} {x1 : Option Nat} {h : AH} {v : Int32} {h' : AH} (hf : X1_word a0 x1 h = some (v, h')) : MM G l yX1_word cX1_word 3 (Option.some Jvm.ClassFile.FieldType.int) d [vr (some a0), vr x1] h (some (vi v)) h' := by
  refine mm_of hG (plainFor_of_name (by decide)) (Nat.le_of_ble_eq_true rfl) (fun X hX ok hr hnm => ?_)
  subst hX
  exact W_X1_word ok hr hd hf rfl ⟨rfl, rfl, trivial⟩
theorem cw_X2_wrong : CW yX2_wrong cX2_wrong 3 (Option.some (Jvm.ClassFile.FieldType.object "TurnedBoards$Fault")) 2 := ⟨q687, q177, ⟨by decide, by decide⟩, by decide +kernel, by decide⟩
theorem W_X2_wrong {G : GT} {X : CX} {d : Nat} {h0 : AH} {Q : State → Prop} (ok : Ok G X RX2 cX2_wrong 3 d h0) (hr : (cxm X).sig.returnType = (Option.some (Jvm.ClassFile.FieldType.object "TurnedBoards$Fault"))) (hd : 1 ≤ d) {a0 : Nat} {x1 : Int32} {x2 : Int32} {h : AH} {z : (Option Nat × AH)} (hf : X2_wrong a0 x1 x2 h = some z) (hk : Q = QM G X h0 (some (vr z.1)) z.2) {lv : List (Nat × AV)} (hl : lle lv [(0, vr (some a0)), (1, vi x1), (2, vi x2)]) : V G X 3 h0 Q h 0 lv [] := by
  refine V.sub hl ?_
  unfold X2_wrong at hf
  refine v_aload_n ok 0 dX2_wrong_0 rfl rfl ?_
  refine v_gR ok fl_X2_18 (by first | exact Or.inl ⟨_, rfl⟩ | exact Or.inr ⟨_, rfl⟩) dX2_wrong_1 hf (fun v1 hf => ?_)
  refine v_iload_n ok 1 dX2_wrong_4 rfl rfl ?_
  refine v_pIN ok fl_X2_22 ⟨fun _ _ _ => rfl, rfl⟩ (FNN.of cf_3.1 rfl) dX2_wrong_5 hf (fun h2 hf => ?_)
  refine v_aload_n ok 0 dX2_wrong_8 rfl rfl ?_
  refine v_gR ok fl_X2_18 (by first | exact Or.inl ⟨_, rfl⟩ | exact Or.inr ⟨_, rfl⟩) dX2_wrong_9 hf (fun v3 hf => ?_)
  refine v_iload_n ok 2 dX2_wrong_12 rfl rfl ?_
  refine v_pIN ok fl_X2_26 ⟨fun _ _ _ => rfl, rfl⟩ (FNN.of cf_3.1 rfl) dX2_wrong_13 hf (fun h4 hf => ?_)
  refine v_aload_n ok 0 dX2_wrong_16 rfl rfl ?_
  refine v_gR ok fl_X2_18 (by first | exact Or.inl ⟨_, rfl⟩ | exact Or.inr ⟨_, rfl⟩) dX2_wrong_17 hf (fun v5 hf => ?_)
  exact v_aret ok hr (by first | exact Or.inl ⟨_, rfl⟩ | exact Or.inr ⟨_, rfl⟩) (by cases hf; exact hk) dX2_wrong_20
theorem M_X2_wrong {G : GT} {l : Launch} (hG : Glob G) {d : Nat} (hd : 1 ≤ d) {a0 : Nat} {x1 : Int32} {x2 : Int32} {h : AH} {v : Option Nat} {h' : AH} (hf : X2_wrong a0 x1 x2 h = some (v, h')) : MM G l yX2_wrong cX2_wrong 3 (Option.some (Jvm.ClassFile.FieldType.object "TurnedBoards$Fault")) d [vr (some a0), vi x1, vi x2] h (some (vr v)) h' := by
  refine mm_of hG (plainFor_of_name (by decide)) (Nat.le_of_ble_eq_true rfl) (fun X hX ok hr hnm => ?_)
  subst hX
  exact W_X2_wrong ok hr hd hf rfl ⟨rfl, rfl, rfl, trivial⟩
theorem cw_X0_find : CW yX0_find cX0_find 3 (Option.some Jvm.ClassFile.FieldType.int) 2 := ⟨q855, q168, ⟨by decide, by decide⟩, by decide +kernel, by decide⟩
def pkX0_find_2 (G : GT) (X : CX) (h0 : AH) (Q : State → Prop) (x0 : Option Nat) (x1 : Option Nat) (o : ((Int32 × AH) ⊕ (Int32 × AH))) : Prop := match o with
  | .inl s => ∀ lv : List (Nat × AV), lle lv [(0, vr x0), (1, vr x1), (2, vi s.1)] → V G X 3 h0 Q s.2 2 lv []
  | .inr z => Q = QM G X h0 (some (vi z.1)) z.2
theorem W_X0_find_2b {G : GT} {X : CX} {d : Nat} {h0 : AH} {Q : State → Prop} (ok : Ok G X RX0 cX0_find 3 d h0) (hr : (cxm X).sig.returnType = (Option.some Jvm.ClassFile.FieldType.int)) (hd : 3 ≤ d) {x0 : Option Nat} {x1 : Option Nat} {x2 : Int32} {h : AH} {z : ((Int32 × AH) ⊕ (Int32 × AH))} (hf : X0_find_2b  x0 x1 x2 h = some z) (hk : pkX0_find_2 G X h0 Q x0 x1 z) {lv : List (Nat × AV)} (hl : lle lv [(0, vr x0), (1, vr x1), (2, vi x2)]) : V G X 3 h0 Q h 2 lv [] := by
  refine V.sub hl ?_
  unfold X0_find_2b at hf
  refine v_iload_n ok 2 dX0_find_2 rfl rfl ?_
  refine v_aload_n ok 1 dX0_find_3 rfl rfl ?_
  refine v_alen ok dX0_find_4 hf (fun v1 hf => ?_)
  refine v_icmp_ge ok 26 dX0_find_5 rfl hf (fun hf => ?_) (fun hf => ?_)
  ·
    refine v_iconst ok (-1) dX0_find_26 rfl ?_
    exact v_iret ok hr (by cases hf; exact hk) dX0_find_27
  ·
    refine v_aload_n ok 1 dX0_find_8 rfl rfl ?_
    refine v_iload_n ok 2 dX0_find_9 rfl rfl ?_
    refine v_aald5 ok rfl dX0_find_10 hf (fun v2 hf => ?_)
    refine v_aload_n ok 0 dX0_find_11 rfl rfl ?_
    refine v_cVi ok (RJ9, TJ9, 4) cf_24.1 [vr x0] (F := fun a => J9_equals a x0 h) (fun a v h1 _ hv => M_J9_equals ok.2.2.2.2.2.2.1 (d := 2) (Nat.le_refl _) hv) (by exact Nat.le_trans (by decide) hd) cw_J9_equals q856 q839 q840 dX0_find_12 [] rfl (Nat.le_of_ble_eq_true rfl) hf (fun v3 h4 hf => ?_)
    refine v_if_eq ok 20 dX0_find_15 rfl hf (fun hf => ?_) (fun hf => ?_)
    ·
      refine v_iinc ok x2 (x2 + 1) dX0_find_20 rfl rfl (by decide) ?_
      refine v_goto ok 2 dX0_find_23 rfl ?_
      cases hf; exact hk _ ⟨rfl, rfl, rfl, trivial⟩
    ·
      refine v_iload_n ok 2 dX0_find_18 rfl rfl ?_
      exact v_iret ok hr (by cases hf; exact hk) dX0_find_19
theorem W_X0_find_2 {G : GT} {X : CX} {d : Nat} {h0 : AH} {Q : State → Prop} (ok : Ok G X RX0 cX0_find 3 d h0) (hr : (cxm X).sig.returnType = (Option.some Jvm.ClassFile.FieldType.int)) (hd : 3 ≤ d) {x0 : Option Nat} {x1 : Option Nat} {x2 : Int32} {h : AH} {z : (Int32 × AH)} (hf : X0_find_2  x0 x1 x2 h = some z) (hk : Q = QM G X h0 (some (vi z.1)) z.2) {lv : List (Nat × AV)} (hl : lle lv [(0, vr x0), (1, vr x1), (2, vi x2)]) : V G X 3 h0 Q h 2 lv [] := by
  unfold X0_find_2 at hf
  exact loopC_walk (Wh := fun s : Int32 × AH => ∀ lv : List (Nat × AV), lle lv [(0, vr x0), (1, vr x1), (2, vi s.1)] → V G X 3 h0 Q s.2 2 lv []) (PK := fun z => Q = QM G X h0 (some (vi z.1)) z.2) (fun s o hf hk lv hl => W_X0_find_2b ok hr hd hf (by cases o <;> exact hk) hl) _ z hf hk lv hl
theorem W_X0_find {G : GT} {X : CX} {d : Nat} {h0 : AH} {Q : State → Prop} (ok : Ok G X RX0 cX0_find 3 d h0) (hr : (cxm X).sig.returnType = (Option.some Jvm.ClassFile.FieldType.int)) (hd : 3 ≤ d) {x0 : Option Nat} {x1 : Option Nat} {h : AH} {z : (Int32 × AH)} (hf : X0_find x0 x1 h = some z) (hk : Q = QM G X h0 (some (vi z.1)) z.2) {lv : List (Nat × AV)} (hl : lle lv [(0, vr x0), (1, vr x1)]) : V G X 3 h0 Q h 0 lv [] := by
  refine V.sub hl ?_
  unfold X0_find at hf
  refine v_iconst ok 0 dX0_find_0 rfl ?_
  refine v_istore_n ok 2 dX0_find_1 rfl (by decide) ?_
  exact W_X0_find_2 ok hr hd hf hk ⟨rfl, rfl, rfl, trivial⟩
theorem M_X0_find {G : GT} {l : Launch} (hG : Glob G) {d : Nat} (hd : 3 ≤ d) {x0 : Option Nat} {x1 : Option Nat} {h : AH} {v : Int32} {h' : AH} (hf : X0_find x0 x1 h = some (v, h')) : MM G l yX0_find cX0_find 3 (Option.some Jvm.ClassFile.FieldType.int) d [vr x0, vr x1] h (some (vi v)) h' := by
  refine mm_of hG (plainFor_of_name (by decide)) (Nat.le_of_ble_eq_true rfl) (fun X hX ok hr hnm => ?_)
  subst hX
  exact W_X0_find ok hr hd hf rfl ⟨rfl, rfl, trivial⟩
theorem cw_X0_isLetter : CW yX0_isLetter cX0_isLetter 1 (Option.some Jvm.ClassFile.FieldType.boolean) 1 := ⟨q694, q168, ⟨by decide, by decide⟩, by decide +kernel, by decide⟩
theorem W_X0_isLetter {G : GT} {X : CX} {d : Nat} {h0 : AH} {Q : State → Prop} (ok : Ok G X RX0 cX0_isLetter 1 d h0) (hr : (cxm X).sig.returnType = (Option.some Jvm.ClassFile.FieldType.boolean)) (hd : 1 ≤ d) {x0 : Int32} {h : AH} {z : (Int32 × AH)} (hf : X0_isLetter x0 h = some z) (hk : Q = QM G X h0 (some (vi z.1)) z.2) {lv : List (Nat × AV)} (hl : lle lv [(0, vi x0)]) : V G X 1 h0 Q h 0 lv [] := by
  refine V.sub hl ?_
  unfold X0_isLetter at hf
  refine v_iload_n ok 0 dX0_isLetter_0 rfl rfl ?_
  refine v_bipush ok 97 dX0_isLetter_1 rfl ?_
  refine v_icmp_lt ok 16 dX0_isLetter_3 rfl hf (fun hf => ?_) (fun hf => ?_)
  ·
    refine v_iconst ok 0 dX0_isLetter_16 rfl ?_
    exact v_zretL ok hr (by decide) (by decide) (by cases hf; exact hk) dX0_isLetter_17
  ·
    refine v_iload_n ok 0 dX0_isLetter_6 rfl rfl ?_
    refine v_bipush ok 122 dX0_isLetter_7 rfl ?_
    refine v_icmp_gt ok 16 dX0_isLetter_9 rfl hf (fun hf => ?_) (fun hf => ?_)
    ·
      refine v_iconst ok 0 dX0_isLetter_16 rfl ?_
      exact v_zretL ok hr (by decide) (by decide) (by cases hf; exact hk) dX0_isLetter_17
    ·
      refine v_iconst ok 1 dX0_isLetter_12 rfl ?_
      refine v_goto ok 17 dX0_isLetter_13 rfl ?_
      exact v_zretL ok hr (by decide) (by decide) (by cases hf; exact hk) dX0_isLetter_17
theorem M_X0_isLetter {G : GT} {l : Launch} (hG : Glob G) {d : Nat} (hd : 1 ≤ d) {x0 : Int32} {h : AH} {v : Int32} {h' : AH} (hf : X0_isLetter x0 h = some (v, h')) : MM G l yX0_isLetter cX0_isLetter 1 (Option.some Jvm.ClassFile.FieldType.boolean) d [vi x0] h (some (vi v)) h' := by
  refine mm_of hG (plainFor_of_name (by decide)) (Nat.le_of_ble_eq_true rfl) (fun X hX ok hr hnm => ?_)
  subst hX
  exact W_X0_isLetter ok hr hd hf rfl ⟨rfl, trivial⟩
theorem cw_X0_isDigit : CW yX0_isDigit cX0_isDigit 1 (Option.some Jvm.ClassFile.FieldType.boolean) 1 := ⟨q701, q168, ⟨by decide, by decide⟩, by decide +kernel, by decide⟩
theorem W_X0_isDigit {G : GT} {X : CX} {d : Nat} {h0 : AH} {Q : State → Prop} (ok : Ok G X RX0 cX0_isDigit 1 d h0) (hr : (cxm X).sig.returnType = (Option.some Jvm.ClassFile.FieldType.boolean)) (hd : 1 ≤ d) {x0 : Int32} {h : AH} {z : (Int32 × AH)} (hf : X0_isDigit x0 h = some z) (hk : Q = QM G X h0 (some (vi z.1)) z.2) {lv : List (Nat × AV)} (hl : lle lv [(0, vi x0)]) : V G X 1 h0 Q h 0 lv [] := by
  refine V.sub hl ?_
  unfold X0_isDigit at hf
  refine v_iload_n ok 0 dX0_isDigit_0 rfl rfl ?_
  refine v_bipush ok 48 dX0_isDigit_1 rfl ?_
  refine v_icmp_lt ok 16 dX0_isDigit_3 rfl hf (fun hf => ?_) (fun hf => ?_)
  ·
    refine v_iconst ok 0 dX0_isDigit_16 rfl ?_
    exact v_zretL ok hr (by decide) (by decide) (by cases hf; exact hk) dX0_isDigit_17
  ·
    refine v_iload_n ok 0 dX0_isDigit_6 rfl rfl ?_
    refine v_bipush ok 57 dX0_isDigit_7 rfl ?_
    refine v_icmp_gt ok 16 dX0_isDigit_9 rfl hf (fun hf => ?_) (fun hf => ?_)
    ·
      refine v_iconst ok 0 dX0_isDigit_16 rfl ?_
      exact v_zretL ok hr (by decide) (by decide) (by cases hf; exact hk) dX0_isDigit_17
    ·
      refine v_iconst ok 1 dX0_isDigit_12 rfl ?_
      refine v_goto ok 17 dX0_isDigit_13 rfl ?_
      exact v_zretL ok hr (by decide) (by decide) (by cases hf; exact hk) dX0_isDigit_17
theorem M_X0_isDigit {G : GT} {l : Launch} (hG : Glob G) {d : Nat} (hd : 1 ≤ d) {x0 : Int32} {h : AH} {v : Int32} {h' : AH} (hf : X0_isDigit x0 h = some (v, h')) : MM G l yX0_isDigit cX0_isDigit 1 (Option.some Jvm.ClassFile.FieldType.boolean) d [vi x0] h (some (vi v)) h' := by
  refine mm_of hG (plainFor_of_name (by decide)) (Nat.le_of_ble_eq_true rfl) (fun X hX ok hr hnm => ?_)
  subst hX
  exact W_X0_isDigit ok hr hd hf rfl ⟨rfl, trivial⟩
theorem cw_X9_init : CW yX9_init cX9_init 2 none 1 := ⟨q970, q192, ⟨by decide, by decide⟩, by decide +kernel, by decide⟩
theorem W_X9_init {G : GT} {X : CX} {d : Nat} {h0 : AH} {Q : State → Prop} (ok : Ok G X RX9 cX9_init 2 d h0) (hr : (cxm X).sig.returnType = none) (hd : 1 ≤ d) (hnm : (cxm X).name = "<init>") {a0 : Nat} {x1 : Option Nat} {h : AH} {z : (AH)} (hf : X9_init a0 x1 h = some z) (hk : Q = QM G X h0 none z) {lv : List (Nat × AV)} (hl : lle lv [(0, vr (some a0)), (1, vr x1)]) : V G X 2 h0 Q h 0 lv [] := by
  refine V.sub hl ?_
  unfold X9_init at hf
  refine v_aload_n ok 0 dX9_init_0 rfl rfl ?_
  refine v_objInit ok q971 q215 q216 (by omega) (Nat.le_of_ble_eq_true rfl) dX9_init_1 hf (fun _ hf => ?_)
  refine v_aload_n ok 0 dX9_init_4 rfl rfl ?_
  refine v_aload_n ok 1 dX9_init_5 rfl rfl ?_
  refine v_pR ok fl_X9_7 (by first | exact Or.inl ⟨_, rfl⟩ | exact Or.inr ⟨_, rfl⟩) (FN.ini cf_9.1 rfl hnm rfl) dX9_init_6 hf (fun h2 hf => ?_)
  exact v_vret ok hr (by cases hf; exact hk) dX9_init_9
theorem M_X9_init {G : GT} {l : Launch} (hG : Glob G) {d : Nat} (hd : 1 ≤ d) {a0 : Nat} {x1 : Option Nat} {h : AH} {h' : AH} (hf : X9_init a0 x1 h = some h') : MM G l yX9_init cX9_init 2 none d [vr (some a0), vr x1] h none h' := by
  refine mm_of hG (plainFor_of_name (by decide)) (Nat.le_of_ble_eq_true rfl) (fun X hX ok hr hnm => ?_)
  subst hX
  exact W_X9_init ok hr hd hnm hf rfl ⟨rfl, rfl, trivial⟩
theorem cw_X10_init : CW yX10_init cX10_init 3 none 2 := ⟨q1007, q193, ⟨by decide, by decide⟩, by decide +kernel, by decide⟩
theorem W_X10_init {G : GT} {X : CX} {d : Nat} {h0 : AH} {Q : State → Prop} (ok : Ok G X RX10 cX10_init 3 d h0) (hr : (cxm X).sig.returnType = none) (hd : 1 ≤ d) (hnm : (cxm X).name = "<init>") {a0 : Nat} {x1 : Int32} {x2 : Int32} {h : AH} {z : (AH)} (hf : X10_init a0 x1 x2 h = some z) (hk : Q = QM G X h0 none z) {lv : List (Nat × AV)} (hl : lle lv [(0, vr (some a0)), (1, vi x1), (2, vi x2)]) : V G X 3 h0 Q h 0 lv [] := by
  refine V.sub hl ?_
  unfold X10_init at hf
  refine v_aload_n ok 0 dX10_init_0 rfl rfl ?_
  refine v_objInit ok q1008 q215 q216 (by omega) (Nat.le_of_ble_eq_true rfl) dX10_init_1 hf (fun _ hf => ?_)
  refine v_aload_n ok 0 dX10_init_4 rfl rfl ?_
  refine v_iload_n ok 1 dX10_init_5 rfl rfl ?_
  refine v_pI ok fl_X10_7 ⟨fun _ _ _ => rfl, rfl⟩ (FN.ini cf_10.1 rfl hnm rfl) dX10_init_6 hf (fun h2 hf => ?_)
  refine v_aload_n ok 0 dX10_init_9 rfl rfl ?_
  refine v_iload_n ok 2 dX10_init_10 rfl rfl ?_
  refine v_pI ok fl_X10_13 ⟨fun _ _ _ => rfl, rfl⟩ (FN.ini cf_10.1 rfl hnm rfl) dX10_init_11 hf (fun h3 hf => ?_)
  exact v_vret ok hr (by cases hf; exact hk) dX10_init_14
theorem M_X10_init {G : GT} {l : Launch} (hG : Glob G) {d : Nat} (hd : 1 ≤ d) {a0 : Nat} {x1 : Int32} {x2 : Int32} {h : AH} {h' : AH} (hf : X10_init a0 x1 x2 h = some h') : MM G l yX10_init cX10_init 3 none d [vr (some a0), vi x1, vi x2] h none h' := by
  refine mm_of hG (plainFor_of_name (by decide)) (Nat.le_of_ble_eq_true rfl) (fun X hX ok hr hnm => ?_)
  subst hX
  exact W_X10_init ok hr hd hnm hf rfl ⟨rfl, rfl, rfl, trivial⟩
theorem cw_X0_is : CW yX0_is cX0_is 3 (Option.some Jvm.ClassFile.FieldType.boolean) 3 := ⟨q900, q168, ⟨by decide, by decide⟩, by decide +kernel, by decide⟩
theorem W_X0_is {G : GT} {X : CX} {d : Nat} {h0 : AH} {Q : State → Prop} (ok : Ok G X RX0 cX0_is 3 d h0) (hr : (cxm X).sig.returnType = (Option.some Jvm.ClassFile.FieldType.boolean)) (hd : 1 ≤ d) {x0 : Int32} {x1 : Int32} {x2 : Int32} {h : AH} {z : (Int32 × AH)} (hf : X0_is x0 x1 x2 h = some z) (hk : Q = QM G X h0 (some (vi z.1)) z.2) {lv : List (Nat × AV)} (hl : lle lv [(0, vi x0), (1, vi x1), (2, vi x2)]) : V G X 3 h0 Q h 0 lv [] := by
  refine V.sub hl ?_
  unfold X0_is at hf
  refine v_iload_n ok 0 dX0_is_0 rfl rfl ?_
  refine v_iload_n ok 1 dX0_is_1 rfl rfl ?_
  refine v_icmp_lt ok 14 dX0_is_2 rfl hf (fun hf => ?_) (fun hf => ?_)
  ·
    refine v_iconst ok 0 dX0_is_14 rfl ?_
    exact v_zretL ok hr (by decide) (by decide) (by cases hf; exact hk) dX0_is_15
  ·
    refine v_iload_n ok 0 dX0_is_5 rfl rfl ?_
    refine v_iload_n ok 2 dX0_is_6 rfl rfl ?_
    refine v_icmp_gt ok 14 dX0_is_7 rfl hf (fun hf => ?_) (fun hf => ?_)
    ·
      refine v_iconst ok 0 dX0_is_14 rfl ?_
      exact v_zretL ok hr (by decide) (by decide) (by cases hf; exact hk) dX0_is_15
    ·
      refine v_iconst ok 1 dX0_is_10 rfl ?_
      refine v_goto ok 15 dX0_is_11 rfl ?_
      exact v_zretL ok hr (by decide) (by decide) (by cases hf; exact hk) dX0_is_15
theorem M_X0_is {G : GT} {l : Launch} (hG : Glob G) {d : Nat} (hd : 1 ≤ d) {x0 : Int32} {x1 : Int32} {x2 : Int32} {h : AH} {v : Int32} {h' : AH} (hf : X0_is x0 x1 x2 h = some (v, h')) : MM G l yX0_is cX0_is 3 (Option.some Jvm.ClassFile.FieldType.boolean) d [vi x0, vi x1, vi x2] h (some (vi v)) h' := by
  refine mm_of hG (plainFor_of_name (by decide)) (Nat.le_of_ble_eq_true rfl) (fun X hX ok hr hnm => ?_)
  subst hX
  exact W_X0_is ok hr hd hf rfl ⟨rfl, rfl, rfl, trivial⟩
theorem cw_X8_init : CW yX8_init cX8_init 3 none 2 := ⟨q943, q191, ⟨by decide, by decide⟩, by decide +kernel, by decide⟩
theorem W_X8_init {G : GT} {X : CX} {d : Nat} {h0 : AH} {Q : State → Prop} (ok : Ok G X RX8 cX8_init 3 d h0) (hr : (cxm X).sig.returnType = none) (hd : 1 ≤ d) (hnm : (cxm X).name = "<init>") {a0 : Nat} {x1 : Int32} {x2 : Int32} {h : AH} {z : (AH)} (hf : X8_init a0 x1 x2 h = some z) (hk : Q = QM G X h0 none z) {lv : List (Nat × AV)} (hl : lle lv [(0, vr (some a0)), (1, vi x1), (2, vi x2)]) : V G X 3 h0 Q h 0 lv [] := by
  refine V.sub hl ?_
  unfold X8_init at hf
  refine v_aload_n ok 0 dX8_init_0 rfl rfl ?_
  refine v_objInit ok q944 q215 q216 (by omega) (Nat.le_of_ble_eq_true rfl) dX8_init_1 hf (fun _ hf => ?_)
  refine v_aload_n ok 0 dX8_init_4 rfl rfl ?_
  refine v_iload_n ok 1 dX8_init_5 rfl rfl ?_
  refine v_pI ok fl_X8_7 ⟨fun _ _ _ => rfl, rfl⟩ (FN.ini cf_8.1 rfl hnm rfl) dX8_init_6 hf (fun h2 hf => ?_)
  refine v_aload_n ok 0 dX8_init_9 rfl rfl ?_
  refine v_iload_n ok 2 dX8_init_10 rfl rfl ?_
  refine v_pI ok fl_X8_13 ⟨fun _ _ _ => rfl, rfl⟩ (FN.ini cf_8.1 rfl hnm rfl) dX8_init_11 hf (fun h3 hf => ?_)
  exact v_vret ok hr (by cases hf; exact hk) dX8_init_14
theorem M_X8_init {G : GT} {l : Launch} (hG : Glob G) {d : Nat} (hd : 1 ≤ d) {a0 : Nat} {x1 : Int32} {x2 : Int32} {h : AH} {h' : AH} (hf : X8_init a0 x1 x2 h = some h') : MM G l yX8_init cX8_init 3 none d [vr (some a0), vi x1, vi x2] h none h' := by
  refine mm_of hG (plainFor_of_name (by decide)) (Nat.le_of_ble_eq_true rfl) (fun X hX ok hr hnm => ?_)
  subst hX
  exact W_X8_init ok hr hd hnm hf rfl ⟨rfl, rfl, rfl, trivial⟩
theorem cw_X12_add : CW yX12_add cX12_add 3 none 2 := ⟨q1160, q195, ⟨by decide, by decide⟩, by decide +kernel, by decide⟩
theorem W_X12_add {G : GT} {X : CX} {d : Nat} {h0 : AH} {Q : State → Prop} (ok : Ok G X RX12 cX12_add 3 d h0) (hr : (cxm X).sig.returnType = none) (hd : 9 ≤ d) {a0 : Nat} {x1 : Int32} {x2 : Option Nat} {h : AH} {z : (AH)} (hf : X12_add a0 x1 x2 h = some z) (hk : Q = QM G X h0 none z) {lv : List (Nat × AV)} (hl : lle lv [(0, vr (some a0)), (1, vi x1), (2, vr x2)]) : V G X 3 h0 Q h 0 lv [] := by
  refine V.sub hl ?_
  unfold X12_add at hf
  refine v_aload_n ok 0 dX12_add_0 rfl rfl ?_
  refine v_gR ok fl_X12_21 (by first | exact Or.inl ⟨_, rfl⟩ | exact Or.inr ⟨_, rfl⟩) dX12_add_1 hf (fun v1 hf => ?_)
  refine v_iload_n ok 1 dX12_add_4 rfl rfl ?_
  refine v_cVr ok (RJ15, TJ15, 4) cf_25.1 [vi x1] (F := fun a => J15_append a x1 h) (fun a v h1 _ hv => M_J15_append ok.2.2.2.2.2.2.1 (d := 8) (Nat.le_refl _) hv) (by exact Nat.le_trans (by decide) hd) cw_J15_append q1161 q1162 q1163 dX12_add_5 [] rfl (Nat.le_of_ble_eq_true rfl) hf (fun v2 h3 hf => ?_)
  refine v_pop ok dX12_add_8 rfl ?_
  refine v_aload_n ok 0 dX12_add_9 rfl rfl ?_
  refine v_gR ok fl_X12_12 (by first | exact Or.inl ⟨_, rfl⟩ | exact Or.inr ⟨_, rfl⟩) dX12_add_10 hf (fun v4 hf => ?_)
  refine v_aload_n ok 2 dX12_add_13 rfl rfl ?_
  refine v_cFi ok (RJ2, TJ2, 3) cf_23.1 [vr x2] (F := fun a => J2_add a x2 h3) (fun a v h1 _ hv => M_J2_add ok.2.2.2.2.2.2.1 (d := 7) (Nat.le_refl _) hv) (by exact Nat.le_trans (by decide) hd) cw_J2_add q1210 q258 cwf_J2_add dX12_add_14 [] rfl (Nat.le_of_ble_eq_true rfl) hf (fun v5 h6 hf => ?_)
  refine v_pop ok dX12_add_19 rfl ?_
  exact v_vret ok hr (by cases hf; exact hk) dX12_add_20
theorem M_X12_add {G : GT} {l : Launch} (hG : Glob G) {d : Nat} (hd : 9 ≤ d) {a0 : Nat} {x1 : Int32} {x2 : Option Nat} {h : AH} {h' : AH} (hf : X12_add a0 x1 x2 h = some h') : MM G l yX12_add cX12_add 3 none d [vr (some a0), vi x1, vr x2] h none h' := by
  refine mm_of hG (plainFor_of_name (by decide)) (Nat.le_of_ble_eq_true rfl) (fun X hX ok hr hnm => ?_)
  subst hX
  exact W_X12_add ok hr hd hf rfl ⟨rfl, rfl, rfl, trivial⟩
theorem cw_X11_init : CW yX11_init cX11_init 1 none 0 := ⟨q1038, q194, ⟨by decide, by decide⟩, by decide +kernel, by decide⟩
theorem W_X11_init {G : GT} {X : CX} {d : Nat} {h0 : AH} {Q : State → Prop} (ok : Ok G X RX11 cX11_init 1 d h0) (hr : (cxm X).sig.returnType = none) (hd : 1 ≤ d) (hnm : (cxm X).name = "<init>") {a0 : Nat} {h : AH} {z : (AH)} (hf : X11_init a0 h = some z) (hk : Q = QM G X h0 none z) {lv : List (Nat × AV)} (hl : lle lv [(0, vr (some a0))]) : V G X 1 h0 Q h 0 lv [] := by
  refine V.sub hl ?_
  unfold X11_init at hf
  refine v_aload_n ok 0 dX11_init_0 rfl rfl ?_
  refine v_objInit ok q1039 q215 q216 (by omega) (Nat.le_of_ble_eq_true rfl) dX11_init_1 hf (fun _ hf => ?_)
  exact v_vret ok hr (by cases hf; exact hk) dX11_init_4
theorem M_X11_init {G : GT} {l : Launch} (hG : Glob G) {d : Nat} (hd : 1 ≤ d) {a0 : Nat} {h : AH} {h' : AH} (hf : X11_init a0 h = some h') : MM G l yX11_init cX11_init 1 none d [vr (some a0)] h none h' := by
  refine mm_of hG (plainFor_of_name (by decide)) (Nat.le_of_ble_eq_true rfl) (fun X hX ok hr hnm => ?_)
  subst hX
  exact W_X11_init ok hr hd hnm hf rfl ⟨rfl, trivial⟩
theorem cw_X12_init : CW yX12_init cX12_init 1 none 0 := ⟨q1035, q195, ⟨by decide, by decide⟩, by decide +kernel, by decide⟩
theorem W_X12_init {G : GT} {X : CX} {d : Nat} {h0 : AH} {Q : State → Prop} (ok : Ok G X RX12 cX12_init 1 d h0) (hr : (cxm X).sig.returnType = none) (hd : 5 ≤ d) (hnm : (cxm X).name = "<init>") {a0 : Nat} {h : AH} {z : (AH)} (hf : X12_init a0 h = some z) (hk : Q = QM G X h0 none z) {lv : List (Nat × AV)} (hl : lle lv [(0, vr (some a0))]) : V G X 1 h0 Q h 0 lv [] := by
  refine V.sub hl ?_
  unfold X12_init at hf
  refine v_aload_n ok 0 dX12_init_0 rfl rfl ?_
  refine v_cINv ok [] rfl (F := fun a => X11_init a h) (fun a h1 _ hv => M_X11_init ok.2.2.2.2.2.2.1 (d := 1) (Nat.le_refl _) hv) (by exact Nat.le_trans (by decide) hd) cw_X11_init q1036 q1037 dX12_init_1 [] rfl (Nat.le_of_ble_eq_true rfl) hf (fun h1 hf => ?_)
  refine v_aload_n ok 0 dX12_init_4 rfl rfl ?_
  refine v_new ok cf_23 rfl q1040 q224 q172 df_23 dX12_init_5 hf (fun v2 h3 hf => ?_)
  refine v_dup ok dX12_init_8 rfl ?_
  refine v_iconst ok 2 dX12_init_9 rfl ?_
  refine v_cIv ok [vi 2] rfl (F := fun a => J2_init a 2 h3) (fun a h1 _ hv => M_J2_init ok.2.2.2.2.2.2.1 (d := 3) (Nat.le_refl _) hv) (by exact Nat.le_trans (by decide) hd) cw_J2_init q1041 q226 dX12_init_10 [vr v2, vr (some a0)] rfl (Nat.le_of_ble_eq_true rfl) hf (fun h4 hf => ?_)
  refine v_pR ok fl_X12_12 (by first | exact Or.inl ⟨_, rfl⟩ | exact Or.inr ⟨_, rfl⟩) (FN.ini cf_12.1 rfl hnm rfl) dX12_init_13 hf (fun h5 hf => ?_)
  refine v_aload_n ok 0 dX12_init_16 rfl rfl ?_
  refine v_new ok cf_25 rfl q1042 q1043 q197 df_25 dX12_init_17 hf (fun v6 h7 hf => ?_)
  refine v_dup ok dX12_init_20 rfl ?_
  refine v_cIv ok [] rfl (F := fun a => J15_init a h7) (fun a h1 _ hv => M_J15_init ok.2.2.2.2.2.2.1 (d := 4) (Nat.le_refl _) hv) (by exact Nat.le_trans (by decide) hd) cw_J15_init q1044 q1045 dX12_init_21 [vr v6, vr (some a0)] rfl (Nat.le_of_ble_eq_true rfl) hf (fun h8 hf => ?_)
  refine v_pR ok fl_X12_21 (by first | exact Or.inl ⟨_, rfl⟩ | exact Or.inr ⟨_, rfl⟩) (FN.ini cf_12.1 rfl hnm rfl) dX12_init_24 hf (fun h9 hf => ?_)
  exact v_vret ok hr (by cases hf; exact hk) dX12_init_27
theorem M_X12_init {G : GT} {l : Launch} (hG : Glob G) {d : Nat} (hd : 5 ≤ d) {a0 : Nat} {h : AH} {h' : AH} (hf : X12_init a0 h = some h') : MM G l yX12_init cX12_init 1 none d [vr (some a0)] h none h' := by
  refine mm_of hG (plainFor_of_name (by decide)) (Nat.le_of_ble_eq_true rfl) (fun X hX ok hr hnm => ?_)
  subst hX
  exact W_X12_init ok hr hd hnm hf rfl ⟨rfl, trivial⟩
theorem cw_X2_takes : CW yX2_takes cX2_takes 3 (Option.some Jvm.ClassFile.FieldType.boolean) 1 := ⟨q1214, q177, ⟨by decide, by decide⟩, by decide +kernel, by decide⟩
theorem W_X2_takes_28 {G : GT} {X : CX} {d : Nat} {h0 : AH} {Q : State → Prop} (ok : Ok G X RX2 cX2_takes 3 d h0) (hr : (cxm X).sig.returnType = (Option.some Jvm.ClassFile.FieldType.boolean)) (hd : 3 ≤ d) {x2 : Int32} {s0 : Option Nat} {s1 : Int32} {s2 : Int32} {h : AH} {z : (Int32 × AH)} (hf : X2_takes_28 x2 s0 s1 s2 h = some z) (hk : Q = QM G X h0 (some (vi z.1)) z.2) {lv : List (Nat × AV)} (hl : lle lv [(2, vi x2)]) : V G X 3 h0 Q h 28 lv [vi s2, vi s1, vr s0] := by
  refine V.sub hl ?_
  unfold X2_takes_28 at hf
  refine v_iadd ok dX2_takes_28 ?_
  refine v_pI ok fl_X2_36 ⟨fun _ _ _ => rfl, rfl⟩ (FN.of cf_2.1 rfl) dX2_takes_29 hf (fun h1 hf => ?_)
  refine v_iload_n ok 2 dX2_takes_32 rfl rfl ?_
  exact v_zret ok hr (by decide) hf (fun hf => by cases hf; exact hk) dX2_takes_33
theorem W_X2_takes_13 {G : GT} {X : CX} {d : Nat} {h0 : AH} {Q : State → Prop} (ok : Ok G X RX2 cX2_takes 3 d h0) (hr : (cxm X).sig.returnType = (Option.some Jvm.ClassFile.FieldType.boolean)) (hd : 3 ≤ d) {a0 : Nat} {s0 : Int32} {h : AH} {z : (Int32 × AH)} (hf : X2_takes_13 a0 s0 h = some z) (hk : Q = QM G X h0 (some (vi z.1)) z.2) {lv : List (Nat × AV)} (hl : lle lv [(0, vr (some a0))]) : V G X 3 h0 Q h 13 lv [vi s0] := by
  refine V.sub hl ?_
  unfold X2_takes_13 at hf
  refine v_istore_n ok 2 dX2_takes_13 rfl (by decide) ?_
  refine v_aload_n ok 0 dX2_takes_14 rfl rfl ?_
  refine v_dup ok dX2_takes_15 rfl ?_
  refine v_gI ok fl_X2_36 (fun _ _ _ => rfl) dX2_takes_16 hf (fun v4 hf => ?_)
  refine v_iload_n ok 2 dX2_takes_19 rfl rfl ?_
  refine v_if_eq ok 27 dX2_takes_20 rfl hf (fun hf => ?_) (fun hf => ?_)
  ·
    refine v_iconst ok 0 dX2_takes_27 rfl ?_
    exact W_X2_takes_28 ok hr hd hf hk ⟨rfl, trivial⟩
  ·
    refine v_iconst ok 1 dX2_takes_23 rfl ?_
    refine v_goto ok 28 dX2_takes_24 rfl ?_
    exact W_X2_takes_28 ok hr hd hf hk ⟨rfl, trivial⟩
theorem W_X2_takes {G : GT} {X : CX} {d : Nat} {h0 : AH} {Q : State → Prop} (ok : Ok G X RX2 cX2_takes 3 d h0) (hr : (cxm X).sig.returnType = (Option.some Jvm.ClassFile.FieldType.boolean)) (hd : 3 ≤ d) {a0 : Nat} {x1 : Int32} {h : AH} {z : (Int32 × AH)} (hf : X2_takes a0 x1 h = some z) (hk : Q = QM G X h0 (some (vi z.1)) z.2) {lv : List (Nat × AV)} (hl : lle lv [(0, vr (some a0)), (1, vi x1)]) : V G X 3 h0 Q h 0 lv [] := by
  refine V.sub hl ?_
  unfold X2_takes at hf
  refine v_aload_n ok 0 dX2_takes_0 rfl rfl ?_
  refine v_cVi ok (RX2, TX2, 8) cf_2.1 [] (F := fun a => X2_here a h) (fun a v h1 _ hv => M_X2_here ok.2.2.2.2.2.2.1 (d := 2) (Nat.le_refl _) hv) (by exact Nat.le_trans (by decide) hd) cw_X2_here q672 q674 qs7 dX2_takes_1 [] rfl (Nat.le_of_ble_eq_true rfl) hf (fun v5 h6 hf => ?_)
  refine v_iload_n ok 1 dX2_takes_4 rfl rfl ?_
  refine v_icmp_ne ok 12 dX2_takes_5 rfl hf (fun hf => ?_) (fun hf => ?_)
  ·
    refine v_iconst ok 0 dX2_takes_12 rfl ?_
    exact W_X2_takes_13 ok hr hd hf hk ⟨rfl, trivial⟩
  ·
    refine v_iconst ok 1 dX2_takes_8 rfl ?_
    refine v_goto ok 13 dX2_takes_9 rfl ?_
    exact W_X2_takes_13 ok hr hd hf hk ⟨rfl, trivial⟩
theorem M_X2_takes {G : GT} {l : Launch} (hG : Glob G) {d : Nat} (hd : 3 ≤ d) {a0 : Nat} {x1 : Int32} {h : AH} {v : Int32} {h' : AH} (hf : X2_takes a0 x1 h = some (v, h')) : MM G l yX2_takes cX2_takes 3 (Option.some Jvm.ClassFile.FieldType.boolean) d [vr (some a0), vi x1] h (some (vi v)) h' := by
  refine mm_of hG (plainFor_of_name (by decide)) (Nat.le_of_ble_eq_true rfl) (fun X hX ok hr hnm => ?_)
  subst hX
  exact W_X2_takes ok hr hd hf rfl ⟨rfl, rfl, trivial⟩
theorem cw_X17_init : CW yX17_init cX17_init 1 none 0 := ⟨q1226, q202, ⟨by decide, by decide⟩, by decide +kernel, by decide⟩
theorem W_X17_init {G : GT} {X : CX} {d : Nat} {h0 : AH} {Q : State → Prop} (ok : Ok G X RX17 cX17_init 1 d h0) (hr : (cxm X).sig.returnType = none) (hd : 1 ≤ d) (hnm : (cxm X).name = "<init>") {a0 : Nat} {h : AH} {z : (AH)} (hf : X17_init a0 h = some z) (hk : Q = QM G X h0 none z) {lv : List (Nat × AV)} (hl : lle lv [(0, vr (some a0))]) : V G X 1 h0 Q h 0 lv [] := by
  refine V.sub hl ?_
  unfold X17_init at hf
  refine v_aload_n ok 0 dX17_init_0 rfl rfl ?_
  refine v_objInit ok q1227 q215 q216 (by omega) (Nat.le_of_ble_eq_true rfl) dX17_init_1 hf (fun _ hf => ?_)
  exact v_vret ok hr (by cases hf; exact hk) dX17_init_4
theorem M_X17_init {G : GT} {l : Launch} (hG : Glob G) {d : Nat} (hd : 1 ≤ d) {a0 : Nat} {h : AH} {h' : AH} (hf : X17_init a0 h = some h') : MM G l yX17_init cX17_init 1 none d [vr (some a0)] h none h' := by
  refine mm_of hG (plainFor_of_name (by decide)) (Nat.le_of_ble_eq_true rfl) (fun X hX ok hr hnm => ?_)
  subst hX
  exact W_X17_init ok hr hd hnm hf rfl ⟨rfl, trivial⟩
theorem cw_X18_init : CW yX18_init cX18_init 2 none 1 := ⟨q1223, q203, ⟨by decide, by decide⟩, by decide +kernel, by decide⟩
theorem W_X18_init {G : GT} {X : CX} {d : Nat} {h0 : AH} {Q : State → Prop} (ok : Ok G X RX18 cX18_init 2 d h0) (hr : (cxm X).sig.returnType = none) (hd : 4 ≤ d) (hnm : (cxm X).name = "<init>") {a0 : Nat} {x1 : Int32} {h : AH} {z : (AH)} (hf : X18_init a0 x1 h = some z) (hk : Q = QM G X h0 none z) {lv : List (Nat × AV)} (hl : lle lv [(0, vr (some a0)), (1, vi x1)]) : V G X 2 h0 Q h 0 lv [] := by
  refine V.sub hl ?_
  unfold X18_init at hf
  refine v_aload_n ok 0 dX18_init_0 rfl rfl ?_
  refine v_cINv ok [] rfl (F := fun a => X17_init a h) (fun a h1 _ hv => M_X17_init ok.2.2.2.2.2.2.1 (d := 1) (Nat.le_refl _) hv) (by exact Nat.le_trans (by decide) hd) cw_X17_init q1224 q1225 dX18_init_1 [] rfl (Nat.le_of_ble_eq_true rfl) hf (fun h1 hf => ?_)
  refine v_aload_n ok 0 dX18_init_4 rfl rfl ?_
  refine v_new ok cf_23 rfl q1228 q224 q172 df_23 dX18_init_5 hf (fun v2 h3 hf => ?_)
  refine v_dup ok dX18_init_8 rfl ?_
  refine v_iconst ok 2 dX18_init_9 rfl ?_
  refine v_cIv ok [vi 2] rfl (F := fun a => J2_init a 2 h3) (fun a h1 _ hv => M_J2_init ok.2.2.2.2.2.2.1 (d := 3) (Nat.le_refl _) hv) (by exact Nat.le_trans (by decide) hd) cw_J2_init q1229 q226 dX18_init_10 [vr v2, vr (some a0)] rfl (Nat.le_of_ble_eq_true rfl) hf (fun h4 hf => ?_)
  refine v_pR ok fl_X18_12 (by first | exact Or.inl ⟨_, rfl⟩ | exact Or.inr ⟨_, rfl⟩) (FN.ini cf_18.1 rfl hnm rfl) dX18_init_13 hf (fun h5 hf => ?_)
  refine v_aload_n ok 0 dX18_init_16 rfl rfl ?_
  refine v_iload_n ok 1 dX18_init_17 rfl rfl ?_
  refine v_pZ ok fl_X18_18 ⟨fun _ _ _ => rfl, by first | exact Or.inl rfl | exact Or.inr rfl⟩ (FN.ini cf_18.1 rfl hnm rfl) dX18_init_18 hf (fun h6 hf => ?_)
  exact v_vret ok hr (by cases hf; exact hk) dX18_init_21
theorem M_X18_init {G : GT} {l : Launch} (hG : Glob G) {d : Nat} (hd : 4 ≤ d) {a0 : Nat} {x1 : Int32} {h : AH} {h' : AH} (hf : X18_init a0 x1 h = some h') : MM G l yX18_init cX18_init 2 none d [vr (some a0), vi x1] h none h' := by
  refine mm_of hG (plainFor_of_name (by decide)) (Nat.le_of_ble_eq_true rfl) (fun X hX ok hr hnm => ?_)
  subst hX
  exact W_X18_init ok hr hd hnm hf rfl ⟨rfl, rfl, trivial⟩
theorem cw_X0_boards : CW yX0_boards cX0_boards 1 (Option.some Jvm.ClassFile.FieldType.int) 0 := ⟨q1294, q168, ⟨by decide, by decide⟩, by decide +kernel, by decide⟩
theorem W_X0_boards {G : GT} {X : CX} {d : Nat} {h0 : AH} {Q : State → Prop} (ok : Ok G X RX0 cX0_boards 1 d h0) (hr : (cxm X).sig.returnType = (Option.some Jvm.ClassFile.FieldType.int)) (hd : 2 ≤ d) {a0 : Nat} {h : AH} {z : (Int32 × AH)} (hf : X0_boards a0 h = some z) (hk : Q = QM G X h0 (some (vi z.1)) z.2) {lv : List (Nat × AV)} (hl : lle lv [(0, vr (some a0))]) : V G X 1 h0 Q h 0 lv [] := by
  refine V.sub hl ?_
  unfold X0_boards at hf
  refine v_aload_n ok 0 dX0_boards_0 rfl rfl ?_
  refine v_gR ok fl_X0_31 (by first | exact Or.inl ⟨_, rfl⟩ | exact Or.inr ⟨_, rfl⟩) dX0_boards_1 hf (fun v1 hf => ?_)
  refine v_gRN ok fl_X0_142 (by first | exact Or.inl ⟨_, rfl⟩ | exact Or.inr ⟨_, rfl⟩) dX0_boards_4 hf (fun v2 hf => ?_)
  refine v_cFi ok (RJ2, TJ2, 3) cf_23.1 [] (F := fun a => J2_size a h) (fun a v h1 _ hv => M_J2_size ok.2.2.2.2.2.2.1 (d := 1) (Nat.le_refl _) hv) (by exact Nat.le_trans (by decide) hd) cw_J2_size q1296 q925 cwf_J2_size dX0_boards_7 [] rfl (Nat.le_of_ble_eq_true rfl) hf (fun v3 h4 hf => ?_)
  exact v_iret ok hr (by cases hf; exact hk) dX0_boards_12
theorem M_X0_boards {G : GT} {l : Launch} (hG : Glob G) {d : Nat} (hd : 2 ≤ d) {a0 : Nat} {h : AH} {v : Int32} {h' : AH} (hf : X0_boards a0 h = some (v, h')) : MM G l yX0_boards cX0_boards 1 (Option.some Jvm.ClassFile.FieldType.int) d [vr (some a0)] h (some (vi v)) h' := by
  refine mm_of hG (plainFor_of_name (by decide)) (Nat.le_of_ble_eq_true rfl) (fun X hX ok hr hnm => ?_)
  subst hX
  exact W_X0_boards ok hr hd hf rfl ⟨rfl, trivial⟩
theorem cw_X1_glyph : CW yX1_glyph cX1_glyph 4 (Option.some Jvm.ClassFile.FieldType.int) 3 := ⟨q1313, q169, ⟨by decide, by decide⟩, by decide +kernel, by decide⟩
theorem W_X1_glyph {G : GT} {X : CX} {d : Nat} {h0 : AH} {Q : State → Prop} (ok : Ok G X RX1 cX1_glyph 4 d h0) (hr : (cxm X).sig.returnType = (Option.some Jvm.ClassFile.FieldType.int)) (hd : 7 ≤ d) {a0 : Nat} {x1 : Int32} {x2 : Int32} {x3 : Int32} {h : AH} {z : (Int32 × AH)} (hf : X1_glyph a0 x1 x2 x3 h = some z) (hk : Q = QM G X h0 (some (vi z.1)) z.2) {lv : List (Nat × AV)} (hl : lle lv [(0, vr (some a0)), (1, vi x1), (2, vi x2), (3, vi x3)]) : V G X 4 h0 Q h 0 lv [] := by
  refine V.sub hl ?_
  unfold X1_glyph at hf
  refine v_aload_n ok 0 dX1_glyph_0 rfl rfl ?_
  refine v_gR ok fl_X1_23 (by first | exact Or.inl ⟨_, rfl⟩ | exact Or.inr ⟨_, rfl⟩) dX1_glyph_1 hf (fun v1 hf => ?_)
  refine v_iload_n ok 1 dX1_glyph_4 rfl rfl ?_
  refine v_cFr ok (RJ2, TJ2, 3) cf_23.1 [vi x1] (F := fun a => J2_get a x1 h) (fun a v h1 _ hv => M_J2_get ok.2.2.2.2.2.2.1 (d := 3) (Nat.le_refl _) hv) (by exact Nat.le_trans (by decide) hd) cw_J2_get q933 q907 cwf_J2_get dX1_glyph_5 [] rfl (Nat.le_of_ble_eq_true rfl) hf (fun v2 h3 hf => ?_)
  refine v_cast_ ok ck_java_util_List q934 dX1_glyph_10 hf (fun hf => ?_)
  refine v_aload_n ok 0 dX1_glyph_13 rfl rfl ?_
  refine v_iload_n ok 1 dX1_glyph_14 rfl rfl ?_
  refine v_aload_n ok 0 dX1_glyph_15 rfl rfl ?_
  refine v_gR ok fl_X1_27 (by first | exact Or.inl ⟨_, rfl⟩ | exact Or.inr ⟨_, rfl⟩) dX1_glyph_16 hf (fun v4 hf => ?_)
  refine v_iload_n ok 2 dX1_glyph_19 rfl rfl ?_
  refine v_cFr ok (RJ2, TJ2, 3) cf_23.1 [vi x2] (F := fun a => J2_get a x2 h3) (fun a v h1 _ hv => M_J2_get ok.2.2.2.2.2.2.1 (d := 3) (Nat.le_refl _) hv) (by exact Nat.le_trans (by decide) hd) cw_J2_get q933 q907 cwf_J2_get dX1_glyph_20 [vi x1, vr (some a0), vr v2] rfl (Nat.le_of_ble_eq_true rfl) hf (fun v5 h6 hf => ?_)
  refine v_cast_ ok ck_TurnedBoards_Word q982 dX1_glyph_25 hf (fun hf => ?_)
  refine v_iload_n ok 3 dX1_glyph_28 rfl rfl ?_
  refine v_cVi ok (RX9, TX9, 1) cf_9.1 [vi x3] (F := fun a => X9_at a x3 h6) (fun a v h1 _ hv => M_X9_at ok.2.2.2.2.2.2.1 (d := 6) (Nat.le_refl _) hv) (by exact Nat.le_trans (by decide) hd) cw_X9_at q993 q994 q995 dX1_glyph_29 [vi x1, vr (some a0), vr v2] rfl (Nat.le_of_ble_eq_true rfl) hf (fun v7 h8 hf => ?_)
  refine v_cVi ok (RX1, TX1, 9) cf_1.1 [vi x1, vi v7] (F := fun a => X1_letter a x1 v7 h8) (fun a v h1 _ hv => M_X1_letter ok.2.2.2.2.2.2.1 (d := 4) (Nat.le_refl _) hv) (by exact Nat.le_trans (by decide) hd) cw_X1_letter q998 q929 q930 dX1_glyph_32 [vr v2] rfl (Nat.le_of_ble_eq_true rfl) hf (fun v9 h10 hf => ?_)
  refine v_cFr ok (RJ2, TJ2, 3) cf_23.1 [vi v9] (F := fun a => J2_get a v9 h10) (fun a v h1 _ hv => M_J2_get ok.2.2.2.2.2.2.1 (d := 3) (Nat.le_refl _) hv) (by exact Nat.le_trans (by decide) hd) cw_J2_get q933 q907 cwf_J2_get dX1_glyph_35 [] rfl (Nat.le_of_ble_eq_true rfl) hf (fun v11 h12 hf => ?_)
  refine v_cast_ ok ck_TurnedBoards_Letter q937 dX1_glyph_40 hf (fun hf => ?_)
  refine v_gIN ok fl_X1_72 (fun _ _ _ => rfl) dX1_glyph_43 hf (fun v13 hf => ?_)
  exact v_iret ok hr (by cases hf; exact hk) dX1_glyph_46
theorem M_X1_glyph {G : GT} {l : Launch} (hG : Glob G) {d : Nat} (hd : 7 ≤ d) {a0 : Nat} {x1 : Int32} {x2 : Int32} {x3 : Int32} {h : AH} {v : Int32} {h' : AH} (hf : X1_glyph a0 x1 x2 x3 h = some (v, h')) : MM G l yX1_glyph cX1_glyph 4 (Option.some Jvm.ClassFile.FieldType.int) d [vr (some a0), vi x1, vi x2, vi x3] h (some (vi v)) h' := by
  refine mm_of hG (plainFor_of_name (by decide)) (Nat.le_of_ble_eq_true rfl) (fun X hX ok hr hnm => ?_)
  subst hX
  exact W_X1_glyph ok hr hd hf rfl ⟨rfl, rfl, rfl, rfl, trivial⟩
theorem cw_X5_places : CW yX5_places cX5_places 2 (Option.some Jvm.ClassFile.FieldType.int) 1 := ⟨q1307, q183, ⟨by decide, by decide⟩, by decide +kernel, by decide⟩
theorem W_X5_places {G : GT} {X : CX} {d : Nat} {h0 : AH} {Q : State → Prop} (ok : Ok G X RX5 cX5_places 2 d h0) (hr : (cxm X).sig.returnType = (Option.some Jvm.ClassFile.FieldType.int)) (hd : 4 ≤ d) {a0 : Nat} {x1 : Int32} {h : AH} {z : (Int32 × AH)} (hf : X5_places a0 x1 h = some z) (hk : Q = QM G X h0 (some (vi z.1)) z.2) {lv : List (Nat × AV)} (hl : lle lv [(0, vr (some a0)), (1, vi x1)]) : V G X 2 h0 Q h 0 lv [] := by
  refine V.sub hl ?_
  unfold X5_places at hf
  refine v_aload_n ok 0 dX5_places_0 rfl rfl ?_
  refine v_gR ok fl_X5_3 (by first | exact Or.inl ⟨_, rfl⟩ | exact Or.inr ⟨_, rfl⟩) dX5_places_1 hf (fun v1 hf => ?_)
  refine v_gRN ok fl_X5_44 (by first | exact Or.inl ⟨_, rfl⟩ | exact Or.inr ⟨_, rfl⟩) dX5_places_4 hf (fun v2 hf => ?_)
  refine v_gRN ok fl_X5_76 (by first | exact Or.inl ⟨_, rfl⟩ | exact Or.inr ⟨_, rfl⟩) dX5_places_7 hf (fun v3 hf => ?_)
  refine v_aload_n ok 0 dX5_places_10 rfl rfl ?_
  refine v_gR ok fl_X5_15 (by first | exact Or.inl ⟨_, rfl⟩ | exact Or.inr ⟨_, rfl⟩) dX5_places_11 hf (fun v4 hf => ?_)
  refine v_iload_n ok 1 dX5_places_14 rfl rfl ?_
  refine v_iald ok rfl dX5_places_15 hf (fun v5 hf => ?_)
  refine v_cFr ok (RJ2, TJ2, 3) cf_23.1 [vi v5] (F := fun a => J2_get a v5 h) (fun a v h1 _ hv => M_J2_get ok.2.2.2.2.2.2.1 (d := 3) (Nat.le_refl _) hv) (by exact Nat.le_trans (by decide) hd) cw_J2_get q1298 q907 cwf_J2_get dX5_places_16 [] rfl (Nat.le_of_ble_eq_true rfl) hf (fun v6 h7 hf => ?_)
  refine v_cast_ ok ck_TurnedBoards_Word q1308 dX5_places_21 hf (fun hf => ?_)
  refine v_cVi ok (RX9, TX9, 1) cf_9.1 [] (F := fun a => X9_size a h7) (fun a v h1 _ hv => M_X9_size ok.2.2.2.2.2.2.1 (d := 3) (Nat.le_refl _) hv) (by exact Nat.le_trans (by decide) hd) cw_X9_size q1309 q989 q990 dX5_places_24 [] rfl (Nat.le_of_ble_eq_true rfl) hf (fun v8 h9 hf => ?_)
  exact v_iret ok hr (by cases hf; exact hk) dX5_places_27
theorem M_X5_places {G : GT} {l : Launch} (hG : Glob G) {d : Nat} (hd : 4 ≤ d) {a0 : Nat} {x1 : Int32} {h : AH} {v : Int32} {h' : AH} (hf : X5_places a0 x1 h = some (v, h')) : MM G l yX5_places cX5_places 2 (Option.some Jvm.ClassFile.FieldType.int) d [vr (some a0), vi x1] h (some (vi v)) h' := by
  refine mm_of hG (plainFor_of_name (by decide)) (Nat.le_of_ble_eq_true rfl) (fun X hX ok hr hnm => ?_)
  subst hX
  exact W_X5_places ok hr hd hf rfl ⟨rfl, rfl, trivial⟩
theorem cw_X5_paints : CW yX5_paints cX5_paints 5 none 3 := ⟨q1303, q183, ⟨by decide, by decide⟩, by decide +kernel, by decide⟩
def pkX5_paints_17 (G : GT) (X : CX) (h0 : AH) (Q : State → Prop) (a0 : Nat) (x1 : Int32) (x2 : Int32) (x3 : Int32) (o : ((Int32 × AH) ⊕ (AH))) : Prop := match o with
  | .inl s => ∀ lv : List (Nat × AV), lle lv [(0, vr (some a0)), (1, vi x1), (2, vi x2), (3, vi x3), (4, vi s.1)] → V G X 5 h0 Q s.2 17 lv []
  | .inr z => Q = QM G X h0 none z
theorem W_X5_paints_60 {G : GT} {X : CX} {d : Nat} {h0 : AH} {Q : State → Prop} (ok : Ok G X RX5 cX5_paints 5 d h0) (hr : (cxm X).sig.returnType = none) (hd : 8 ≤ d) {a0 : Nat} {x1 : Int32} {x2 : Int32} {x3 : Int32} {x4 : Int32} {s0 : Option Nat} {s1 : Int32} {s2 : Int32} {h : AH} {z : ((Int32 × AH) ⊕ (AH))} (hf : X5_paints_60 a0 x1 x2 x3 x4 s0 s1 s2 h = some z) (hk : pkX5_paints_17 G X h0 Q a0 x1 x2 x3 z) {lv : List (Nat × AV)} (hl : lle lv [(0, vr (some a0)), (1, vi x1), (2, vi x2), (3, vi x3), (4, vi x4)]) : V G X 5 h0 Q h 60 lv [vi s2, vi s1, vr s0] := by
  refine V.sub hl ?_
  unfold X5_paints_60 at hf
  refine v_iast ok rfl dX5_paints_60 hf (fun h1 hf => ?_)
  refine v_iinc ok x4 (x4 + 1) dX5_paints_61 rfl rfl (by decide) ?_
  refine v_goto ok 17 dX5_paints_64 rfl ?_
  cases hf; exact hk _ ⟨rfl, rfl, rfl, rfl, rfl, trivial⟩
theorem W_X5_paints_17b {G : GT} {X : CX} {d : Nat} {h0 : AH} {Q : State → Prop} (ok : Ok G X RX5 cX5_paints 5 d h0) (hr : (cxm X).sig.returnType = none) (hd : 8 ≤ d) {a0 : Nat} {x1 : Int32} {x2 : Int32} {x3 : Int32} {x4 : Int32} {h : AH} {z : ((Int32 × AH) ⊕ (AH))} (hf : X5_paints_17b  a0 x1 x2 x3 x4 h = some z) (hk : pkX5_paints_17 G X h0 Q a0 x1 x2 x3 z) {lv : List (Nat × AV)} (hl : lle lv [(0, vr (some a0)), (1, vi x1), (2, vi x2), (3, vi x3), (4, vi x4)]) : V G X 5 h0 Q h 17 lv [] := by
  refine V.sub hl ?_
  unfold X5_paints_17b at hf
  refine v_iload ok dX5_paints_17 rfl ?_
  refine v_bipush ok 6 dX5_paints_19 rfl ?_
  refine v_icmp_ge ok 67 dX5_paints_21 rfl hf (fun hf => ?_) (fun hf => ?_)
  ·
    exact v_vret ok hr (by cases hf; exact hk) dX5_paints_67
  ·
    refine v_aload_n ok 0 dX5_paints_24 rfl rfl ?_
    refine v_gR ok fl_X5_24 (by first | exact Or.inl ⟨_, rfl⟩ | exact Or.inr ⟨_, rfl⟩) dX5_paints_25 hf (fun v2 hf => ?_)
    refine v_iload_n ok 1 dX5_paints_28 rfl rfl ?_
    refine v_aald6 ok rfl dX5_paints_29 hf (fun v3 hf => ?_)
    refine v_iload ok dX5_paints_30 rfl ?_
    refine v_iload ok dX5_paints_32 rfl ?_
    refine v_aload_n ok 0 dX5_paints_34 rfl rfl ?_
    refine v_iload_n ok 1 dX5_paints_35 rfl rfl ?_
    refine v_cVi ok (RX5, TX5, 10) cf_5.1 [vi x1] (F := fun a => X5_places a x1 h) (fun a v h1 _ hv => M_X5_places ok.2.2.2.2.2.2.1 (d := 4) (Nat.le_refl _) hv) (by exact Nat.le_trans (by decide) hd) cw_X5_places q1304 q1305 q1306 dX5_paints_36 [vi x4, vi x4, vr v3] rfl (Nat.le_of_ble_eq_true rfl) hf (fun v4 h5 hf => ?_)
    refine v_icmp_ge ok 59 dX5_paints_39 rfl hf (fun hf => ?_) (fun hf => ?_)
    ·
      refine v_iconst ok 0 dX5_paints_59 rfl ?_
      exact W_X5_paints_60 ok hr hd hf hk ⟨rfl, rfl, rfl, rfl, rfl, trivial⟩
    ·
      refine v_aload_n ok 0 dX5_paints_42 rfl rfl ?_
      refine v_gR ok fl_X5_3 (by first | exact Or.inl ⟨_, rfl⟩ | exact Or.inr ⟨_, rfl⟩) dX5_paints_43 hf (fun v6 hf => ?_)
      refine v_gRN ok fl_X5_44 (by first | exact Or.inl ⟨_, rfl⟩ | exact Or.inr ⟨_, rfl⟩) dX5_paints_46 hf (fun v7 hf => ?_)
      refine v_iload_n ok 3 dX5_paints_49 rfl rfl ?_
      refine v_iload_n ok 2 dX5_paints_50 rfl rfl ?_
      refine v_iload ok dX5_paints_51 rfl ?_
      refine v_cVi ok (RX1, TX1, 9) cf_1.1 [vi x3, vi x2, vi x4] (F := fun a => X1_glyph a x3 x2 x4 h5) (fun a v h1 _ hv => M_X1_glyph ok.2.2.2.2.2.2.1 (d := 7) (Nat.le_refl _) hv) (by exact Nat.le_trans (by decide) hd) cw_X1_glyph q1310 q1311 q1312 dX5_paints_53 [vi x4, vr v3] rfl (Nat.le_of_ble_eq_true rfl) hf (fun v8 h9 hf => ?_)
      refine v_goto ok 60 dX5_paints_56 rfl ?_
      exact W_X5_paints_60 ok hr hd hf hk ⟨rfl, rfl, rfl, rfl, rfl, trivial⟩
theorem W_X5_paints_17 {G : GT} {X : CX} {d : Nat} {h0 : AH} {Q : State → Prop} (ok : Ok G X RX5 cX5_paints 5 d h0) (hr : (cxm X).sig.returnType = none) (hd : 8 ≤ d) {a0 : Nat} {x1 : Int32} {x2 : Int32} {x3 : Int32} {x4 : Int32} {h : AH} {z : (AH)} (hf : X5_paints_17  a0 x1 x2 x3 x4 h = some z) (hk : Q = QM G X h0 none z) {lv : List (Nat × AV)} (hl : lle lv [(0, vr (some a0)), (1, vi x1), (2, vi x2), (3, vi x3), (4, vi x4)]) : V G X 5 h0 Q h 17 lv [] := by
  unfold X5_paints_17 at hf
  exact loopC_walk (Wh := fun s : Int32 × AH => ∀ lv : List (Nat × AV), lle lv [(0, vr (some a0)), (1, vi x1), (2, vi x2), (3, vi x3), (4, vi s.1)] → V G X 5 h0 Q s.2 17 lv []) (PK := fun z => Q = QM G X h0 none z) (fun s o hf hk lv hl => W_X5_paints_17b ok hr hd hf (by cases o <;> exact hk) hl) _ z hf hk lv hl
theorem W_X5_paints {G : GT} {X : CX} {d : Nat} {h0 : AH} {Q : State → Prop} (ok : Ok G X RX5 cX5_paints 5 d h0) (hr : (cxm X).sig.returnType = none) (hd : 8 ≤ d) {a0 : Nat} {x1 : Int32} {x2 : Int32} {x3 : Int32} {h : AH} {z : (AH)} (hf : X5_paints a0 x1 x2 x3 h = some z) (hk : Q = QM G X h0 none z) {lv : List (Nat × AV)} (hl : lle lv [(0, vr (some a0)), (1, vi x1), (2, vi x2), (3, vi x3)]) : V G X 5 h0 Q h 0 lv [] := by
  refine V.sub hl ?_
  unfold X5_paints at hf
  refine v_aload_n ok 0 dX5_paints_0 rfl rfl ?_
  refine v_gR ok fl_X5_15 (by first | exact Or.inl ⟨_, rfl⟩ | exact Or.inr ⟨_, rfl⟩) dX5_paints_1 hf (fun v10 hf => ?_)
  refine v_iload_n ok 1 dX5_paints_4 rfl rfl ?_
  refine v_iload_n ok 2 dX5_paints_5 rfl rfl ?_
  refine v_iast ok rfl dX5_paints_6 hf (fun h11 hf => ?_)
  refine v_aload_n ok 0 dX5_paints_7 rfl rfl ?_
  refine v_gR ok fl_X5_19 (by first | exact Or.inl ⟨_, rfl⟩ | exact Or.inr ⟨_, rfl⟩) dX5_paints_8 hf (fun v12 hf => ?_)
  refine v_iload_n ok 1 dX5_paints_11 rfl rfl ?_
  refine v_iload_n ok 3 dX5_paints_12 rfl rfl ?_
  refine v_iast ok rfl dX5_paints_13 hf (fun h13 hf => ?_)
  refine v_iconst ok 0 dX5_paints_14 rfl ?_
  refine v_istore ok dX5_paints_15 (by decide) ?_
  exact W_X5_paints_17 ok hr hd hf hk ⟨rfl, rfl, rfl, rfl, rfl, trivial⟩
theorem M_X5_paints {G : GT} {l : Launch} (hG : Glob G) {d : Nat} (hd : 8 ≤ d) {a0 : Nat} {x1 : Int32} {x2 : Int32} {x3 : Int32} {h : AH} {h' : AH} (hf : X5_paints a0 x1 x2 x3 h = some h') : MM G l yX5_paints cX5_paints 5 none d [vr (some a0), vi x1, vi x2, vi x3] h none h' := by
  refine mm_of hG (plainFor_of_name (by decide)) (Nat.le_of_ble_eq_true rfl) (fun X hX ok hr hnm => ?_)
  subst hX
  exact W_X5_paints ok hr hd hf rfl ⟨rfl, rfl, rfl, rfl, trivial⟩
theorem cw_X5_begins : CW yX5_begins cX5_begins 2 none 0 := ⟨q1290, q183, ⟨by decide, by decide⟩, by decide +kernel, by decide⟩
def pkX5_begins_12 (G : GT) (X : CX) (h0 : AH) (Q : State → Prop) (a0 : Nat) (o : ((Int32 × AH) ⊕ (AH))) : Prop := match o with
  | .inl s => ∀ lv : List (Nat × AV), lle lv [(0, vr (some a0)), (1, vi s.1)] → V G X 2 h0 Q s.2 12 lv []
  | .inr z => Q = QM G X h0 none z
theorem W_X5_begins_12b {G : GT} {X : CX} {d : Nat} {h0 : AH} {Q : State → Prop} (ok : Ok G X RX5 cX5_begins 2 d h0) (hr : (cxm X).sig.returnType = none) (hd : 9 ≤ d) {a0 : Nat} {x1 : Int32} {h : AH} {z : ((Int32 × AH) ⊕ (AH))} (hf : X5_begins_12b  a0 x1 h = some z) (hk : pkX5_begins_12 G X h0 Q a0 z) {lv : List (Nat × AV)} (hl : lle lv [(0, vr (some a0)), (1, vi x1)]) : V G X 2 h0 Q h 12 lv [] := by
  refine V.sub hl ?_
  unfold X5_begins_12b at hf
  refine v_iload_n ok 1 dX5_begins_12 rfl rfl ?_
  refine v_aload_n ok 0 dX5_begins_13 rfl rfl ?_
  refine v_gR ok fl_X5_3 (by first | exact Or.inl ⟨_, rfl⟩ | exact Or.inr ⟨_, rfl⟩) dX5_begins_14 hf (fun v1 hf => ?_)
  refine v_cVNi ok (RX0, TX0, 18) cf_0.1 [] (F := fun a => X0_boards a h) (fun a v h1 _ hv => M_X0_boards ok.2.2.2.2.2.2.1 (d := 2) (Nat.le_refl _) hv) (by exact Nat.le_trans (by decide) hd) cw_X0_boards q1291 q1293 qs34 dX5_begins_17 [vi x1] rfl (Nat.le_of_ble_eq_true rfl) hf (fun v2 h3 hf => ?_)
  refine v_icmp_ge ok 78 dX5_begins_20 rfl hf (fun hf => ?_) (fun hf => ?_)
  ·
    exact v_vret ok hr (by cases hf; exact hk) dX5_begins_78
  ·
    refine v_aload_n ok 0 dX5_begins_23 rfl rfl ?_
    refine v_iload_n ok 1 dX5_begins_24 rfl rfl ?_
    refine v_aload_n ok 0 dX5_begins_25 rfl rfl ?_
    refine v_gR ok fl_X5_3 (by first | exact Or.inl ⟨_, rfl⟩ | exact Or.inr ⟨_, rfl⟩) dX5_begins_26 hf (fun v4 hf => ?_)
    refine v_gRN ok fl_X5_44 (by first | exact Or.inl ⟨_, rfl⟩ | exact Or.inr ⟨_, rfl⟩) dX5_begins_29 hf (fun v5 hf => ?_)
    refine v_gRN ok fl_X5_48 (by first | exact Or.inl ⟨_, rfl⟩ | exact Or.inr ⟨_, rfl⟩) dX5_begins_32 hf (fun v6 hf => ?_)
    refine v_iload_n ok 1 dX5_begins_35 rfl rfl ?_
    refine v_cFr ok (RJ2, TJ2, 3) cf_23.1 [vi x1] (F := fun a => J2_get a x1 h3) (fun a v h1 _ hv => M_J2_get ok.2.2.2.2.2.2.1 (d := 3) (Nat.le_refl _) hv) (by exact Nat.le_trans (by decide) hd) cw_J2_get q1298 q907 cwf_J2_get dX5_begins_36 [vi x1, vr (some a0)] rfl (Nat.le_of_ble_eq_true rfl) hf (fun v7 h8 hf => ?_)
    refine v_cast_ ok ck_TurnedBoards_Board q1299 dX5_begins_41 hf (fun hf => ?_)
    refine v_gIN ok fl_X5_61 (fun _ _ _ => rfl) dX5_begins_44 hf (fun v9 hf => ?_)
    refine v_aload_n ok 0 dX5_begins_47 rfl rfl ?_
    refine v_gR ok fl_X5_3 (by first | exact Or.inl ⟨_, rfl⟩ | exact Or.inr ⟨_, rfl⟩) dX5_begins_48 hf (fun v10 hf => ?_)
    refine v_gRN ok fl_X5_44 (by first | exact Or.inl ⟨_, rfl⟩ | exact Or.inr ⟨_, rfl⟩) dX5_begins_51 hf (fun v11 hf => ?_)
    refine v_gRN ok fl_X5_48 (by first | exact Or.inl ⟨_, rfl⟩ | exact Or.inr ⟨_, rfl⟩) dX5_begins_54 hf (fun v12 hf => ?_)
    refine v_iload_n ok 1 dX5_begins_57 rfl rfl ?_
    refine v_cFr ok (RJ2, TJ2, 3) cf_23.1 [vi x1] (F := fun a => J2_get a x1 h8) (fun a v h1 _ hv => M_J2_get ok.2.2.2.2.2.2.1 (d := 3) (Nat.le_refl _) hv) (by exact Nat.le_trans (by decide) hd) cw_J2_get q1298 q907 cwf_J2_get dX5_begins_58 [vi v9, vi x1, vr (some a0)] rfl (Nat.le_of_ble_eq_true rfl) hf (fun v13 h14 hf => ?_)
    refine v_cast_ ok ck_TurnedBoards_Board q1299 dX5_begins_63 hf (fun hf => ?_)
    refine v_gIN ok fl_X5_63 (fun _ _ _ => rfl) dX5_begins_66 hf (fun v15 hf => ?_)
    refine v_cVv ok (RX5, TX5, 10) cf_5.1 [vi x1, vi v9, vi v15] (F := fun a => X5_paints a x1 v9 v15 h14) (fun a h1 _ hv => M_X5_paints ok.2.2.2.2.2.2.1 (d := 8) (Nat.le_refl _) hv) (by exact Nat.le_trans (by decide) hd) cw_X5_paints q1300 q1301 q1302 dX5_begins_69 [] rfl (Nat.le_of_ble_eq_true rfl) hf (fun h16 hf => ?_)
    refine v_iinc ok x1 (x1 + 1) dX5_begins_72 rfl rfl (by decide) ?_
    refine v_goto ok 12 dX5_begins_75 rfl ?_
    cases hf; exact hk _ ⟨rfl, rfl, trivial⟩
theorem W_X5_begins_12 {G : GT} {X : CX} {d : Nat} {h0 : AH} {Q : State → Prop} (ok : Ok G X RX5 cX5_begins 2 d h0) (hr : (cxm X).sig.returnType = none) (hd : 9 ≤ d) {a0 : Nat} {x1 : Int32} {h : AH} {z : (AH)} (hf : X5_begins_12  a0 x1 h = some z) (hk : Q = QM G X h0 none z) {lv : List (Nat × AV)} (hl : lle lv [(0, vr (some a0)), (1, vi x1)]) : V G X 2 h0 Q h 12 lv [] := by
  unfold X5_begins_12 at hf
  exact loopC_walk (Wh := fun s : Int32 × AH => ∀ lv : List (Nat × AV), lle lv [(0, vr (some a0)), (1, vi s.1)] → V G X 2 h0 Q s.2 12 lv []) (PK := fun z => Q = QM G X h0 none z) (fun s o hf hk lv hl => W_X5_begins_12b ok hr hd hf (by cases o <;> exact hk) hl) _ z hf hk lv hl
theorem W_X5_begins {G : GT} {X : CX} {d : Nat} {h0 : AH} {Q : State → Prop} (ok : Ok G X RX5 cX5_begins 2 d h0) (hr : (cxm X).sig.returnType = none) (hd : 9 ≤ d) {a0 : Nat} {h : AH} {z : (AH)} (hf : X5_begins a0 h = some z) (hk : Q = QM G X h0 none z) {lv : List (Nat × AV)} (hl : lle lv [(0, vr (some a0))]) : V G X 2 h0 Q h 0 lv [] := by
  refine V.sub hl ?_
  unfold X5_begins at hf
  refine v_aload_n ok 0 dX5_begins_0 rfl rfl ?_
  refine v_iconst ok 0 dX5_begins_1 rfl ?_
  refine v_pI ok fl_X5_33 ⟨fun _ _ _ => rfl, rfl⟩ (FN.of cf_5.1 rfl) dX5_begins_2 hf (fun h17 hf => ?_)
  refine v_aload_n ok 0 dX5_begins_5 rfl rfl ?_
  refine v_iconst ok 0 dX5_begins_6 rfl ?_
  refine v_pI ok fl_X5_37 ⟨fun _ _ _ => rfl, rfl⟩ (FN.of cf_5.1 rfl) dX5_begins_7 hf (fun h18 hf => ?_)
  refine v_iconst ok 0 dX5_begins_10 rfl ?_
  refine v_istore_n ok 1 dX5_begins_11 rfl (by decide) ?_
  exact W_X5_begins_12 ok hr hd hf hk ⟨rfl, rfl, trivial⟩
theorem M_X5_begins {G : GT} {l : Launch} (hG : Glob G) {d : Nat} (hd : 9 ≤ d) {a0 : Nat} {h : AH} {h' : AH} (hf : X5_begins a0 h = some h') : MM G l yX5_begins cX5_begins 2 none d [vr (some a0)] h none h' := by
  refine mm_of hG (plainFor_of_name (by decide)) (Nat.le_of_ble_eq_true rfl) (fun X hX ok hr hnm => ?_)
  subst hX
  exact W_X5_begins ok hr hd hf rfl ⟨rfl, trivial⟩
theorem cw_X0_has : CW yX0_has cX0_has 2 (Option.some Jvm.ClassFile.FieldType.boolean) 2 := ⟨q1122, q168, ⟨by decide, by decide⟩, by decide +kernel, by decide⟩
theorem W_X0_has {G : GT} {X : CX} {d : Nat} {h0 : AH} {Q : State → Prop} (ok : Ok G X RX0 cX0_has 2 d h0) (hr : (cxm X).sig.returnType = (Option.some Jvm.ClassFile.FieldType.boolean)) (hd : 1 ≤ d) {x0 : Int32} {x1 : Int32} {h : AH} {z : (Int32 × AH)} (hf : X0_has x0 x1 h = some z) (hk : Q = QM G X h0 (some (vi z.1)) z.2) {lv : List (Nat × AV)} (hl : lle lv [(0, vi x0), (1, vi x1)]) : V G X 2 h0 Q h 0 lv [] := by
  refine V.sub hl ?_
  unfold X0_has at hf
  refine v_iload_n ok 0 dX0_has_0 rfl rfl ?_
  refine v_iload_n ok 1 dX0_has_1 rfl rfl ?_
  refine v_ishr ok dX0_has_2 ?_
  refine v_iconst ok 1 dX0_has_3 rfl ?_
  refine v_iand ok dX0_has_4 ?_
  refine v_iconst ok 1 dX0_has_5 rfl ?_
  refine v_icmp_ne ok 13 dX0_has_6 rfl hf (fun hf => ?_) (fun hf => ?_)
  ·
    refine v_iconst ok 0 dX0_has_13 rfl ?_
    exact v_zretL ok hr (by decide) (by decide) (by cases hf; exact hk) dX0_has_14
  ·
    refine v_iconst ok 1 dX0_has_9 rfl ?_
    refine v_goto ok 14 dX0_has_10 rfl ?_
    exact v_zretL ok hr (by decide) (by decide) (by cases hf; exact hk) dX0_has_14
theorem M_X0_has {G : GT} {l : Launch} (hG : Glob G) {d : Nat} (hd : 1 ≤ d) {x0 : Int32} {x1 : Int32} {h : AH} {v : Int32} {h' : AH} (hf : X0_has x0 x1 h = some (v, h')) : MM G l yX0_has cX0_has 2 (Option.some Jvm.ClassFile.FieldType.boolean) d [vi x0, vi x1] h (some (vi v)) h' := by
  refine mm_of hG (plainFor_of_name (by decide)) (Nat.le_of_ble_eq_true rfl) (fun X hX ok hr hnm => ?_)
  subst hX
  exact W_X0_has ok hr hd hf rfl ⟨rfl, rfl, trivial⟩
theorem cw_X0_fault : CW yX0_fault cX0_fault 2 (Option.some Jvm.ClassFile.FieldType.int) 1 := ⟨q1317, q168, ⟨by decide, by decide⟩, by decide +kernel, by decide⟩
theorem W_X0_fault {G : GT} {X : CX} {d : Nat} {h0 : AH} {Q : State → Prop} (ok : Ok G X RX0 cX0_fault 2 d h0) (hr : (cxm X).sig.returnType = (Option.some Jvm.ClassFile.FieldType.int)) (hd : 1 ≤ d) {a0 : Nat} {x1 : Int32} {h : AH} {z : (Int32 × AH)} (hf : X0_fault a0 x1 h = some z) (hk : Q = QM G X h0 (some (vi z.1)) z.2) {lv : List (Nat × AV)} (hl : lle lv [(0, vr (some a0)), (1, vi x1)]) : V G X 2 h0 Q h 0 lv [] := by
  refine V.sub hl ?_
  unfold X0_fault at hf
  refine v_iload_n ok 1 dX0_fault_0 rfl rfl ?_
  refine v_if_ne ok 11 dX0_fault_1 rfl hf (fun hf => ?_) (fun hf => ?_)
  ·
    refine v_iload_n ok 1 dX0_fault_11 rfl rfl ?_
    refine v_iconst ok 1 dX0_fault_12 rfl ?_
    refine v_icmp_ne ok 23 dX0_fault_13 rfl hf (fun hf => ?_) (fun hf => ?_)
    ·
      refine v_iconst ok (-1) dX0_fault_23 rfl ?_
      exact v_iret ok hr (by cases hf; exact hk) dX0_fault_24
    ·
      refine v_aload_n ok 0 dX0_fault_16 rfl rfl ?_
      refine v_gI ok fl_X0_39 (fun _ _ _ => rfl) dX0_fault_17 hf (fun v1 hf => ?_)
      refine v_goto ok 24 dX0_fault_20 rfl ?_
      exact v_iret ok hr (by cases hf; exact hk) dX0_fault_24
  ·
    refine v_aload_n ok 0 dX0_fault_4 rfl rfl ?_
    refine v_gI ok fl_X0_105 (fun _ _ _ => rfl) dX0_fault_5 hf (fun v2 hf => ?_)
    refine v_goto ok 24 dX0_fault_8 rfl ?_
    exact v_iret ok hr (by cases hf; exact hk) dX0_fault_24
theorem M_X0_fault {G : GT} {l : Launch} (hG : Glob G) {d : Nat} (hd : 1 ≤ d) {a0 : Nat} {x1 : Int32} {h : AH} {v : Int32} {h' : AH} (hf : X0_fault a0 x1 h = some (v, h')) : MM G l yX0_fault cX0_fault 2 (Option.some Jvm.ClassFile.FieldType.int) d [vr (some a0), vi x1] h (some (vi v)) h' := by
  refine mm_of hG (plainFor_of_name (by decide)) (Nat.le_of_ble_eq_true rfl) (fun X hX ok hr hnm => ?_)
  subst hX
  exact W_X0_fault ok hr hd hf rfl ⟨rfl, rfl, trivial⟩
theorem cw_X0_letters : CW yX0_letters cX0_letters 2 (Option.some Jvm.ClassFile.FieldType.int) 1 := ⟨q1325, q168, ⟨by decide, by decide⟩, by decide +kernel, by decide⟩
theorem W_X0_letters {G : GT} {X : CX} {d : Nat} {h0 : AH} {Q : State → Prop} (ok : Ok G X RX0 cX0_letters 2 d h0) (hr : (cxm X).sig.returnType = (Option.some Jvm.ClassFile.FieldType.int)) (hd : 4 ≤ d) {a0 : Nat} {x1 : Int32} {h : AH} {z : (Int32 × AH)} (hf : X0_letters a0 x1 h = some z) (hk : Q = QM G X h0 (some (vi z.1)) z.2) {lv : List (Nat × AV)} (hl : lle lv [(0, vr (some a0)), (1, vi x1)]) : V G X 2 h0 Q h 0 lv [] := by
  refine V.sub hl ?_
  unfold X0_letters at hf
  refine v_aload_n ok 0 dX0_letters_0 rfl rfl ?_
  refine v_gR ok fl_X0_31 (by first | exact Or.inl ⟨_, rfl⟩ | exact Or.inr ⟨_, rfl⟩) dX0_letters_1 hf (fun v1 hf => ?_)
  refine v_gRN ok fl_X0_153 (by first | exact Or.inl ⟨_, rfl⟩ | exact Or.inr ⟨_, rfl⟩) dX0_letters_4 hf (fun v2 hf => ?_)
  refine v_iload_n ok 1 dX0_letters_7 rfl rfl ?_
  refine v_cFr ok (RJ2, TJ2, 3) cf_23.1 [vi x1] (F := fun a => J2_get a x1 h) (fun a v h1 _ hv => M_J2_get ok.2.2.2.2.2.2.1 (d := 3) (Nat.le_refl _) hv) (by exact Nat.le_trans (by decide) hd) cw_J2_get q1327 q907 cwf_J2_get dX0_letters_8 [] rfl (Nat.le_of_ble_eq_true rfl) hf (fun v3 h4 hf => ?_)
  refine v_cast_ ok ck_java_util_List q1328 dX0_letters_13 hf (fun hf => ?_)
  refine v_cFi ok (RJ2, TJ2, 3) cf_23.1 [] (F := fun a => J2_size a h4) (fun a v h1 _ hv => M_J2_size ok.2.2.2.2.2.2.1 (d := 1) (Nat.le_refl _) hv) (by exact Nat.le_trans (by decide) hd) cw_J2_size q1296 q925 cwf_J2_size dX0_letters_16 [] rfl (Nat.le_of_ble_eq_true rfl) hf (fun v5 h6 hf => ?_)
  exact v_iret ok hr (by cases hf; exact hk) dX0_letters_21
theorem M_X0_letters {G : GT} {l : Launch} (hG : Glob G) {d : Nat} (hd : 4 ≤ d) {a0 : Nat} {x1 : Int32} {h : AH} {v : Int32} {h' : AH} (hf : X0_letters a0 x1 h = some (v, h')) : MM G l yX0_letters cX0_letters 2 (Option.some Jvm.ClassFile.FieldType.int) d [vr (some a0), vi x1] h (some (vi v)) h' := by
  refine mm_of hG (plainFor_of_name (by decide)) (Nat.le_of_ble_eq_true rfl) (fun X hX ok hr hnm => ?_)
  subst hX
  exact W_X0_letters ok hr hd hf rfl ⟨rfl, rfl, trivial⟩
theorem cw_X0_words : CW yX0_words cX0_words 1 (Option.some Jvm.ClassFile.FieldType.int) 0 := ⟨q1332, q168, ⟨by decide, by decide⟩, by decide +kernel, by decide⟩
theorem W_X0_words {G : GT} {X : CX} {d : Nat} {h0 : AH} {Q : State → Prop} (ok : Ok G X RX0 cX0_words 1 d h0) (hr : (cxm X).sig.returnType = (Option.some Jvm.ClassFile.FieldType.int)) (hd : 2 ≤ d) {a0 : Nat} {h : AH} {z : (Int32 × AH)} (hf : X0_words a0 h = some z) (hk : Q = QM G X h0 (some (vi z.1)) z.2) {lv : List (Nat × AV)} (hl : lle lv [(0, vr (some a0))]) : V G X 1 h0 Q h 0 lv [] := by
  refine V.sub hl ?_
  unfold X0_words at hf
  refine v_aload_n ok 0 dX0_words_0 rfl rfl ?_
  refine v_gR ok fl_X0_31 (by first | exact Or.inl ⟨_, rfl⟩ | exact Or.inr ⟨_, rfl⟩) dX0_words_1 hf (fun v1 hf => ?_)
  refine v_gRN ok fl_X0_133 (by first | exact Or.inl ⟨_, rfl⟩ | exact Or.inr ⟨_, rfl⟩) dX0_words_4 hf (fun v2 hf => ?_)
  refine v_cFi ok (RJ2, TJ2, 3) cf_23.1 [] (F := fun a => J2_size a h) (fun a v h1 _ hv => M_J2_size ok.2.2.2.2.2.2.1 (d := 1) (Nat.le_refl _) hv) (by exact Nat.le_trans (by decide) hd) cw_J2_size q1296 q925 cwf_J2_size dX0_words_7 [] rfl (Nat.le_of_ble_eq_true rfl) hf (fun v3 h4 hf => ?_)
  exact v_iret ok hr (by cases hf; exact hk) dX0_words_12
theorem M_X0_words {G : GT} {l : Launch} (hG : Glob G) {d : Nat} (hd : 2 ≤ d) {a0 : Nat} {h : AH} {v : Int32} {h' : AH} (hf : X0_words a0 h = some (v, h')) : MM G l yX0_words cX0_words 1 (Option.some Jvm.ClassFile.FieldType.int) d [vr (some a0)] h (some (vi v)) h' := by
  refine mm_of hG (plainFor_of_name (by decide)) (Nat.le_of_ble_eq_true rfl) (fun X hX ok hr hnm => ?_)
  subst hX
  exact W_X0_words ok hr hd hf rfl ⟨rfl, trivial⟩
theorem cw_X5_strokes : CW yX5_strokes cX5_strokes 4 (Option.some Jvm.ClassFile.FieldType.int) 1 := ⟨q1337, q183, ⟨by decide, by decide⟩, by decide +kernel, by decide⟩
def pkX5_strokes_4 (G : GT) (X : CX) (h0 : AH) (Q : State → Prop) (a0 : Nat) (x1 : Int32) (o : ((Int32 × Int32 × AH) ⊕ (Int32 × AH))) : Prop := match o with
  | .inl s => ∀ lv : List (Nat × AV), lle lv [(0, vr (some a0)), (1, vi x1), (2, vi s.1), (3, vi s.2.1)] → V G X 4 h0 Q s.2.2 4 lv []
  | .inr z => Q = QM G X h0 (some (vi z.1)) z.2
theorem W_X5_strokes_4b {G : GT} {X : CX} {d : Nat} {h0 : AH} {Q : State → Prop} (ok : Ok G X RX5 cX5_strokes 4 d h0) (hr : (cxm X).sig.returnType = (Option.some Jvm.ClassFile.FieldType.int)) (hd : 2 ≤ d) {a0 : Nat} {x1 : Int32} {x2 : Int32} {x3 : Int32} {h : AH} {z : ((Int32 × Int32 × AH) ⊕ (Int32 × AH))} (hf : X5_strokes_4b  a0 x1 x2 x3 h = some z) (hk : pkX5_strokes_4 G X h0 Q a0 x1 z) {lv : List (Nat × AV)} (hl : lle lv [(0, vr (some a0)), (1, vi x1), (2, vi x2), (3, vi x3)]) : V G X 4 h0 Q h 4 lv [] := by
  refine V.sub hl ?_
  unfold X5_strokes_4b at hf
  refine v_iload_n ok 3 dX5_strokes_4 rfl rfl ?_
  refine v_bipush ok 6 dX5_strokes_5 rfl ?_
  refine v_icmp_ge ok 30 dX5_strokes_7 rfl hf (fun hf => ?_) (fun hf => ?_)
  ·
    refine v_iload_n ok 2 dX5_strokes_30 rfl rfl ?_
    exact v_iret ok hr (by cases hf; exact hk) dX5_strokes_31
  ·
    refine v_iload_n ok 2 dX5_strokes_10 rfl rfl ?_
    refine v_aload_n ok 0 dX5_strokes_11 rfl rfl ?_
    refine v_gR ok fl_X5_24 (by first | exact Or.inl ⟨_, rfl⟩ | exact Or.inr ⟨_, rfl⟩) dX5_strokes_12 hf (fun v1 hf => ?_)
    refine v_iload_n ok 1 dX5_strokes_15 rfl rfl ?_
    refine v_aald6 ok rfl dX5_strokes_16 hf (fun v2 hf => ?_)
    refine v_iload_n ok 3 dX5_strokes_17 rfl rfl ?_
    refine v_iald ok rfl dX5_strokes_18 hf (fun v3 hf => ?_)
    refine v_cSi ok [vi v3] (F := J16_bitCount v3 h) (fun v h1 hv => M_J16_bitCount ok.2.2.2.2.2.2.1 (d := 1) (Nat.le_refl _) hv) (by exact Nat.le_trans (by decide) hd) cw_J16_bitCount q1338 q1339 dX5_strokes_19 [vi x2] rfl (Nat.le_of_ble_eq_true rfl) hf (fun v4 h5 hf => ?_)
    refine v_iadd ok dX5_strokes_22 ?_
    refine v_istore_n ok 2 dX5_strokes_23 rfl (by decide) ?_
    refine v_iinc ok x3 (x3 + 1) dX5_strokes_24 rfl rfl (by decide) ?_
    refine v_goto ok 4 dX5_strokes_27 rfl ?_
    cases hf; exact hk _ ⟨rfl, rfl, rfl, rfl, trivial⟩
theorem W_X5_strokes_4 {G : GT} {X : CX} {d : Nat} {h0 : AH} {Q : State → Prop} (ok : Ok G X RX5 cX5_strokes 4 d h0) (hr : (cxm X).sig.returnType = (Option.some Jvm.ClassFile.FieldType.int)) (hd : 2 ≤ d) {a0 : Nat} {x1 : Int32} {x2 : Int32} {x3 : Int32} {h : AH} {z : (Int32 × AH)} (hf : X5_strokes_4  a0 x1 x2 x3 h = some z) (hk : Q = QM G X h0 (some (vi z.1)) z.2) {lv : List (Nat × AV)} (hl : lle lv [(0, vr (some a0)), (1, vi x1), (2, vi x2), (3, vi x3)]) : V G X 4 h0 Q h 4 lv [] := by
  unfold X5_strokes_4 at hf
  exact loopC_walk (Wh := fun s : Int32 × Int32 × AH => ∀ lv : List (Nat × AV), lle lv [(0, vr (some a0)), (1, vi x1), (2, vi s.1), (3, vi s.2.1)] → V G X 4 h0 Q s.2.2 4 lv []) (PK := fun z => Q = QM G X h0 (some (vi z.1)) z.2) (fun s o hf hk lv hl => W_X5_strokes_4b ok hr hd hf (by cases o <;> exact hk) hl) _ z hf hk lv hl
theorem W_X5_strokes {G : GT} {X : CX} {d : Nat} {h0 : AH} {Q : State → Prop} (ok : Ok G X RX5 cX5_strokes 4 d h0) (hr : (cxm X).sig.returnType = (Option.some Jvm.ClassFile.FieldType.int)) (hd : 2 ≤ d) {a0 : Nat} {x1 : Int32} {h : AH} {z : (Int32 × AH)} (hf : X5_strokes a0 x1 h = some z) (hk : Q = QM G X h0 (some (vi z.1)) z.2) {lv : List (Nat × AV)} (hl : lle lv [(0, vr (some a0)), (1, vi x1)]) : V G X 4 h0 Q h 0 lv [] := by
  refine V.sub hl ?_
  unfold X5_strokes at hf
  refine v_iconst ok 0 dX5_strokes_0 rfl ?_
  refine v_istore_n ok 2 dX5_strokes_1 rfl (by decide) ?_
  refine v_iconst ok 0 dX5_strokes_2 rfl ?_
  refine v_istore_n ok 3 dX5_strokes_3 rfl (by decide) ?_
  exact W_X5_strokes_4 ok hr hd hf hk ⟨rfl, rfl, rfl, rfl, trivial⟩
theorem M_X5_strokes {G : GT} {l : Launch} (hG : Glob G) {d : Nat} (hd : 2 ≤ d) {a0 : Nat} {x1 : Int32} {h : AH} {v : Int32} {h' : AH} (hf : X5_strokes a0 x1 h = some (v, h')) : MM G l yX5_strokes cX5_strokes 4 (Option.some Jvm.ClassFile.FieldType.int) d [vr (some a0), vi x1] h (some (vi v)) h' := by
  refine mm_of hG (plainFor_of_name (by decide)) (Nat.le_of_ble_eq_true rfl) (fun X hX ok hr hnm => ?_)
  subst hX
  exact W_X5_strokes ok hr hd hf rfl ⟨rfl, rfl, trivial⟩
theorem cw_X0_has_2 : CW yX0_has_2 cX0_has_2 4 (Option.some Jvm.ClassFile.FieldType.int) 1 := ⟨q1321, q168, ⟨by decide, by decide⟩, by decide +kernel, by decide⟩
def pkX0_has_2_74 (G : GT) (X : CX) (h0 : AH) (Q : State → Prop) (a0 : Nat) (o : ((Int32 × Int32 × AH) ⊕ (Int32 × AH))) : Prop := match o with
  | .inl s => ∀ lv : List (Nat × AV), lle lv [(0, vr (some a0)), (2, vi s.1), (3, vi s.2.1)] → V G X 4 h0 Q s.2.2 74 lv []
  | .inr z => Q = QM G X h0 (some (vi z.1)) z.2
theorem W_X0_has_2_48 {G : GT} {X : CX} {d : Nat} {h0 : AH} {Q : State → Prop} (ok : Ok G X RX0 cX0_has_2 4 d h0) (hr : (cxm X).sig.returnType = (Option.some Jvm.ClassFile.FieldType.int)) (hd : 5 ≤ d) {a0 : Nat} {x1 : Int32} {h : AH} {z : (Int32 × AH)} (hf : X0_has_2_48 a0 x1 h = some z) (hk : Q = QM G X h0 (some (vi z.1)) z.2) {lv : List (Nat × AV)} (hl : lle lv [(0, vr (some a0)), (1, vi x1)]) : V G X 4 h0 Q h 48 lv [] := by
  refine V.sub hl ?_
  unfold X0_has_2_48 at hf
  refine v_aload_n ok 0 dX0_has_2_48 rfl rfl ?_
  refine v_iload_n ok 1 dX0_has_2_49 rfl rfl ?_
  refine v_cVi ok (RX0, TX0, 18) cf_0.1 [vi x1] (F := fun a => X0_letters a x1 h) (fun a v h1 _ hv => M_X0_letters ok.2.2.2.2.2.2.1 (d := 4) (Nat.le_refl _) hv) (by exact Nat.le_trans (by decide) hd) cw_X0_letters q1322 q1324 qs35 dX0_has_2_50 [] rfl (Nat.le_of_ble_eq_true rfl) hf (fun v1 h2 hf => ?_)
  exact v_iret ok hr (by cases hf; exact hk) dX0_has_2_53
theorem W_X0_has_2_74b {G : GT} {X : CX} {d : Nat} {h0 : AH} {Q : State → Prop} (ok : Ok G X RX0 cX0_has_2 4 d h0) (hr : (cxm X).sig.returnType = (Option.some Jvm.ClassFile.FieldType.int)) (hd : 5 ≤ d) {a0 : Nat} {x2 : Int32} {x3 : Int32} {h : AH} {z : ((Int32 × Int32 × AH) ⊕ (Int32 × AH))} (hf : X0_has_2_74b  a0 x2 x3 h = some z) (hk : pkX0_has_2_74 G X h0 Q a0 z) {lv : List (Nat × AV)} (hl : lle lv [(0, vr (some a0)), (2, vi x2), (3, vi x3)]) : V G X 4 h0 Q h 74 lv [] := by
  refine V.sub hl ?_
  unfold X0_has_2_74b at hf
  refine v_iload_n ok 3 dX0_has_2_74 rfl rfl ?_
  refine v_aload_n ok 0 dX0_has_2_75 rfl rfl ?_
  refine v_cVi ok (RX0, TX0, 18) cf_0.1 [] (F := fun a => X0_boards a h) (fun a v h1 _ hv => M_X0_boards ok.2.2.2.2.2.2.1 (d := 2) (Nat.le_refl _) hv) (by exact Nat.le_trans (by decide) hd) cw_X0_boards q1333 q1293 qs34 dX0_has_2_76 [vi x3] rfl (Nat.le_of_ble_eq_true rfl) hf (fun v3 h4 hf => ?_)
  refine v_icmp_ge ok 99 dX0_has_2_79 rfl hf (fun hf => ?_) (fun hf => ?_)
  ·
    refine v_iload_n ok 2 dX0_has_2_99 rfl rfl ?_
    exact v_iret ok hr (by cases hf; exact hk) dX0_has_2_100
  ·
    refine v_iload_n ok 2 dX0_has_2_82 rfl rfl ?_
    refine v_aload_n ok 0 dX0_has_2_83 rfl rfl ?_
    refine v_gR ok fl_X0_69 (by first | exact Or.inl ⟨_, rfl⟩ | exact Or.inr ⟨_, rfl⟩) dX0_has_2_84 hf (fun v5 hf => ?_)
    refine v_iload_n ok 3 dX0_has_2_87 rfl rfl ?_
    refine v_cVi ok (RX5, TX5, 10) cf_5.1 [vi x3] (F := fun a => X5_strokes a x3 h4) (fun a v h1 _ hv => M_X5_strokes ok.2.2.2.2.2.2.1 (d := 2) (Nat.le_refl _) hv) (by exact Nat.le_trans (by decide) hd) cw_X5_strokes q1334 q1335 q1336 dX0_has_2_88 [vi x2] rfl (Nat.le_of_ble_eq_true rfl) hf (fun v6 h7 hf => ?_)
    refine v_iadd ok dX0_has_2_91 ?_
    refine v_istore_n ok 2 dX0_has_2_92 rfl (by decide) ?_
    refine v_iinc ok x3 (x3 + 1) dX0_has_2_93 rfl rfl (by decide) ?_
    refine v_goto ok 74 dX0_has_2_96 rfl ?_
    cases hf; exact hk _ ⟨rfl, rfl, rfl, trivial⟩
theorem W_X0_has_2_74 {G : GT} {X : CX} {d : Nat} {h0 : AH} {Q : State → Prop} (ok : Ok G X RX0 cX0_has_2 4 d h0) (hr : (cxm X).sig.returnType = (Option.some Jvm.ClassFile.FieldType.int)) (hd : 5 ≤ d) {a0 : Nat} {x2 : Int32} {x3 : Int32} {h : AH} {z : (Int32 × AH)} (hf : X0_has_2_74  a0 x2 x3 h = some z) (hk : Q = QM G X h0 (some (vi z.1)) z.2) {lv : List (Nat × AV)} (hl : lle lv [(0, vr (some a0)), (2, vi x2), (3, vi x3)]) : V G X 4 h0 Q h 74 lv [] := by
  unfold X0_has_2_74 at hf
  exact loopC_walk (Wh := fun s : Int32 × Int32 × AH => ∀ lv : List (Nat × AV), lle lv [(0, vr (some a0)), (2, vi s.1), (3, vi s.2.1)] → V G X 4 h0 Q s.2.2 74 lv []) (PK := fun z => Q = QM G X h0 (some (vi z.1)) z.2) (fun s o hf hk lv hl => W_X0_has_2_74b ok hr hd hf (by cases o <;> exact hk) hl) _ z hf hk lv hl
theorem W_X0_has_2 {G : GT} {X : CX} {d : Nat} {h0 : AH} {Q : State → Prop} (ok : Ok G X RX0 cX0_has_2 4 d h0) (hr : (cxm X).sig.returnType = (Option.some Jvm.ClassFile.FieldType.int)) (hd : 5 ≤ d) {a0 : Nat} {x1 : Int32} {h : AH} {z : (Int32 × AH)} (hf : X0_has_2 a0 x1 h = some z) (hk : Q = QM G X h0 (some (vi z.1)) z.2) {lv : List (Nat × AV)} (hl : lle lv [(0, vr (some a0)), (1, vi x1)]) : V G X 4 h0 Q h 0 lv [] := by
  refine V.sub hl ?_
  unfold X0_has_2 at hf
  refine v_iconst ok 0 dX0_has_2_0 rfl ?_
  refine v_istore_n ok 2 dX0_has_2_1 rfl (by decide) ?_
  refine v_iload_n ok 1 dX0_has_2_2 rfl rfl ?_
  refine sw_if (v := 0) hf (fun e_ hf => ?_) (fun n8 hf => ?_)
  ·
    refine v_tableIn ok 0 48 dX0_has_2_3 e_ (by decide) (by decide) rfl rfl ?_
    exact W_X0_has_2_48 ok hr hd hf hk ⟨rfl, rfl, trivial⟩
  ·
    refine sw_if (v := 1) hf (fun e_ hf => ?_) (fun n9 hf => ?_)
    ·
      refine v_tableIn ok 1 48 dX0_has_2_3 e_ (by decide) (by decide) rfl rfl ?_
      exact W_X0_has_2_48 ok hr hd hf hk ⟨rfl, rfl, trivial⟩
    ·
      refine sw_if (v := 2) hf (fun e_ hf => ?_) (fun n10 hf => ?_)
      ·
        refine v_tableIn ok 2 54 dX0_has_2_3 e_ (by decide) (by decide) rfl rfl ?_
        refine v_aload_n ok 0 dX0_has_2_54 rfl rfl ?_
        refine v_cVi ok (RX0, TX0, 18) cf_0.1 [] (F := fun a => X0_words a h) (fun a v h1 _ hv => M_X0_words ok.2.2.2.2.2.2.1 (d := 2) (Nat.le_refl _) hv) (by exact Nat.le_trans (by decide) hd) cw_X0_words q1329 q1331 qs36 dX0_has_2_55 [] rfl (Nat.le_of_ble_eq_true rfl) hf (fun v11 h12 hf => ?_)
        exact v_iret ok hr (by cases hf; exact hk) dX0_has_2_58
      ·
        refine sw_if (v := 3) hf (fun e_ hf => ?_) (fun n13 hf => ?_)
        ·
          refine v_tableIn ok 3 59 dX0_has_2_3 e_ (by decide) (by decide) rfl rfl ?_
          refine v_aload_n ok 0 dX0_has_2_59 rfl rfl ?_
          refine v_cVi ok (RX0, TX0, 18) cf_0.1 [] (F := fun a => X0_boards a h) (fun a v h1 _ hv => M_X0_boards ok.2.2.2.2.2.2.1 (d := 2) (Nat.le_refl _) hv) (by exact Nat.le_trans (by decide) hd) cw_X0_boards q1333 q1293 qs34 dX0_has_2_60 [] rfl (Nat.le_of_ble_eq_true rfl) hf (fun v14 h15 hf => ?_)
          exact v_iret ok hr (by cases hf; exact hk) dX0_has_2_63
        ·
          refine sw_if (v := 4) hf (fun e_ hf => ?_) (fun n16 hf => ?_)
          ·
            refine v_tableIn ok 4 64 dX0_has_2_3 e_ (by decide) (by decide) rfl rfl ?_
            refine v_aload_n ok 0 dX0_has_2_64 rfl rfl ?_
            refine v_gR ok fl_X0_69 (by first | exact Or.inl ⟨_, rfl⟩ | exact Or.inr ⟨_, rfl⟩) dX0_has_2_65 hf (fun v17 hf => ?_)
            refine v_gIN ok fl_X0_218 (fun _ _ _ => rfl) dX0_has_2_68 hf (fun v18 hf => ?_)
            exact v_iret ok hr (by cases hf; exact hk) dX0_has_2_71
          ·
            refine sw_if (v := 5) hf (fun e_ hf => ?_) (fun n19 hf => ?_)
            ·
              refine v_tableIn ok 5 72 dX0_has_2_3 e_ (by decide) (by decide) rfl rfl ?_
              refine v_iconst ok 0 dX0_has_2_72 rfl ?_
              refine v_istore_n ok 3 dX0_has_2_73 rfl (by decide) ?_
              exact W_X0_has_2_74 ok hr hd hf hk ⟨rfl, rfl, rfl, trivial⟩
            ·
              refine sw_if (v := 6) hf (fun e_ hf => ?_) (fun n20 hf => ?_)
              ·
                refine v_tableIn ok 6 101 dX0_has_2_3 e_ (by decide) (by decide) rfl rfl ?_
                refine v_aload_n ok 0 dX0_has_2_101 rfl rfl ?_
                refine v_gR ok fl_X0_69 (by first | exact Or.inl ⟨_, rfl⟩ | exact Or.inr ⟨_, rfl⟩) dX0_has_2_102 hf (fun v21 hf => ?_)
                refine v_gIN ok fl_X0_224 (fun _ _ _ => rfl) dX0_has_2_105 hf (fun v22 hf => ?_)
                exact v_iret ok hr (by cases hf; exact hk) dX0_has_2_108
              ·
                refine sw_if (v := 7) hf (fun e_ hf => ?_) (fun n23 hf => ?_)
                ·
                  refine v_tableIn ok 7 109 dX0_has_2_3 e_ (by decide) (by decide) rfl rfl ?_
                  refine v_aload_n ok 0 dX0_has_2_109 rfl rfl ?_
                  refine v_gI ok fl_X0_127 (fun _ _ _ => rfl) dX0_has_2_110 hf (fun v24 hf => ?_)
                  exact v_iret ok hr (by cases hf; exact hk) dX0_has_2_113
                ·
                  have n8 := ne_toI 0 (by decide) n8
                  have n9 := ne_toI 1 (by decide) n9
                  have n10 := ne_toI 2 (by decide) n10
                  have n13 := ne_toI 3 (by decide) n13
                  have n16 := ne_toI 4 (by decide) n16
                  have n19 := ne_toI 5 (by decide) n19
                  have n20 := ne_toI 6 (by decide) n20
                  have n23 := ne_toI 7 (by decide) n23
                  refine v_tableOut ok 114 dX0_has_2_3 (by omega) rfl ?_
                  refine v_iconst ok (-1) dX0_has_2_114 rfl ?_
                  exact v_iret ok hr (by cases hf; exact hk) dX0_has_2_115
theorem M_X0_has_2 {G : GT} {l : Launch} (hG : Glob G) {d : Nat} (hd : 5 ≤ d) {a0 : Nat} {x1 : Int32} {h : AH} {v : Int32} {h' : AH} (hf : X0_has_2 a0 x1 h = some (v, h')) : MM G l yX0_has_2 cX0_has_2 4 (Option.some Jvm.ClassFile.FieldType.int) d [vr (some a0), vi x1] h (some (vi v)) h' := by
  refine mm_of hG (plainFor_of_name (by decide)) (Nat.le_of_ble_eq_true rfl) (fun X hX ok hr hnm => ?_)
  subst hX
  exact W_X0_has_2 ok hr hd hf rfl ⟨rfl, rfl, trivial⟩
theorem cw_X0_isHand : CW yX0_isHand cX0_isHand 1 (Option.some Jvm.ClassFile.FieldType.boolean) 1 := ⟨q1354, q168, ⟨by decide, by decide⟩, by decide +kernel, by decide⟩
theorem W_X0_isHand {G : GT} {X : CX} {d : Nat} {h0 : AH} {Q : State → Prop} (ok : Ok G X RX0 cX0_isHand 1 d h0) (hr : (cxm X).sig.returnType = (Option.some Jvm.ClassFile.FieldType.boolean)) (hd : 2 ≤ d) {x0 : Int32} {h : AH} {z : (Int32 × AH)} (hf : X0_isHand x0 h = some z) (hk : Q = QM G X h0 (some (vi z.1)) z.2) {lv : List (Nat × AV)} (hl : lle lv [(0, vi x0)]) : V G X 1 h0 Q h 0 lv [] := by
  refine V.sub hl ?_
  unfold X0_isHand at hf
  refine v_iload_n ok 0 dX0_isHand_0 rfl rfl ?_
  refine v_iconst ok 0 dX0_isHand_1 rfl ?_
  refine v_iconst ok 1 dX0_isHand_2 rfl ?_
  refine v_cSi ok [vi x0, vi 0, vi 1] (F := X0_is x0 0 1 h) (fun v h1 hv => M_X0_is ok.2.2.2.2.2.2.1 (d := 1) (Nat.le_refl _) hv) (by exact Nat.le_trans (by decide) hd) cw_X0_is q1355 q899 dX0_isHand_3 [] rfl (Nat.le_of_ble_eq_true rfl) hf (fun v1 h2 hf => ?_)
  exact v_zret ok hr (by decide) hf (fun hf => by cases hf; exact hk) dX0_isHand_6
theorem M_X0_isHand {G : GT} {l : Launch} (hG : Glob G) {d : Nat} (hd : 2 ≤ d) {x0 : Int32} {h : AH} {v : Int32} {h' : AH} (hf : X0_isHand x0 h = some (v, h')) : MM G l yX0_isHand cX0_isHand 1 (Option.some Jvm.ClassFile.FieldType.boolean) d [vi x0] h (some (vi v)) h' := by
  refine mm_of hG (plainFor_of_name (by decide)) (Nat.le_of_ble_eq_true rfl) (fun X hX ok hr hnm => ?_)
  subst hX
  exact W_X0_isHand ok hr hd hf rfl ⟨rfl, trivial⟩
theorem cw_X0_isLetterOf : CW yX0_isLetterOf cX0_isLetterOf 3 (Option.some Jvm.ClassFile.FieldType.boolean) 2 := ⟨q1351, q168, ⟨by decide, by decide⟩, by decide +kernel, by decide⟩
theorem W_X0_isLetterOf {G : GT} {X : CX} {d : Nat} {h0 : AH} {Q : State → Prop} (ok : Ok G X RX0 cX0_isLetterOf 3 d h0) (hr : (cxm X).sig.returnType = (Option.some Jvm.ClassFile.FieldType.boolean)) (hd : 5 ≤ d) {a0 : Nat} {x1 : Int32} {x2 : Int32} {h : AH} {z : (Int32 × AH)} (hf : X0_isLetterOf a0 x1 x2 h = some z) (hk : Q = QM G X h0 (some (vi z.1)) z.2) {lv : List (Nat × AV)} (hl : lle lv [(0, vr (some a0)), (1, vi x1), (2, vi x2)]) : V G X 3 h0 Q h 0 lv [] := by
  refine V.sub hl ?_
  unfold X0_isLetterOf at hf
  refine v_iload_n ok 1 dX0_isLetterOf_0 rfl rfl ?_
  refine v_cSi ok [vi x1] (F := X0_isHand x1 h) (fun v h1 hv => M_X0_isHand ok.2.2.2.2.2.2.1 (d := 2) (Nat.le_refl _) hv) (by exact Nat.le_trans (by decide) hd) cw_X0_isHand q1352 q1353 dX0_isLetterOf_1 [] rfl (Nat.le_of_ble_eq_true rfl) hf (fun v1 h2 hf => ?_)
  refine v_if_eq ok 24 dX0_isLetterOf_4 rfl hf (fun hf => ?_) (fun hf => ?_)
  ·
    refine v_iconst ok 0 dX0_isLetterOf_24 rfl ?_
    exact v_zretL ok hr (by decide) (by decide) (by cases hf; exact hk) dX0_isLetterOf_25
  ·
    refine v_iload_n ok 2 dX0_isLetterOf_7 rfl rfl ?_
    refine v_if_lt ok 24 dX0_isLetterOf_8 rfl hf (fun hf => ?_) (fun hf => ?_)
    ·
      refine v_iconst ok 0 dX0_isLetterOf_24 rfl ?_
      exact v_zretL ok hr (by decide) (by decide) (by cases hf; exact hk) dX0_isLetterOf_25
    ·
      refine v_iload_n ok 2 dX0_isLetterOf_11 rfl rfl ?_
      refine v_aload_n ok 0 dX0_isLetterOf_12 rfl rfl ?_
      refine v_iload_n ok 1 dX0_isLetterOf_13 rfl rfl ?_
      refine v_cVi ok (RX0, TX0, 18) cf_0.1 [vi x1] (F := fun a => X0_letters a x1 h2) (fun a v h1 _ hv => M_X0_letters ok.2.2.2.2.2.2.1 (d := 4) (Nat.le_refl _) hv) (by exact Nat.le_trans (by decide) hd) cw_X0_letters q1322 q1324 qs35 dX0_isLetterOf_14 [vi x2] rfl (Nat.le_of_ble_eq_true rfl) hf (fun v3 h4 hf => ?_)
      refine v_icmp_ge ok 24 dX0_isLetterOf_17 rfl hf (fun hf => ?_) (fun hf => ?_)
      ·
        refine v_iconst ok 0 dX0_isLetterOf_24 rfl ?_
        exact v_zretL ok hr (by decide) (by decide) (by cases hf; exact hk) dX0_isLetterOf_25
      ·
        refine v_iconst ok 1 dX0_isLetterOf_20 rfl ?_
        refine v_goto ok 25 dX0_isLetterOf_21 rfl ?_
        exact v_zretL ok hr (by decide) (by decide) (by cases hf; exact hk) dX0_isLetterOf_25
theorem M_X0_isLetterOf {G : GT} {l : Launch} (hG : Glob G) {d : Nat} (hd : 5 ≤ d) {a0 : Nat} {x1 : Int32} {x2 : Int32} {h : AH} {v : Int32} {h' : AH} (hf : X0_isLetterOf a0 x1 x2 h = some (v, h')) : MM G l yX0_isLetterOf cX0_isLetterOf 3 (Option.some Jvm.ClassFile.FieldType.boolean) d [vr (some a0), vi x1, vi x2] h (some (vi v)) h' := by
  refine mm_of hG (plainFor_of_name (by decide)) (Nat.le_of_ble_eq_true rfl) (fun X hX ok hr hnm => ?_)
  subst hX
  exact W_X0_isLetterOf ok hr hd hf rfl ⟨rfl, rfl, rfl, trivial⟩
theorem cw_X0_letterOf : CW yX0_letterOf cX0_letterOf 3 (Option.some (Jvm.ClassFile.FieldType.object "TurnedBoards$Letter")) 2 := ⟨q1359, q168, ⟨by decide, by decide⟩, by decide +kernel, by decide⟩
theorem W_X0_letterOf {G : GT} {X : CX} {d : Nat} {h0 : AH} {Q : State → Prop} (ok : Ok G X RX0 cX0_letterOf 3 d h0) (hr : (cxm X).sig.returnType = (Option.some (Jvm.ClassFile.FieldType.object "TurnedBoards$Letter"))) (hd : 4 ≤ d) {a0 : Nat} {x1 : Int32} {x2 : Int32} {h : AH} {z : (Option Nat × AH)} (hf : X0_letterOf a0 x1 x2 h = some z) (hk : Q = QM G X h0 (some (vr z.1)) z.2) {lv : List (Nat × AV)} (hl : lle lv [(0, vr (some a0)), (1, vi x1), (2, vi x2)]) : V G X 3 h0 Q h 0 lv [] := by
  refine V.sub hl ?_
  unfold X0_letterOf at hf
  refine v_aload_n ok 0 dX0_letterOf_0 rfl rfl ?_
  refine v_gR ok fl_X0_31 (by first | exact Or.inl ⟨_, rfl⟩ | exact Or.inr ⟨_, rfl⟩) dX0_letterOf_1 hf (fun v1 hf => ?_)
  refine v_gRN ok fl_X0_153 (by first | exact Or.inl ⟨_, rfl⟩ | exact Or.inr ⟨_, rfl⟩) dX0_letterOf_4 hf (fun v2 hf => ?_)
  refine v_iload_n ok 1 dX0_letterOf_7 rfl rfl ?_
  refine v_cFr ok (RJ2, TJ2, 3) cf_23.1 [vi x1] (F := fun a => J2_get a x1 h) (fun a v h1 _ hv => M_J2_get ok.2.2.2.2.2.2.1 (d := 3) (Nat.le_refl _) hv) (by exact Nat.le_trans (by decide) hd) cw_J2_get q1327 q907 cwf_J2_get dX0_letterOf_8 [] rfl (Nat.le_of_ble_eq_true rfl) hf (fun v3 h4 hf => ?_)
  refine v_cast_ ok ck_java_util_List q1328 dX0_letterOf_13 hf (fun hf => ?_)
  refine v_iload_n ok 2 dX0_letterOf_16 rfl rfl ?_
  refine v_cFr ok (RJ2, TJ2, 3) cf_23.1 [vi x2] (F := fun a => J2_get a x2 h4) (fun a v h1 _ hv => M_J2_get ok.2.2.2.2.2.2.1 (d := 3) (Nat.le_refl _) hv) (by exact Nat.le_trans (by decide) hd) cw_J2_get q1327 q907 cwf_J2_get dX0_letterOf_17 [] rfl (Nat.le_of_ble_eq_true rfl) hf (fun v5 h6 hf => ?_)
  refine v_cast_ ok ck_TurnedBoards_Letter q1360 dX0_letterOf_22 hf (fun hf => ?_)
  exact v_aret ok hr (by first | exact Or.inl ⟨_, rfl⟩ | exact Or.inr ⟨_, rfl⟩) (by cases hf; exact hk) dX0_letterOf_25
theorem M_X0_letterOf {G : GT} {l : Launch} (hG : Glob G) {d : Nat} (hd : 4 ≤ d) {a0 : Nat} {x1 : Int32} {x2 : Int32} {h : AH} {v : Option Nat} {h' : AH} (hf : X0_letterOf a0 x1 x2 h = some (v, h')) : MM G l yX0_letterOf cX0_letterOf 3 (Option.some (Jvm.ClassFile.FieldType.object "TurnedBoards$Letter")) d [vr (some a0), vi x1, vi x2] h (some (vr v)) h' := by
  refine mm_of hG (plainFor_of_name (by decide)) (Nat.le_of_ble_eq_true rfl) (fun X hX ok hr hnm => ?_)
  subst hX
  exact W_X0_letterOf ok hr hd hf rfl ⟨rfl, rfl, rfl, trivial⟩
theorem cw_X8_ink : CW yX8_ink cX8_ink 1 (Option.some Jvm.ClassFile.FieldType.int) 0 := ⟨q1364, q191, ⟨by decide, by decide⟩, by decide +kernel, by decide⟩
theorem W_X8_ink {G : GT} {X : CX} {d : Nat} {h0 : AH} {Q : State → Prop} (ok : Ok G X RX8 cX8_ink 1 d h0) (hr : (cxm X).sig.returnType = (Option.some Jvm.ClassFile.FieldType.int)) (hd : 2 ≤ d) {a0 : Nat} {h : AH} {z : (Int32 × AH)} (hf : X8_ink a0 h = some z) (hk : Q = QM G X h0 (some (vi z.1)) z.2) {lv : List (Nat × AV)} (hl : lle lv [(0, vr (some a0))]) : V G X 1 h0 Q h 0 lv [] := by
  refine V.sub hl ?_
  unfold X8_ink at hf
  refine v_aload_n ok 0 dX8_ink_0 rfl rfl ?_
  refine v_gI ok fl_X8_13 (fun _ _ _ => rfl) dX8_ink_1 hf (fun v1 hf => ?_)
  refine v_cSi ok [vi v1] (F := J16_bitCount v1 h) (fun v h1 hv => M_J16_bitCount ok.2.2.2.2.2.2.1 (d := 1) (Nat.le_refl _) hv) (by exact Nat.le_trans (by decide) hd) cw_J16_bitCount q1365 q1339 dX8_ink_4 [] rfl (Nat.le_of_ble_eq_true rfl) hf (fun v2 h3 hf => ?_)
  exact v_iret ok hr (by cases hf; exact hk) dX8_ink_7
theorem M_X8_ink {G : GT} {l : Launch} (hG : Glob G) {d : Nat} (hd : 2 ≤ d) {a0 : Nat} {h : AH} {v : Int32} {h' : AH} (hf : X8_ink a0 h = some (v, h')) : MM G l yX8_ink cX8_ink 1 (Option.some Jvm.ClassFile.FieldType.int) d [vr (some a0)] h (some (vi v)) h' := by
  refine mm_of hG (plainFor_of_name (by decide)) (Nat.le_of_ble_eq_true rfl) (fun X hX ok hr hnm => ?_)
  subst hX
  exact W_X8_ink ok hr hd hf rfl ⟨rfl, trivial⟩
theorem cw_X0_letter : CW yX0_letter cX0_letter 5 (Option.some Jvm.ClassFile.FieldType.int) 3 := ⟨q1347, q168, ⟨by decide, by decide⟩, by decide +kernel, by decide⟩
theorem W_X0_letter {G : GT} {X : CX} {d : Nat} {h0 : AH} {Q : State → Prop} (ok : Ok G X RX0 cX0_letter 5 d h0) (hr : (cxm X).sig.returnType = (Option.some Jvm.ClassFile.FieldType.int)) (hd : 6 ≤ d) {a0 : Nat} {x1 : Int32} {x2 : Int32} {x3 : Int32} {h : AH} {z : (Int32 × AH)} (hf : X0_letter a0 x1 x2 x3 h = some z) (hk : Q = QM G X h0 (some (vi z.1)) z.2) {lv : List (Nat × AV)} (hl : lle lv [(0, vr (some a0)), (1, vi x1), (2, vi x2), (3, vi x3)]) : V G X 5 h0 Q h 0 lv [] := by
  refine V.sub hl ?_
  unfold X0_letter at hf
  refine v_aload_n ok 0 dX0_letter_0 rfl rfl ?_
  refine v_iload_n ok 1 dX0_letter_1 rfl rfl ?_
  refine v_iload_n ok 2 dX0_letter_2 rfl rfl ?_
  refine v_cVi ok (RX0, TX0, 18) cf_0.1 [vi x1, vi x2] (F := fun a => X0_isLetterOf a x1 x2 h) (fun a v h1 _ hv => M_X0_isLetterOf ok.2.2.2.2.2.2.1 (d := 5) (Nat.le_refl _) hv) (by exact Nat.le_trans (by decide) hd) cw_X0_isLetterOf q1348 q1350 qs37 dX0_letter_3 [] rfl (Nat.le_of_ble_eq_true rfl) hf (fun v1 h2 hf => ?_)
  refine v_if_ne ok 11 dX0_letter_6 rfl hf (fun hf => ?_) (fun hf => ?_)
  ·
    refine v_aload_n ok 0 dX0_letter_11 rfl rfl ?_
    refine v_iload_n ok 1 dX0_letter_12 rfl rfl ?_
    refine v_iload_n ok 2 dX0_letter_13 rfl rfl ?_
    refine v_cVr ok (RX0, TX0, 18) cf_0.1 [vi x1, vi x2] (F := fun a => X0_letterOf a x1 x2 h2) (fun a v h1 _ hv => M_X0_letterOf ok.2.2.2.2.2.2.1 (d := 4) (Nat.le_refl _) hv) (by exact Nat.le_trans (by decide) hd) cw_X0_letterOf q1356 q1358 qs38 dX0_letter_14 [] rfl (Nat.le_of_ble_eq_true rfl) hf (fun v3 h4 hf => ?_)
    refine v_astore ok dX0_letter_17 (by decide) ?_
    refine v_iload_n ok 3 dX0_letter_19 rfl rfl ?_
    refine v_if_ne ok 31 dX0_letter_20 rfl hf (fun hf => ?_) (fun hf => ?_)
    ·
      refine v_iload_n ok 3 dX0_letter_31 rfl rfl ?_
      refine v_iconst ok 1 dX0_letter_32 rfl ?_
      refine v_icmp_ne ok 44 dX0_letter_33 rfl hf (fun hf => ?_) (fun hf => ?_)
      ·
        refine v_iload_n ok 3 dX0_letter_44 rfl rfl ?_
        refine v_iconst ok 2 dX0_letter_45 rfl ?_
        refine v_icmp_ne ok 57 dX0_letter_46 rfl hf (fun hf => ?_) (fun hf => ?_)
        ·
          refine v_iconst ok (-1) dX0_letter_57 rfl ?_
          exact v_iret ok hr (by cases hf; exact hk) dX0_letter_58
        ·
          refine v_aload ok dX0_letter_49 rfl ?_
          refine v_cVi ok (RX8, TX8, 2) cf_8.1 [] (F := fun a => X8_ink a h4) (fun a v h1 _ hv => M_X8_ink ok.2.2.2.2.2.2.1 (d := 2) (Nat.le_refl _) hv) (by exact Nat.le_trans (by decide) hd) cw_X8_ink q1361 q1362 q1363 dX0_letter_51 [] rfl (Nat.le_of_ble_eq_true rfl) hf (fun v5 h6 hf => ?_)
          refine v_goto ok 58 dX0_letter_54 rfl ?_
          exact v_iret ok hr (by cases hf; exact hk) dX0_letter_58
      ·
        refine v_aload ok dX0_letter_36 rfl ?_
        refine v_gIN ok fl_X0_177 (fun _ _ _ => rfl) dX0_letter_38 hf (fun v7 hf => ?_)
        refine v_goto ok 58 dX0_letter_41 rfl ?_
        exact v_iret ok hr (by cases hf; exact hk) dX0_letter_58
    ·
      refine v_aload ok dX0_letter_23 rfl ?_
      refine v_gIN ok fl_X0_215 (fun _ _ _ => rfl) dX0_letter_25 hf (fun v8 hf => ?_)
      refine v_goto ok 58 dX0_letter_28 rfl ?_
      exact v_iret ok hr (by cases hf; exact hk) dX0_letter_58
  ·
    refine v_iconst ok (-1) dX0_letter_9 rfl ?_
    exact v_iret ok hr (by cases hf; exact hk) dX0_letter_10
theorem M_X0_letter {G : GT} {l : Launch} (hG : Glob G) {d : Nat} (hd : 6 ≤ d) {a0 : Nat} {x1 : Int32} {x2 : Int32} {x3 : Int32} {h : AH} {v : Int32} {h' : AH} (hf : X0_letter a0 x1 x2 x3 h = some (v, h')) : MM G l yX0_letter cX0_letter 5 (Option.some Jvm.ClassFile.FieldType.int) d [vr (some a0), vi x1, vi x2, vi x3] h (some (vi v)) h' := by
  refine mm_of hG (plainFor_of_name (by decide)) (Nat.le_of_ble_eq_true rfl) (fun X hX ok hr hnm => ?_)
  subst hX
  exact W_X0_letter ok hr hd hf rfl ⟨rfl, rfl, rfl, rfl, trivial⟩
theorem cw_X0_isWord : CW yX0_isWord cX0_isWord 2 (Option.some Jvm.ClassFile.FieldType.boolean) 1 := ⟨q1373, q168, ⟨by decide, by decide⟩, by decide +kernel, by decide⟩
theorem W_X0_isWord {G : GT} {X : CX} {d : Nat} {h0 : AH} {Q : State → Prop} (ok : Ok G X RX0 cX0_isWord 2 d h0) (hr : (cxm X).sig.returnType = (Option.some Jvm.ClassFile.FieldType.boolean)) (hd : 3 ≤ d) {a0 : Nat} {x1 : Int32} {h : AH} {z : (Int32 × AH)} (hf : X0_isWord a0 x1 h = some z) (hk : Q = QM G X h0 (some (vi z.1)) z.2) {lv : List (Nat × AV)} (hl : lle lv [(0, vr (some a0)), (1, vi x1)]) : V G X 2 h0 Q h 0 lv [] := by
  refine V.sub hl ?_
  unfold X0_isWord at hf
  refine v_iload_n ok 1 dX0_isWord_0 rfl rfl ?_
  refine v_if_lt ok 16 dX0_isWord_1 rfl hf (fun hf => ?_) (fun hf => ?_)
  ·
    refine v_iconst ok 0 dX0_isWord_16 rfl ?_
    exact v_zretL ok hr (by decide) (by decide) (by cases hf; exact hk) dX0_isWord_17
  ·
    refine v_iload_n ok 1 dX0_isWord_4 rfl rfl ?_
    refine v_aload_n ok 0 dX0_isWord_5 rfl rfl ?_
    refine v_cVi ok (RX0, TX0, 18) cf_0.1 [] (F := fun a => X0_words a h) (fun a v h1 _ hv => M_X0_words ok.2.2.2.2.2.2.1 (d := 2) (Nat.le_refl _) hv) (by exact Nat.le_trans (by decide) hd) cw_X0_words q1329 q1331 qs36 dX0_isWord_6 [vi x1] rfl (Nat.le_of_ble_eq_true rfl) hf (fun v1 h2 hf => ?_)
    refine v_icmp_ge ok 16 dX0_isWord_9 rfl hf (fun hf => ?_) (fun hf => ?_)
    ·
      refine v_iconst ok 0 dX0_isWord_16 rfl ?_
      exact v_zretL ok hr (by decide) (by decide) (by cases hf; exact hk) dX0_isWord_17
    ·
      refine v_iconst ok 1 dX0_isWord_12 rfl ?_
      refine v_goto ok 17 dX0_isWord_13 rfl ?_
      exact v_zretL ok hr (by decide) (by decide) (by cases hf; exact hk) dX0_isWord_17
theorem M_X0_isWord {G : GT} {l : Launch} (hG : Glob G) {d : Nat} (hd : 3 ≤ d) {a0 : Nat} {x1 : Int32} {h : AH} {v : Int32} {h' : AH} (hf : X0_isWord a0 x1 h = some (v, h')) : MM G l yX0_isWord cX0_isWord 2 (Option.some Jvm.ClassFile.FieldType.boolean) d [vr (some a0), vi x1] h (some (vi v)) h' := by
  refine mm_of hG (plainFor_of_name (by decide)) (Nat.le_of_ble_eq_true rfl) (fun X hX ok hr hnm => ?_)
  subst hX
  exact W_X0_isWord ok hr hd hf rfl ⟨rfl, rfl, trivial⟩
theorem cw_X0_word : CW yX0_word cX0_word 3 (Option.some Jvm.ClassFile.FieldType.int) 2 := ⟨q1369, q168, ⟨by decide, by decide⟩, by decide +kernel, by decide⟩
theorem W_X0_word {G : GT} {X : CX} {d : Nat} {h0 : AH} {Q : State → Prop} (ok : Ok G X RX0 cX0_word 3 d h0) (hr : (cxm X).sig.returnType = (Option.some Jvm.ClassFile.FieldType.int)) (hd : 7 ≤ d) {a0 : Nat} {x1 : Int32} {x2 : Int32} {h : AH} {z : (Int32 × AH)} (hf : X0_word a0 x1 x2 h = some z) (hk : Q = QM G X h0 (some (vi z.1)) z.2) {lv : List (Nat × AV)} (hl : lle lv [(0, vr (some a0)), (1, vi x1), (2, vi x2)]) : V G X 3 h0 Q h 0 lv [] := by
  refine V.sub hl ?_
  unfold X0_word at hf
  refine v_aload_n ok 0 dX0_word_0 rfl rfl ?_
  refine v_iload_n ok 1 dX0_word_1 rfl rfl ?_
  refine v_cVi ok (RX0, TX0, 18) cf_0.1 [vi x1] (F := fun a => X0_isWord a x1 h) (fun a v h1 _ hv => M_X0_isWord ok.2.2.2.2.2.2.1 (d := 3) (Nat.le_refl _) hv) (by exact Nat.le_trans (by decide) hd) cw_X0_isWord q1370 q1372 qs39 dX0_word_2 [] rfl (Nat.le_of_ble_eq_true rfl) hf (fun v1 h2 hf => ?_)
  refine v_if_eq ok 40 dX0_word_5 rfl hf (fun hf => ?_) (fun hf => ?_)
  ·
    refine v_iconst ok (-1) dX0_word_40 rfl ?_
    exact v_iret ok hr (by cases hf; exact hk) dX0_word_41
  ·
    refine v_iload_n ok 2 dX0_word_8 rfl rfl ?_
    refine v_iconst ok 0 dX0_word_9 rfl ?_
    refine v_iconst ok 5 dX0_word_10 rfl ?_
    refine v_cSi ok [vi x2, vi 0, vi 5] (F := X0_is x2 0 5 h2) (fun v h1 hv => M_X0_is ok.2.2.2.2.2.2.1 (d := 1) (Nat.le_refl _) hv) (by exact Nat.le_trans (by decide) hd) cw_X0_is q1355 q899 dX0_word_11 [] rfl (Nat.le_of_ble_eq_true rfl) hf (fun v3 h4 hf => ?_)
    refine v_if_eq ok 40 dX0_word_14 rfl hf (fun hf => ?_) (fun hf => ?_)
    ·
      refine v_iconst ok (-1) dX0_word_40 rfl ?_
      exact v_iret ok hr (by cases hf; exact hk) dX0_word_41
    ·
      refine v_aload_n ok 0 dX0_word_17 rfl rfl ?_
      refine v_gR ok fl_X0_31 (by first | exact Or.inl ⟨_, rfl⟩ | exact Or.inr ⟨_, rfl⟩) dX0_word_18 hf (fun v5 hf => ?_)
      refine v_gRN ok fl_X0_133 (by first | exact Or.inl ⟨_, rfl⟩ | exact Or.inr ⟨_, rfl⟩) dX0_word_21 hf (fun v6 hf => ?_)
      refine v_iload_n ok 1 dX0_word_24 rfl rfl ?_
      refine v_cFr ok (RJ2, TJ2, 3) cf_23.1 [vi x1] (F := fun a => J2_get a x1 h4) (fun a v h1 _ hv => M_J2_get ok.2.2.2.2.2.2.1 (d := 3) (Nat.le_refl _) hv) (by exact Nat.le_trans (by decide) hd) cw_J2_get q1327 q907 cwf_J2_get dX0_word_25 [] rfl (Nat.le_of_ble_eq_true rfl) hf (fun v7 h8 hf => ?_)
      refine v_cast_ ok ck_TurnedBoards_Word q1374 dX0_word_30 hf (fun hf => ?_)
      refine v_iload_n ok 2 dX0_word_33 rfl rfl ?_
      refine v_cVi ok (RX9, TX9, 1) cf_9.1 [vi x2] (F := fun a => X9_at a x2 h8) (fun a v h1 _ hv => M_X9_at ok.2.2.2.2.2.2.1 (d := 6) (Nat.le_refl _) hv) (by exact Nat.le_trans (by decide) hd) cw_X9_at q1375 q994 q995 dX0_word_34 [] rfl (Nat.le_of_ble_eq_true rfl) hf (fun v9 h10 hf => ?_)
      refine v_goto ok 41 dX0_word_37 rfl ?_
      exact v_iret ok hr (by cases hf; exact hk) dX0_word_41
theorem M_X0_word {G : GT} {l : Launch} (hG : Glob G) {d : Nat} (hd : 7 ≤ d) {a0 : Nat} {x1 : Int32} {x2 : Int32} {h : AH} {v : Int32} {h' : AH} (hf : X0_word a0 x1 x2 h = some (v, h')) : MM G l yX0_word cX0_word 3 (Option.some Jvm.ClassFile.FieldType.int) d [vr (some a0), vi x1, vi x2] h (some (vi v)) h' := by
  refine mm_of hG (plainFor_of_name (by decide)) (Nat.le_of_ble_eq_true rfl) (fun X hX ok hr hnm => ?_)
  subst hX
  exact W_X0_word ok hr hd hf rfl ⟨rfl, rfl, rfl, trivial⟩
theorem cw_X0_isBoard : CW yX0_isBoard cX0_isBoard 2 (Option.some Jvm.ClassFile.FieldType.boolean) 1 := ⟨q1383, q168, ⟨by decide, by decide⟩, by decide +kernel, by decide⟩
theorem W_X0_isBoard {G : GT} {X : CX} {d : Nat} {h0 : AH} {Q : State → Prop} (ok : Ok G X RX0 cX0_isBoard 2 d h0) (hr : (cxm X).sig.returnType = (Option.some Jvm.ClassFile.FieldType.boolean)) (hd : 3 ≤ d) {a0 : Nat} {x1 : Int32} {h : AH} {z : (Int32 × AH)} (hf : X0_isBoard a0 x1 h = some z) (hk : Q = QM G X h0 (some (vi z.1)) z.2) {lv : List (Nat × AV)} (hl : lle lv [(0, vr (some a0)), (1, vi x1)]) : V G X 2 h0 Q h 0 lv [] := by
  refine V.sub hl ?_
  unfold X0_isBoard at hf
  refine v_iload_n ok 1 dX0_isBoard_0 rfl rfl ?_
  refine v_if_lt ok 16 dX0_isBoard_1 rfl hf (fun hf => ?_) (fun hf => ?_)
  ·
    refine v_iconst ok 0 dX0_isBoard_16 rfl ?_
    exact v_zretL ok hr (by decide) (by decide) (by cases hf; exact hk) dX0_isBoard_17
  ·
    refine v_iload_n ok 1 dX0_isBoard_4 rfl rfl ?_
    refine v_aload_n ok 0 dX0_isBoard_5 rfl rfl ?_
    refine v_cVi ok (RX0, TX0, 18) cf_0.1 [] (F := fun a => X0_boards a h) (fun a v h1 _ hv => M_X0_boards ok.2.2.2.2.2.2.1 (d := 2) (Nat.le_refl _) hv) (by exact Nat.le_trans (by decide) hd) cw_X0_boards q1333 q1293 qs34 dX0_isBoard_6 [vi x1] rfl (Nat.le_of_ble_eq_true rfl) hf (fun v1 h2 hf => ?_)
    refine v_icmp_ge ok 16 dX0_isBoard_9 rfl hf (fun hf => ?_) (fun hf => ?_)
    ·
      refine v_iconst ok 0 dX0_isBoard_16 rfl ?_
      exact v_zretL ok hr (by decide) (by decide) (by cases hf; exact hk) dX0_isBoard_17
    ·
      refine v_iconst ok 1 dX0_isBoard_12 rfl ?_
      refine v_goto ok 17 dX0_isBoard_13 rfl ?_
      exact v_zretL ok hr (by decide) (by decide) (by cases hf; exact hk) dX0_isBoard_17
theorem M_X0_isBoard {G : GT} {l : Launch} (hG : Glob G) {d : Nat} (hd : 3 ≤ d) {a0 : Nat} {x1 : Int32} {h : AH} {v : Int32} {h' : AH} (hf : X0_isBoard a0 x1 h = some (v, h')) : MM G l yX0_isBoard cX0_isBoard 2 (Option.some Jvm.ClassFile.FieldType.boolean) d [vr (some a0), vi x1] h (some (vi v)) h' := by
  refine mm_of hG (plainFor_of_name (by decide)) (Nat.le_of_ble_eq_true rfl) (fun X hX ok hr hnm => ?_)
  subst hX
  exact W_X0_isBoard ok hr hd hf rfl ⟨rfl, rfl, trivial⟩
theorem cw_X0_board : CW yX0_board cX0_board 3 (Option.some Jvm.ClassFile.FieldType.int) 2 := ⟨q1379, q168, ⟨by decide, by decide⟩, by decide +kernel, by decide⟩
theorem W_X0_board {G : GT} {X : CX} {d : Nat} {h0 : AH} {Q : State → Prop} (ok : Ok G X RX0 cX0_board 3 d h0) (hr : (cxm X).sig.returnType = (Option.some Jvm.ClassFile.FieldType.int)) (hd : 5 ≤ d) {a0 : Nat} {x1 : Int32} {x2 : Int32} {h : AH} {z : (Int32 × AH)} (hf : X0_board a0 x1 x2 h = some z) (hk : Q = QM G X h0 (some (vi z.1)) z.2) {lv : List (Nat × AV)} (hl : lle lv [(0, vr (some a0)), (1, vi x1), (2, vi x2)]) : V G X 3 h0 Q h 0 lv [] := by
  refine V.sub hl ?_
  unfold X0_board at hf
  refine v_aload_n ok 0 dX0_board_0 rfl rfl ?_
  refine v_iload_n ok 1 dX0_board_1 rfl rfl ?_
  refine v_cVi ok (RX0, TX0, 18) cf_0.1 [vi x1] (F := fun a => X0_isBoard a x1 h) (fun a v h1 _ hv => M_X0_isBoard ok.2.2.2.2.2.2.1 (d := 3) (Nat.le_refl _) hv) (by exact Nat.le_trans (by decide) hd) cw_X0_isBoard q1380 q1382 qs40 dX0_board_2 [] rfl (Nat.le_of_ble_eq_true rfl) hf (fun v1 h2 hf => ?_)
  refine v_if_ne ok 12 dX0_board_5 rfl hf (fun hf => ?_) (fun hf => ?_)
  ·
    refine v_iload_n ok 2 dX0_board_12 rfl rfl ?_
    refine v_if_ne ok 28 dX0_board_13 rfl hf (fun hf => ?_) (fun hf => ?_)
    ·
      refine v_iload_n ok 2 dX0_board_28 rfl rfl ?_
      refine v_iconst ok 1 dX0_board_29 rfl ?_
      refine v_icmp_ne ok 45 dX0_board_30 rfl hf (fun hf => ?_) (fun hf => ?_)
      ·
        refine v_iload_n ok 2 dX0_board_45 rfl rfl ?_
        refine v_iconst ok 2 dX0_board_46 rfl ?_
        refine v_icmp_ne ok 61 dX0_board_47 rfl hf (fun hf => ?_) (fun hf => ?_)
        ·
          refine v_iconst ok (-1) dX0_board_61 rfl ?_
          exact v_iret ok hr (by cases hf; exact hk) dX0_board_62
        ·
          refine v_aload_n ok 0 dX0_board_50 rfl rfl ?_
          refine v_gR ok fl_X0_69 (by first | exact Or.inl ⟨_, rfl⟩ | exact Or.inr ⟨_, rfl⟩) dX0_board_51 hf (fun v3 hf => ?_)
          refine v_iload_n ok 1 dX0_board_54 rfl rfl ?_
          refine v_cVi ok (RX5, TX5, 10) cf_5.1 [vi x1] (F := fun a => X5_places a x1 h2) (fun a v h1 _ hv => M_X5_places ok.2.2.2.2.2.2.1 (d := 4) (Nat.le_refl _) hv) (by exact Nat.le_trans (by decide) hd) cw_X5_places q1384 q1305 q1306 dX0_board_55 [] rfl (Nat.le_of_ble_eq_true rfl) hf (fun v4 h5 hf => ?_)
          refine v_goto ok 62 dX0_board_58 rfl ?_
          exact v_iret ok hr (by cases hf; exact hk) dX0_board_62
      ·
        refine v_aload_n ok 0 dX0_board_33 rfl rfl ?_
        refine v_gR ok fl_X0_69 (by first | exact Or.inl ⟨_, rfl⟩ | exact Or.inr ⟨_, rfl⟩) dX0_board_34 hf (fun v6 hf => ?_)
        refine v_gRN ok fl_X0_239 (by first | exact Or.inl ⟨_, rfl⟩ | exact Or.inr ⟨_, rfl⟩) dX0_board_37 hf (fun v7 hf => ?_)
        refine v_iload_n ok 1 dX0_board_40 rfl rfl ?_
        refine v_iald ok rfl dX0_board_41 hf (fun v8 hf => ?_)
        refine v_goto ok 62 dX0_board_42 rfl ?_
        exact v_iret ok hr (by cases hf; exact hk) dX0_board_62
    ·
      refine v_aload_n ok 0 dX0_board_16 rfl rfl ?_
      refine v_gR ok fl_X0_69 (by first | exact Or.inl ⟨_, rfl⟩ | exact Or.inr ⟨_, rfl⟩) dX0_board_17 hf (fun v9 hf => ?_)
      refine v_gRN ok fl_X0_236 (by first | exact Or.inl ⟨_, rfl⟩ | exact Or.inr ⟨_, rfl⟩) dX0_board_20 hf (fun v10 hf => ?_)
      refine v_iload_n ok 1 dX0_board_23 rfl rfl ?_
      refine v_iald ok rfl dX0_board_24 hf (fun v11 hf => ?_)
      refine v_goto ok 62 dX0_board_25 rfl ?_
      exact v_iret ok hr (by cases hf; exact hk) dX0_board_62
  ·
    refine v_iconst ok (-1) dX0_board_8 rfl ?_
    refine v_goto ok 62 dX0_board_9 rfl ?_
    exact v_iret ok hr (by cases hf; exact hk) dX0_board_62
theorem M_X0_board {G : GT} {l : Launch} (hG : Glob G) {d : Nat} (hd : 5 ≤ d) {a0 : Nat} {x1 : Int32} {x2 : Int32} {h : AH} {v : Int32} {h' : AH} (hf : X0_board a0 x1 x2 h = some (v, h')) : MM G l yX0_board cX0_board 3 (Option.some Jvm.ClassFile.FieldType.int) d [vr (some a0), vi x1, vi x2] h (some (vi v)) h' := by
  refine mm_of hG (plainFor_of_name (by decide)) (Nat.le_of_ble_eq_true rfl) (fun X hX ok hr hnm => ?_)
  subst hX
  exact W_X0_board ok hr hd hf rfl ⟨rfl, rfl, rfl, trivial⟩
theorem cw_X0_isPlace : CW yX0_isPlace cX0_isPlace 3 (Option.some Jvm.ClassFile.FieldType.boolean) 2 := ⟨q1392, q168, ⟨by decide, by decide⟩, by decide +kernel, by decide⟩
theorem W_X0_isPlace {G : GT} {X : CX} {d : Nat} {h0 : AH} {Q : State → Prop} (ok : Ok G X RX0 cX0_isPlace 3 d h0) (hr : (cxm X).sig.returnType = (Option.some Jvm.ClassFile.FieldType.boolean)) (hd : 5 ≤ d) {a0 : Nat} {x1 : Int32} {x2 : Int32} {h : AH} {z : (Int32 × AH)} (hf : X0_isPlace a0 x1 x2 h = some z) (hk : Q = QM G X h0 (some (vi z.1)) z.2) {lv : List (Nat × AV)} (hl : lle lv [(0, vr (some a0)), (1, vi x1), (2, vi x2)]) : V G X 3 h0 Q h 0 lv [] := by
  refine V.sub hl ?_
  unfold X0_isPlace at hf
  refine v_aload_n ok 0 dX0_isPlace_0 rfl rfl ?_
  refine v_iload_n ok 1 dX0_isPlace_1 rfl rfl ?_
  refine v_cVi ok (RX0, TX0, 18) cf_0.1 [vi x1] (F := fun a => X0_isBoard a x1 h) (fun a v h1 _ hv => M_X0_isBoard ok.2.2.2.2.2.2.1 (d := 3) (Nat.le_refl _) hv) (by exact Nat.le_trans (by decide) hd) cw_X0_isBoard q1380 q1382 qs40 dX0_isPlace_2 [] rfl (Nat.le_of_ble_eq_true rfl) hf (fun v1 h2 hf => ?_)
  refine v_if_eq ok 30 dX0_isPlace_5 rfl hf (fun hf => ?_) (fun hf => ?_)
  ·
    refine v_iconst ok 0 dX0_isPlace_30 rfl ?_
    exact v_zretL ok hr (by decide) (by decide) (by cases hf; exact hk) dX0_isPlace_31
  ·
    refine v_iload_n ok 2 dX0_isPlace_8 rfl rfl ?_
    refine v_iconst ok 0 dX0_isPlace_9 rfl ?_
    refine v_aload_n ok 0 dX0_isPlace_10 rfl rfl ?_
    refine v_gR ok fl_X0_69 (by first | exact Or.inl ⟨_, rfl⟩ | exact Or.inr ⟨_, rfl⟩) dX0_isPlace_11 hf (fun v3 hf => ?_)
    refine v_iload_n ok 1 dX0_isPlace_14 rfl rfl ?_
    refine v_cVi ok (RX5, TX5, 10) cf_5.1 [vi x1] (F := fun a => X5_places a x1 h2) (fun a v h1 _ hv => M_X5_places ok.2.2.2.2.2.2.1 (d := 4) (Nat.le_refl _) hv) (by exact Nat.le_trans (by decide) hd) cw_X5_places q1384 q1305 q1306 dX0_isPlace_15 [vi 0, vi x2] rfl (Nat.le_of_ble_eq_true rfl) hf (fun v4 h5 hf => ?_)
    refine v_iconst ok 1 dX0_isPlace_18 rfl ?_
    refine v_isub ok dX0_isPlace_19 ?_
    refine v_cSi ok [vi x2, vi 0, vi (v4 - 1)] (F := X0_is x2 0 (v4 - 1) h5) (fun v h1 hv => M_X0_is ok.2.2.2.2.2.2.1 (d := 1) (Nat.le_refl _) hv) (by exact Nat.le_trans (by decide) hd) cw_X0_is q1355 q899 dX0_isPlace_20 [] rfl (Nat.le_of_ble_eq_true rfl) hf (fun v6 h7 hf => ?_)
    refine v_if_eq ok 30 dX0_isPlace_23 rfl hf (fun hf => ?_) (fun hf => ?_)
    ·
      refine v_iconst ok 0 dX0_isPlace_30 rfl ?_
      exact v_zretL ok hr (by decide) (by decide) (by cases hf; exact hk) dX0_isPlace_31
    ·
      refine v_iconst ok 1 dX0_isPlace_26 rfl ?_
      refine v_goto ok 31 dX0_isPlace_27 rfl ?_
      exact v_zretL ok hr (by decide) (by decide) (by cases hf; exact hk) dX0_isPlace_31
theorem M_X0_isPlace {G : GT} {l : Launch} (hG : Glob G) {d : Nat} (hd : 5 ≤ d) {a0 : Nat} {x1 : Int32} {x2 : Int32} {h : AH} {v : Int32} {h' : AH} (hf : X0_isPlace a0 x1 x2 h = some (v, h')) : MM G l yX0_isPlace cX0_isPlace 3 (Option.some Jvm.ClassFile.FieldType.boolean) d [vr (some a0), vi x1, vi x2] h (some (vi v)) h' := by
  refine mm_of hG (plainFor_of_name (by decide)) (Nat.le_of_ble_eq_true rfl) (fun X hX ok hr hnm => ?_)
  subst hX
  exact W_X0_isPlace ok hr hd hf rfl ⟨rfl, rfl, rfl, trivial⟩
theorem cw_X0_glyph : CW yX0_glyph cX0_glyph 3 (Option.some Jvm.ClassFile.FieldType.int) 2 := ⟨q1388, q168, ⟨by decide, by decide⟩, by decide +kernel, by decide⟩
theorem W_X0_glyph {G : GT} {X : CX} {d : Nat} {h0 : AH} {Q : State → Prop} (ok : Ok G X RX0 cX0_glyph 3 d h0) (hr : (cxm X).sig.returnType = (Option.some Jvm.ClassFile.FieldType.int)) (hd : 6 ≤ d) {a0 : Nat} {x1 : Int32} {x2 : Int32} {h : AH} {z : (Int32 × AH)} (hf : X0_glyph a0 x1 x2 h = some z) (hk : Q = QM G X h0 (some (vi z.1)) z.2) {lv : List (Nat × AV)} (hl : lle lv [(0, vr (some a0)), (1, vi x1), (2, vi x2)]) : V G X 3 h0 Q h 0 lv [] := by
  refine V.sub hl ?_
  unfold X0_glyph at hf
  refine v_aload_n ok 0 dX0_glyph_0 rfl rfl ?_
  refine v_iload_n ok 1 dX0_glyph_1 rfl rfl ?_
  refine v_iload_n ok 2 dX0_glyph_2 rfl rfl ?_
  refine v_cVi ok (RX0, TX0, 18) cf_0.1 [vi x1, vi x2] (F := fun a => X0_isPlace a x1 x2 h) (fun a v h1 _ hv => M_X0_isPlace ok.2.2.2.2.2.2.1 (d := 5) (Nat.le_refl _) hv) (by exact Nat.le_trans (by decide) hd) cw_X0_isPlace q1389 q1391 qs41 dX0_glyph_3 [] rfl (Nat.le_of_ble_eq_true rfl) hf (fun v1 h2 hf => ?_)
  refine v_if_eq ok 23 dX0_glyph_6 rfl hf (fun hf => ?_) (fun hf => ?_)
  ·
    refine v_iconst ok (-1) dX0_glyph_23 rfl ?_
    exact v_iret ok hr (by cases hf; exact hk) dX0_glyph_24
  ·
    refine v_aload_n ok 0 dX0_glyph_9 rfl rfl ?_
    refine v_gR ok fl_X0_69 (by first | exact Or.inl ⟨_, rfl⟩ | exact Or.inr ⟨_, rfl⟩) dX0_glyph_10 hf (fun v3 hf => ?_)
    refine v_gRN ok fl_X0_248 (by first | exact Or.inl ⟨_, rfl⟩ | exact Or.inr ⟨_, rfl⟩) dX0_glyph_13 hf (fun v4 hf => ?_)
    refine v_iload_n ok 1 dX0_glyph_16 rfl rfl ?_
    refine v_aald6 ok rfl dX0_glyph_17 hf (fun v5 hf => ?_)
    refine v_iload_n ok 2 dX0_glyph_18 rfl rfl ?_
    refine v_iald ok rfl dX0_glyph_19 hf (fun v6 hf => ?_)
    refine v_goto ok 24 dX0_glyph_20 rfl ?_
    exact v_iret ok hr (by cases hf; exact hk) dX0_glyph_24
theorem M_X0_glyph {G : GT} {l : Launch} (hG : Glob G) {d : Nat} (hd : 6 ≤ d) {a0 : Nat} {x1 : Int32} {x2 : Int32} {h : AH} {v : Int32} {h' : AH} (hf : X0_glyph a0 x1 x2 h = some (v, h')) : MM G l yX0_glyph cX0_glyph 3 (Option.some Jvm.ClassFile.FieldType.int) d [vr (some a0), vi x1, vi x2] h (some (vi v)) h' := by
  refine mm_of hG (plainFor_of_name (by decide)) (Nat.le_of_ble_eq_true rfl) (fun X hX ok hr hnm => ?_)
  subst hX
  exact W_X0_glyph ok hr hd hf rfl ⟨rfl, rfl, rfl, trivial⟩
