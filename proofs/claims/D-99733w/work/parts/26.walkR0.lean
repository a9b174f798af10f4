set_option maxRecDepth 100000
theorem cw_X2_atom : CW yX2_atom cX2_atom 3 (Option.some (Jvm.ClassFile.FieldType.object "TurnedBoards$Value")) 0 := ⟨q1079, q177, ⟨by decide, by decide⟩, by decide +kernel, by decide⟩
theorem cw_X2_fact : CW yX2_fact cX2_fact 3 (Option.some (Jvm.ClassFile.FieldType.object "TurnedBoards$Test")) 0 := ⟨q1245, q177, ⟨by decide, by decide⟩, by decide +kernel, by decide⟩
theorem cw_X2_most : CW yX2_most cX2_most 3 none 2 := ⟨q683, q177, ⟨by decide, by decide⟩, by decide +kernel, by decide⟩
theorem W_X2_most {G : GT} {X : CX} {d : Nat} {h0 : AH} {Q : State → Prop} (ok : Ok G X RX2 cX2_most 3 d h0) (hr : (cxm X).sig.returnType = none) (hd : 2 ≤ d) (hx : ∀ x ∈ (cxc X).exceptionTable.toList, False) {a0 : Nat} {x1 : Int32} {x2 : Int32} {h : AH} {z : ((Unit ⊕ Nat) × AH)} (hf : X2_most a0 x1 x2 h = some z) (hk : Q = QMX G X h0 (rxv z.1) z.2) {lv : List (Nat × AV)} (hl : lle lv [(0, vr (some a0)), (1, vi x1), (2, vi x2)]) : V G X 3 h0 Q h 0 lv [] := by
  refine V.sub hl ?_
  unfold X2_most at hf
  refine v_iload_n ok 1 dX2_most_0 rfl rfl ?_
  refine v_if_eq ok 11 dX2_most_1 rfl hf (fun hf => ?_) (fun hf => ?_)
  ·
    exact v_vretX ok hr (by cases hf; exact hk) dX2_most_11
  ·
    refine v_aload_n ok 0 dX2_most_4 rfl rfl ?_
    refine v_iconst ok 5 dX2_most_5 rfl ?_
    refine v_iload_n ok 2 dX2_most_6 rfl rfl ?_
    refine v_cVr ok (RX2, TX2, 8) cf_2.1 [vi 5, vi x2] (F := fun a => X2_wrong a 5 x2 h) (fun a v h1 _ hv => M_X2_wrong ok.2.2.2.2.2.2.1 (d := 1) (Nat.le_refl _) hv) (by exact Nat.le_trans (by decide) hd) cw_X2_wrong q684 q686 qs10 dX2_most_7 [] rfl (Nat.le_of_ble_eq_true rfl) hf (fun v1 h2 hf => ?_)
    exact v_athrow ok dX2_most_10 hf (fun a h3 h4 hf => VX.out ok hx h3 h4 (by cases hf; exact hk))
theorem M_X2_most {G : GT} {l : Launch} (hG : Glob G) {d : Nat} (hd : 2 ≤ d) {a0 : Nat} {x1 : Int32} {x2 : Int32} {h : AH} {w : Unit ⊕ Nat} {h' : AH} (hf : X2_most a0 x1 x2 h = some (w, h')) : MMX G l yX2_most cX2_most 3 none d [vr (some a0), vi x1, vi x2] h (rxv w) h' := by
  refine mmx_of hG (by decide) (Nat.le_of_ble_eq_true rfl) (fun X hX ok hr hx => ?_)
  subst hX
  exact W_X2_most ok hr hd hx hf rfl ⟨rfl, rfl, rfl, trivial⟩
theorem cw_X2_parted : CW yX2_parted cX2_parted 1 none 0 := ⟨q698, q177, ⟨by decide, by decide⟩, by decide +kernel, by decide⟩
theorem W_X2_parted_32 {G : GT} {X : CX} {d : Nat} {h0 : AH} {Q : State → Prop} (ok : Ok G X RX2 cX2_parted 1 d h0) (hr : (cxm X).sig.returnType = none) (hd : 2 ≤ d) (hx : ∀ x ∈ (cxc X).exceptionTable.toList, False) {a0 : Nat} {h : AH} {z : ((Unit ⊕ Nat) × AH)} (hf : X2_parted_32 a0 h = some z) (hk : Q = QMX G X h0 (rxv z.1) z.2) {lv : List (Nat × AV)} (hl : lle lv [(0, vr (some a0))]) : V G X 1 h0 Q h 32 lv [] := by
  refine V.sub hl ?_
  unfold X2_parted_32 at hf
  refine v_aload_n ok 0 dX2_parted_32 rfl rfl ?_
  refine v_iconst ok 1 dX2_parted_33 rfl ?_
  refine v_aload_n ok 0 dX2_parted_34 rfl rfl ?_
  refine v_gI ok fl_X2_36 (fun _ _ _ => rfl) dX2_parted_35 hf (fun v1 hf => ?_)
  refine v_cVr ok (RX2, TX2, 8) cf_2.1 [vi 1, vi v1] (F := fun a => X2_wrong a 1 v1 h) (fun a v h1 _ hv => M_X2_wrong ok.2.2.2.2.2.2.1 (d := 1) (Nat.le_refl _) hv) (by exact Nat.le_trans (by decide) hd) cw_X2_wrong q684 q686 qs10 dX2_parted_38 [] rfl (Nat.le_of_ble_eq_true rfl) hf (fun v2 h3 hf => ?_)
  exact v_athrow ok dX2_parted_41 hf (fun a h3 h4 hf => VX.out ok hx h3 h4 (by cases hf; exact hk))
theorem W_X2_parted {G : GT} {X : CX} {d : Nat} {h0 : AH} {Q : State → Prop} (ok : Ok G X RX2 cX2_parted 1 d h0) (hr : (cxm X).sig.returnType = none) (hd : 2 ≤ d) (hx : ∀ x ∈ (cxc X).exceptionTable.toList, False) {a0 : Nat} {h : AH} {z : ((Unit ⊕ Nat) × AH)} (hf : X2_parted a0 h = some z) (hk : Q = QMX G X h0 (rxv z.1) z.2) {lv : List (Nat × AV)} (hl : lle lv [(0, vr (some a0))]) : V G X 1 h0 Q h 0 lv [] := by
  refine V.sub hl ?_
  unfold X2_parted at hf
  refine v_aload_n ok 0 dX2_parted_0 rfl rfl ?_
  refine v_aload_n ok 0 dX2_parted_1 rfl rfl ?_
  refine v_gI ok fl_X2_36 (fun _ _ _ => rfl) dX2_parted_2 hf (fun v4 hf => ?_)
  refine v_iconst ok 1 dX2_parted_5 rfl ?_
  refine v_isub ok dX2_parted_6 ?_
  refine v_cVi ok (RX2, TX2, 8) cf_2.1 [vi (v4 - 1)] (F := fun a => X2_byteAt a (v4 - 1) h) (fun a v h1 _ hv => M_X2_byteAt ok.2.2.2.2.2.2.1 (d := 1) (Nat.le_refl _) hv) (by exact Nat.le_trans (by decide) hd) cw_X2_byteAt q676 q678 qs8 dX2_parted_7 [] rfl (Nat.le_of_ble_eq_true rfl) hf (fun v5 h6 hf => ?_)
  refine v_cSNi ok [vi v5] (F := X0_isLetter v5 h6) (fun v h1 hv => M_X0_isLetter ok.2.2.2.2.2.2.1 (d := 1) (Nat.le_refl _) hv) (by exact Nat.le_trans (by decide) hd) cw_X0_isLetter q692 q693 dX2_parted_10 [] rfl (Nat.le_of_ble_eq_true rfl) hf (fun v7 h8 hf => ?_)
  refine v_if_ne ok 32 dX2_parted_13 rfl hf (fun hf => ?_) (fun hf => ?_)
  ·
    exact W_X2_parted_32 ok hr hd hx hf hk ⟨rfl, trivial⟩
  ·
    refine v_aload_n ok 0 dX2_parted_16 rfl rfl ?_
    refine v_aload_n ok 0 dX2_parted_17 rfl rfl ?_
    refine v_gI ok fl_X2_36 (fun _ _ _ => rfl) dX2_parted_18 hf (fun v9 hf => ?_)
    refine v_iconst ok 1 dX2_parted_21 rfl ?_
    refine v_isub ok dX2_parted_22 ?_
    refine v_cVi ok (RX2, TX2, 8) cf_2.1 [vi (v9 - 1)] (F := fun a => X2_byteAt a (v9 - 1) h8) (fun a v h1 _ hv => M_X2_byteAt ok.2.2.2.2.2.2.1 (d := 1) (Nat.le_refl _) hv) (by exact Nat.le_trans (by decide) hd) cw_X2_byteAt q676 q678 qs8 dX2_parted_23 [] rfl (Nat.le_of_ble_eq_true rfl) hf (fun v10 h11 hf => ?_)
    refine v_cSNi ok [vi v10] (F := X0_isDigit v10 h11) (fun v h1 hv => M_X0_isDigit ok.2.2.2.2.2.2.1 (d := 1) (Nat.le_refl _) hv) (by exact Nat.le_trans (by decide) hd) cw_X0_isDigit q699 q700 dX2_parted_26 [] rfl (Nat.le_of_ble_eq_true rfl) hf (fun v12 h13 hf => ?_)
    refine v_if_eq ok 42 dX2_parted_29 rfl hf (fun hf => ?_) (fun hf => ?_)
    ·
      exact v_vretX ok hr (by cases hf; exact hk) dX2_parted_42
    ·
      exact W_X2_parted_32 ok hr hd hx hf hk ⟨rfl, trivial⟩
theorem M_X2_parted {G : GT} {l : Launch} (hG : Glob G) {d : Nat} (hd : 2 ≤ d) {a0 : Nat} {h : AH} {w : Unit ⊕ Nat} {h' : AH} (hf : X2_parted a0 h = some (w, h')) : MMX G l yX2_parted cX2_parted 1 none d [vr (some a0)] h (rxv w) h' := by
  refine mmx_of hG (by decide) (Nat.le_of_ble_eq_true rfl) (fun X hX ok hr hx => ?_)
  subst hX
  exact W_X2_parted ok hr hd hx hf rfl ⟨rfl, trivial⟩
theorem cw_X2_word : CW yX2_word cX2_word 3 (Option.some (Jvm.ClassFile.FieldType.object "java/lang/String")) 0 := ⟨q691, q177, ⟨by decide, by decide⟩, by decide +kernel, by decide⟩
def pkX2_word_76 (G : GT) (X : CX) (h0 : AH) (Q : State → Prop) (a0 : Nat) (x1 : Option Nat) (o : ((Int32 × AH) ⊕ ((Option Nat ⊕ Nat) × AH))) : Prop := match o with
  | .inl s => ∀ lv : List (Nat × AV), lle lv [(0, vr (some a0)), (1, vr x1), (2, vi s.1)] → V G X 3 h0 Q s.2 76 lv []
  | .inr z => Q = QMX G X h0 (rx vr z.1) z.2
def pkX2_word_32 (G : GT) (X : CX) (h0 : AH) (Q : State → Prop) (a0 : Nat) (o : ((AH) ⊕ ((Option Nat ⊕ Nat) × AH))) : Prop := match o with
  | .inl s => ∀ lv : List (Nat × AV), lle lv [(0, vr (some a0))] → V G X 3 h0 Q s 32 lv []
  | .inr z => Q = QMX G X h0 (rx vr z.1) z.2
theorem W_X2_word_108 {G : GT} {X : CX} {d : Nat} {h0 : AH} {Q : State → Prop} (ok : Ok G X RX2 cX2_word 3 d h0) (hr : (cxm X).sig.returnType = (Option.some (Jvm.ClassFile.FieldType.object "java/lang/String"))) (hd : 9 ≤ d) (hx : ∀ x ∈ (cxc X).exceptionTable.toList, False) {x1 : Option Nat} {h : AH} {z : ((Option Nat ⊕ Nat) × AH)} (hf : X2_word_108 x1 h = some z) (hk : Q = QMX G X h0 (rx vr z.1) z.2) {lv : List (Nat × AV)} (hl : lle lv [(1, vr x1)]) : V G X 3 h0 Q h 108 lv [] := by
  refine V.sub hl ?_
  unfold X2_word_108 at hf
  refine v_aload_n ok 1 dX2_word_108 rfl rfl ?_
  refine v_cSr ok [vr x1] (F := J9_valueOf x1 h) (fun v h1 hv => M_J9_valueOf ok.2.2.2.2.2.2.1 (d := 8) (Nat.le_refl _) hv) (by exact Nat.le_trans (by decide) hd) cw_J9_valueOf q702 q703 dX2_word_109 [] rfl (Nat.le_of_ble_eq_true rfl) hf (fun v1 h2 hf => ?_)
  exact v_aretX ok hr (by first | exact Or.inl ⟨_, rfl⟩ | exact Or.inr ⟨_, rfl⟩) (by cases hf; exact hk) dX2_word_112
theorem W_X2_word_76b {G : GT} {X : CX} {d : Nat} {h0 : AH} {Q : State → Prop} (ok : Ok G X RX2 cX2_word 3 d h0) (hr : (cxm X).sig.returnType = (Option.some (Jvm.ClassFile.FieldType.object "java/lang/String"))) (hd : 9 ≤ d) (hx : ∀ x ∈ (cxc X).exceptionTable.toList, False) {a0 : Nat} {x1 : Option Nat} {x2 : Int32} {h : AH} {z : ((Int32 × AH) ⊕ ((Option Nat ⊕ Nat) × AH))} (hf : X2_word_76b  a0 x1 x2 h = some z) (hk : pkX2_word_76 G X h0 Q a0 x1 z) {lv : List (Nat × AV)} (hl : lle lv [(0, vr (some a0)), (1, vr x1), (2, vi x2)]) : V G X 3 h0 Q h 76 lv [] := by
  refine V.sub hl ?_
  unfold X2_word_76b at hf
  refine v_iload_n ok 2 dX2_word_76 rfl rfl ?_
  refine v_aload_n ok 0 dX2_word_77 rfl rfl ?_
  refine v_gI ok fl_X2_36 (fun _ _ _ => rfl) dX2_word_78 hf (fun v3 hf => ?_)
  refine v_icmp_ge ok 108 dX2_word_81 rfl hf (fun hf => ?_) (fun hf => ?_)
  ·
    obtain ⟨o, ho, hz⟩ := ob hf
    cases hz; exact W_X2_word_108 ok hr hd hx ho hk ⟨rfl, trivial⟩
  ·
    refine v_aload_n ok 1 dX2_word_84 rfl rfl ?_
    refine v_iload_n ok 2 dX2_word_85 rfl rfl ?_
    refine v_aload_n ok 0 dX2_word_86 rfl rfl ?_
    refine v_gI ok fl_X2_61 (fun _ _ _ => rfl) dX2_word_87 hf (fun v4 hf => ?_)
    refine v_isub ok dX2_word_90 ?_
    refine v_aload_n ok 0 dX2_word_91 rfl rfl ?_
    refine v_gR ok fl_X2_3 (by first | exact Or.inl ⟨_, rfl⟩ | exact Or.inr ⟨_, rfl⟩) dX2_word_92 hf (fun v5 hf => ?_)
    refine v_gRN ok fl_X2_32 (by first | exact Or.inl ⟨_, rfl⟩ | exact Or.inr ⟨_, rfl⟩) dX2_word_95 hf (fun v6 hf => ?_)
    refine v_iload_n ok 2 dX2_word_98 rfl rfl ?_
    refine v_bald ok rfl dX2_word_99 hf (fun v7 hf => ?_)
    refine v_i2c ok dX2_word_100 ?_
    refine v_cast ok rfl dX2_word_101 hf (fun h8 hf => ?_)
    refine v_iinc ok x2 (x2 + 1) dX2_word_102 rfl rfl (by decide) ?_
    refine v_goto ok 76 dX2_word_105 rfl ?_
    cases hf; exact hk _ ⟨rfl, rfl, rfl, trivial⟩
theorem W_X2_word_76 {G : GT} {X : CX} {d : Nat} {h0 : AH} {Q : State → Prop} (ok : Ok G X RX2 cX2_word 3 d h0) (hr : (cxm X).sig.returnType = (Option.some (Jvm.ClassFile.FieldType.object "java/lang/String"))) (hd : 9 ≤ d) (hx : ∀ x ∈ (cxc X).exceptionTable.toList, False) {a0 : Nat} {x1 : Option Nat} {x2 : Int32} {h : AH} {z : ((Option Nat ⊕ Nat) × AH)} (hf : X2_word_76  a0 x1 x2 h = some z) (hk : Q = QMX G X h0 (rx vr z.1) z.2) {lv : List (Nat × AV)} (hl : lle lv [(0, vr (some a0)), (1, vr x1), (2, vi x2)]) : V G X 3 h0 Q h 76 lv [] := by
  unfold X2_word_76 at hf
  exact loopC_walk (Wh := fun s : Int32 × AH => ∀ lv : List (Nat × AV), lle lv [(0, vr (some a0)), (1, vr x1), (2, vi s.1)] → V G X 3 h0 Q s.2 76 lv []) (PK := fun z => Q = QMX G X h0 (rx vr z.1) z.2) (fun s o hf hk lv hl => W_X2_word_76b ok hr hd hx hf (by cases o <;> exact hk) hl) _ z hf hk lv hl
theorem W_X2_word_59 {G : GT} {X : CX} {d : Nat} {h0 : AH} {Q : State → Prop} (ok : Ok G X RX2 cX2_word 3 d h0) (hr : (cxm X).sig.returnType = (Option.some (Jvm.ClassFile.FieldType.object "java/lang/String"))) (hd : 9 ≤ d) (hx : ∀ x ∈ (cxc X).exceptionTable.toList, False) {a0 : Nat} {h : AH} {z : ((Option Nat ⊕ Nat) × AH)} (hf : X2_word_59 a0 h = some z) (hk : Q = QMX G X h0 (rx vr z.1) z.2) {lv : List (Nat × AV)} (hl : lle lv [(0, vr (some a0))]) : V G X 3 h0 Q h 59 lv [] := by
  refine V.sub hl ?_
  unfold X2_word_59 at hf
  refine v_aload_n ok 0 dX2_word_59 rfl rfl ?_
  refine v_gI ok fl_X2_36 (fun _ _ _ => rfl) dX2_word_60 hf (fun v9 hf => ?_)
  refine v_aload_n ok 0 dX2_word_63 rfl rfl ?_
  refine v_gI ok fl_X2_61 (fun _ _ _ => rfl) dX2_word_64 hf (fun v10 hf => ?_)
  refine v_isub ok dX2_word_67 ?_
  refine v_newarr ok (t := 102) (atype := .char) (by decide) (by decide) rfl q779 (fun _ _ _ _ e1 e2 => by first | exact congrArg Value.int e1.symm | exact congrArg Value.long e2.symm) (by decide) dX2_word_68 hf (fun v11 h12 hf => ?_)
  refine v_astore_n ok 1 dX2_word_70 rfl (by decide) ?_
  refine v_aload_n ok 0 dX2_word_71 rfl rfl ?_
  refine v_gI ok fl_X2_61 (fun _ _ _ => rfl) dX2_word_72 hf (fun v13 hf => ?_)
  refine v_istore_n ok 2 dX2_word_75 rfl (by decide) ?_
  exact W_X2_word_76 ok hr hd hx hf hk ⟨rfl, rfl, rfl, trivial⟩
theorem W_X2_word_32b {G : GT} {X : CX} {d : Nat} {h0 : AH} {Q : State → Prop} (ok : Ok G X RX2 cX2_word 3 d h0) (hr : (cxm X).sig.returnType = (Option.some (Jvm.ClassFile.FieldType.object "java/lang/String"))) (hd : 9 ≤ d) (hx : ∀ x ∈ (cxc X).exceptionTable.toList, False) {a0 : Nat} {h : AH} {z : ((AH) ⊕ ((Option Nat ⊕ Nat) × AH))} (hf : X2_word_32b  a0  h = some z) (hk : pkX2_word_32 G X h0 Q a0 z) {lv : List (Nat × AV)} (hl : lle lv [(0, vr (some a0))]) : V G X 3 h0 Q h 32 lv [] := by
  refine V.sub hl ?_
  unfold X2_word_32b at hf
  refine v_aload_n ok 0 dX2_word_32 rfl rfl ?_
  refine v_aload_n ok 0 dX2_word_33 rfl rfl ?_
  refine v_gI ok fl_X2_36 (fun _ _ _ => rfl) dX2_word_34 hf (fun v14 hf => ?_)
  refine v_cVi ok (RX2, TX2, 8) cf_2.1 [vi v14] (F := fun a => X2_byteAt a v14 h) (fun a v h1 _ hv => M_X2_byteAt ok.2.2.2.2.2.2.1 (d := 1) (Nat.le_refl _) hv) (by exact Nat.le_trans (by decide) hd) cw_X2_byteAt q676 q678 qs8 dX2_word_37 [] rfl (Nat.le_of_ble_eq_true rfl) hf (fun v15 h16 hf => ?_)
  refine v_cSNi ok [vi v15] (F := X0_isLetter v15 h16) (fun v h1 hv => M_X0_isLetter ok.2.2.2.2.2.2.1 (d := 1) (Nat.le_refl _) hv) (by exact Nat.le_trans (by decide) hd) cw_X0_isLetter q692 q693 dX2_word_40 [] rfl (Nat.le_of_ble_eq_true rfl) hf (fun v17 h18 hf => ?_)
  refine v_if_eq ok 59 dX2_word_43 rfl hf (fun hf => ?_) (fun hf => ?_)
  ·
    obtain ⟨o, ho, hz⟩ := ob hf
    cases hz; exact W_X2_word_59 ok hr hd hx ho hk ⟨rfl, trivial⟩
  ·
    refine v_aload_n ok 0 dX2_word_46 rfl rfl ?_
    refine v_dup ok dX2_word_47 rfl ?_
    refine v_gI ok fl_X2_36 (fun _ _ _ => rfl) dX2_word_48 hf (fun v19 hf => ?_)
    refine v_iconst ok 1 dX2_word_51 rfl ?_
    refine v_iadd ok dX2_word_52 ?_
    refine v_pI ok fl_X2_36 ⟨fun _ _ _ => rfl, rfl⟩ (FN.of cf_2.1 rfl) dX2_word_53 hf (fun h20 hf => ?_)
    refine v_goto ok 32 dX2_word_56 rfl ?_
    cases hf; exact hk _ ⟨rfl, trivial⟩
theorem W_X2_word_32 {G : GT} {X : CX} {d : Nat} {h0 : AH} {Q : State → Prop} (ok : Ok G X RX2 cX2_word 3 d h0) (hr : (cxm X).sig.returnType = (Option.some (Jvm.ClassFile.FieldType.object "java/lang/String"))) (hd : 9 ≤ d) (hx : ∀ x ∈ (cxc X).exceptionTable.toList, False) {a0 : Nat} {h : AH} {z : ((Option Nat ⊕ Nat) × AH)} (hf : X2_word_32  a0 h = some z) (hk : Q = QMX G X h0 (rx vr z.1) z.2) {lv : List (Nat × AV)} (hl : lle lv [(0, vr (some a0))]) : V G X 3 h0 Q h 32 lv [] := by
  unfold X2_word_32 at hf
  exact loopC_walk (Wh := fun s : AH => ∀ lv : List (Nat × AV), lle lv [(0, vr (some a0))] → V G X 3 h0 Q s 32 lv []) (PK := fun z => Q = QMX G X h0 (rx vr z.1) z.2) (fun s o hf hk lv hl => W_X2_word_32b ok hr hd hx hf (by cases o <;> exact hk) hl) _ z hf hk lv hl
theorem W_X2_word {G : GT} {X : CX} {d : Nat} {h0 : AH} {Q : State → Prop} (ok : Ok G X RX2 cX2_word 3 d h0) (hr : (cxm X).sig.returnType = (Option.some (Jvm.ClassFile.FieldType.object "java/lang/String"))) (hd : 9 ≤ d) (hx : ∀ x ∈ (cxc X).exceptionTable.toList, False) {a0 : Nat} {h : AH} {z : ((Option Nat ⊕ Nat) × AH)} (hf : X2_word a0 h = some z) (hk : Q = QMX G X h0 (rx vr z.1) z.2) {lv : List (Nat × AV)} (hl : lle lv [(0, vr (some a0))]) : V G X 3 h0 Q h 0 lv [] := by
  refine V.sub hl ?_
  unfold X2_word at hf
  refine v_aload_n ok 0 dX2_word_0 rfl rfl ?_
  refine v_cVi ok (RX2, TX2, 8) cf_2.1 [] (F := fun a => X2_here a h) (fun a v h1 _ hv => M_X2_here ok.2.2.2.2.2.2.1 (d := 2) (Nat.le_refl _) hv) (by exact Nat.le_trans (by decide) hd) cw_X2_here q672 q674 qs7 dX2_word_1 [] rfl (Nat.le_of_ble_eq_true rfl) hf (fun v21 h22 hf => ?_)
  refine v_cSNi ok [vi v21] (F := X0_isLetter v21 h22) (fun v h1 hv => M_X0_isLetter ok.2.2.2.2.2.2.1 (d := 1) (Nat.le_refl _) hv) (by exact Nat.le_trans (by decide) hd) cw_X0_isLetter q692 q693 dX2_word_4 [] rfl (Nat.le_of_ble_eq_true rfl) hf (fun v23 h24 hf => ?_)
  refine v_if_ne ok 20 dX2_word_7 rfl hf (fun hf => ?_) (fun hf => ?_)
  ·
    refine v_aload_n ok 0 dX2_word_20 rfl rfl ?_
    refine v_cXv ok (RX2, TX2, 8) cf_2.1 [] (F := fun a => X2_parted a h24) (fun a w h1 _ hv => M_X2_parted ok.2.2.2.2.2.2.1 (d := 2) (Nat.le_refl _) hv) (by omega) cw_X2_parted q695 q697 qs12 dX2_word_21 [] rfl (Nat.le_of_ble_eq_true rfl) hf (fun b h_ h3 h4 hf => VX.out ok hx h3 h4 (by cases hf; exact hk)) (fun _ h26 hf => ?_)
    refine v_aload_n ok 0 dX2_word_24 rfl rfl ?_
    refine v_aload_n ok 0 dX2_word_25 rfl rfl ?_
    refine v_gI ok fl_X2_36 (fun _ _ _ => rfl) dX2_word_26 hf (fun v27 hf => ?_)
    refine v_pI ok fl_X2_61 ⟨fun _ _ _ => rfl, rfl⟩ (FN.of cf_2.1 rfl) dX2_word_29 hf (fun h28 hf => ?_)
    exact W_X2_word_32 ok hr hd hx hf hk ⟨rfl, trivial⟩
  ·
    refine v_aload_n ok 0 dX2_word_10 rfl rfl ?_
    refine v_iconst ok 1 dX2_word_11 rfl ?_
    refine v_aload_n ok 0 dX2_word_12 rfl rfl ?_
    refine v_gI ok fl_X2_36 (fun _ _ _ => rfl) dX2_word_13 hf (fun v29 hf => ?_)
    refine v_cVr ok (RX2, TX2, 8) cf_2.1 [vi 1, vi v29] (F := fun a => X2_wrong a 1 v29 h24) (fun a v h1 _ hv => M_X2_wrong ok.2.2.2.2.2.2.1 (d := 1) (Nat.le_refl _) hv) (by exact Nat.le_trans (by decide) hd) cw_X2_wrong q684 q686 qs10 dX2_word_16 [] rfl (Nat.le_of_ble_eq_true rfl) hf (fun v30 h31 hf => ?_)
    exact v_athrow ok dX2_word_19 hf (fun a h3 h4 hf => VX.out ok hx h3 h4 (by cases hf; exact hk))
theorem M_X2_word {G : GT} {l : Launch} (hG : Glob G) {d : Nat} (hd : 9 ≤ d) {a0 : Nat} {h : AH} {w : Option Nat ⊕ Nat} {h' : AH} (hf : X2_word a0 h = some (w, h')) : MMX G l yX2_word cX2_word 3 (Option.some (Jvm.ClassFile.FieldType.object "java/lang/String")) d [vr (some a0)] h (rx vr w) h' := by
  refine mmx_of hG (by decide) (Nat.le_of_ble_eq_true rfl) (fun X hX ok hr hx => ?_)
  subst hX
  exact W_X2_word ok hr hd hx hf rfl ⟨rfl, trivial⟩
theorem cw_X2_name : CW yX2_name cX2_name 2 (Option.some (Jvm.ClassFile.FieldType.object "java/lang/String")) 0 := ⟨q967, q177, ⟨by decide, by decide⟩, by decide +kernel, by decide⟩
theorem W_X2_name {G : GT} {X : CX} {d : Nat} {h0 : AH} {Q : State → Prop} (ok : Ok G X RX2 cX2_name 2 d h0) (hr : (cxm X).sig.returnType = (Option.some (Jvm.ClassFile.FieldType.object "java/lang/String"))) (hd : 10 ≤ d) (hx : ∀ x ∈ (cxc X).exceptionTable.toList, False) {a0 : Nat} {h : AH} {z : ((Option Nat ⊕ Nat) × AH)} (hf : X2_name a0 h = some z) (hk : Q = QMX G X h0 (rx vr z.1) z.2) {lv : List (Nat × AV)} (hl : lle lv [(0, vr (some a0))]) : V G X 2 h0 Q h 0 lv [] := by
  refine V.sub hl ?_
  unfold X2_name at hf
  refine v_aload_n ok 0 dX2_name_0 rfl rfl ?_
  refine v_cXr ok (RX2, TX2, 8) cf_2.1 [] (F := fun a => X2_word a h) (fun a w h1 _ hv => M_X2_word ok.2.2.2.2.2.2.1 (d := 9) (Nat.le_refl _) hv) (by omega) cw_X2_word q688 q690 qs11 dX2_name_1 [] rfl (Nat.le_of_ble_eq_true rfl) hf (fun b h_ h3 h4 hf => VX.out ok hx h3 h4 (by cases hf; exact hk)) (fun v1 h2 hf => ?_)
  refine v_astore_n ok 1 dX2_name_4 rfl (by decide) ?_
  refine v_aload_n ok 1 dX2_name_5 rfl rfl ?_
  refine v_getsN ok (v := vr (hR h2 120 9)) (List.mem_of_getElem? (i := 9) rfl) q851 rfl dX2_name_6 ?_
  refine v_cSNi ok [vr v1, vr (hR h2 120 9)] (F := X0_find v1 (hR h2 120 9) h2) (fun v h1 hv => M_X0_find ok.2.2.2.2.2.2.1 (d := 3) (Nat.le_refl _) hv) (by exact Nat.le_trans (by decide) hd) cw_X0_find q853 q854 dX2_name_9 [] rfl (Nat.le_of_ble_eq_true rfl) hf (fun v3 h4 hf => ?_)
  refine v_iconst ok (-1) dX2_name_12 rfl ?_
  refine v_icmp_eq ok 26 dX2_name_13 rfl hf (fun hf => ?_) (fun hf => ?_)
  ·
    refine v_aload_n ok 1 dX2_name_26 rfl rfl ?_
    refine v_cVi ok (RJ9, TJ9, 4) cf_24.1 [] (F := fun a => J9_length a h4) (fun a v h1 _ hv => M_J9_length ok.2.2.2.2.2.2.1 (d := 2) (Nat.le_refl _) hv) (by exact Nat.le_trans (by decide) hd) cw_J9_length q857 q858 q859 dX2_name_27 [] rfl (Nat.le_of_ble_eq_true rfl) hf (fun v5 h6 hf => ?_)
    refine v_bipush ok 6 dX2_name_30 rfl ?_
    refine v_icmp_le ok 48 dX2_name_32 rfl hf (fun hf => ?_) (fun hf => ?_)
    ·
      refine v_aload_n ok 1 dX2_name_48 rfl rfl ?_
      exact v_aretX ok hr (by first | exact Or.inl ⟨_, rfl⟩ | exact Or.inr ⟨_, rfl⟩) (by cases hf; exact hk) dX2_name_49
    ·
      refine v_aload_n ok 0 dX2_name_35 rfl rfl ?_
      refine v_iconst ok 1 dX2_name_36 rfl ?_
      refine v_aload_n ok 0 dX2_name_37 rfl rfl ?_
      refine v_gI ok fl_X2_61 (fun _ _ _ => rfl) dX2_name_38 hf (fun v7 hf => ?_)
      refine v_bipush ok 6 dX2_name_41 rfl ?_
      refine v_iadd ok dX2_name_43 ?_
      refine v_cVr ok (RX2, TX2, 8) cf_2.1 [vi 1, vi (v7 + 6)] (F := fun a => X2_wrong a 1 (v7 + 6) h6) (fun a v h1 _ hv => M_X2_wrong ok.2.2.2.2.2.2.1 (d := 1) (Nat.le_refl _) hv) (by exact Nat.le_trans (by decide) hd) cw_X2_wrong q684 q686 qs10 dX2_name_44 [] rfl (Nat.le_of_ble_eq_true rfl) hf (fun v8 h9 hf => ?_)
      exact v_athrow ok dX2_name_47 hf (fun a h3 h4 hf => VX.out ok hx h3 h4 (by cases hf; exact hk))
  ·
    refine v_aload_n ok 0 dX2_name_16 rfl rfl ?_
    refine v_iconst ok 1 dX2_name_17 rfl ?_
    refine v_aload_n ok 0 dX2_name_18 rfl rfl ?_
    refine v_gI ok fl_X2_61 (fun _ _ _ => rfl) dX2_name_19 hf (fun v10 hf => ?_)
    refine v_cVr ok (RX2, TX2, 8) cf_2.1 [vi 1, vi v10] (F := fun a => X2_wrong a 1 v10 h4) (fun a v h1 _ hv => M_X2_wrong ok.2.2.2.2.2.2.1 (d := 1) (Nat.le_refl _) hv) (by exact Nat.le_trans (by decide) hd) cw_X2_wrong q684 q686 qs10 dX2_name_22 [] rfl (Nat.le_of_ble_eq_true rfl) hf (fun v11 h12 hf => ?_)
    exact v_athrow ok dX2_name_25 hf (fun a h3 h4 hf => VX.out ok hx h3 h4 (by cases hf; exact hk))
theorem M_X2_name {G : GT} {l : Launch} (hG : Glob G) {d : Nat} (hd : 10 ≤ d) {a0 : Nat} {h : AH} {w : Option Nat ⊕ Nat} {h' : AH} (hf : X2_name a0 h = some (w, h')) : MMX G l yX2_name cX2_name 2 (Option.some (Jvm.ClassFile.FieldType.object "java/lang/String")) d [vr (some a0)] h (rx vr w) h' := by
  refine mmx_of hG (by decide) (Nat.le_of_ble_eq_true rfl) (fun X hX ok hr hx => ?_)
  subst hX
  exact W_X2_name ok hr hd hx hf rfl ⟨rfl, trivial⟩
theorem cw_X2_aWord : CW yX2_aWord cX2_aWord 3 none 1 := ⟨q961, q177, ⟨by decide, by decide⟩, by decide +kernel, by decide⟩
theorem W_X2_aWord_66 {G : GT} {X : CX} {d : Nat} {h0 : AH} {Q : State → Prop} (ok : Ok G X RX2 cX2_aWord 3 d h0) (hr : (cxm X).sig.returnType = none) (hd : 11 ≤ d) (hx : ∀ x ∈ (cxc X).exceptionTable.toList, False) {a0 : Nat} {h : AH} {z : ((Unit ⊕ Nat) × AH)} (hf : X2_aWord_66 a0 h = some z) (hk : Q = QMX G X h0 (rxv z.1) z.2) {lv : List (Nat × AV)} (hl : lle lv [(0, vr (some a0))]) : V G X 3 h0 Q h 66 lv [] := by
  refine V.sub hl ?_
  unfold X2_aWord_66 at hf
  refine v_aload_n ok 0 dX2_aWord_66 rfl rfl ?_
  refine v_iconst ok 3 dX2_aWord_67 rfl ?_
  refine v_aload_n ok 0 dX2_aWord_68 rfl rfl ?_
  refine v_gI ok fl_X2_61 (fun _ _ _ => rfl) dX2_aWord_69 hf (fun v1 hf => ?_)
  refine v_cVr ok (RX2, TX2, 8) cf_2.1 [vi 3, vi v1] (F := fun a => X2_wrong a 3 v1 h) (fun a v h1 _ hv => M_X2_wrong ok.2.2.2.2.2.2.1 (d := 1) (Nat.le_refl _) hv) (by exact Nat.le_trans (by decide) hd) cw_X2_wrong q684 q686 qs10 dX2_aWord_72 [] rfl (Nat.le_of_ble_eq_true rfl) hf (fun v2 h3 hf => ?_)
  exact v_athrow ok dX2_aWord_75 hf (fun a h3 h4 hf => VX.out ok hx h3 h4 (by cases hf; exact hk))
theorem W_X2_aWord_23 {G : GT} {X : CX} {d : Nat} {h0 : AH} {Q : State → Prop} (ok : Ok G X RX2 cX2_aWord 3 d h0) (hr : (cxm X).sig.returnType = none) (hd : 11 ≤ d) (hx : ∀ x ∈ (cxc X).exceptionTable.toList, False) {a0 : Nat} {x1 : Int32} {s0 : Option Nat} {s1 : Int32} {h : AH} {z : ((Unit ⊕ Nat) × AH)} (hf : X2_aWord_23 a0 x1 s0 s1 h = some z) (hk : Q = QMX G X h0 (rxv z.1) z.2) {lv : List (Nat × AV)} (hl : lle lv [(0, vr (some a0)), (1, vi x1)]) : V G X 3 h0 Q h 23 lv [vi s1, vr s0] := by
  refine V.sub hl ?_
  unfold X2_aWord_23 at hf
  refine v_iload_n ok 1 dX2_aWord_23 rfl rfl ?_
  refine v_cXv ok (RX2, TX2, 8) cf_2.1 [vi s1, vi x1] (F := fun a => X2_most a s1 x1 h) (fun a w h1 _ hv => M_X2_most ok.2.2.2.2.2.2.1 (d := 2) (Nat.le_refl _) hv) (by omega) cw_X2_most q680 q682 qs9 dX2_aWord_24 [] rfl (Nat.le_of_ble_eq_true rfl) hf (fun b h_ h3 h4 hf => VX.out ok hx h3 h4 (by cases hf; exact hk)) (fun _ h5 hf => ?_)
  refine v_new ok cf_9 rfl q962 q963 q192 df_9 dX2_aWord_27 hf (fun v6 h7 hf => ?_)
  refine v_dup ok dX2_aWord_30 rfl ?_
  refine v_aload_n ok 0 dX2_aWord_31 rfl rfl ?_
  refine v_cXr ok (RX2, TX2, 8) cf_2.1 [] (F := fun a => X2_name a h7) (fun a w h1 _ hv => M_X2_name ok.2.2.2.2.2.2.1 (d := 10) (Nat.le_refl _) hv) (by omega) cw_X2_name q964 q966 qs19 dX2_aWord_32 [vr v6, vr v6] rfl (Nat.le_of_ble_eq_true rfl) hf (fun b h_ h3 h4 hf => VX.out ok hx h3 h4 (by cases hf; exact hk)) (fun v8 h9 hf => ?_)
  refine v_cIv ok [vr v8] rfl (F := fun a => X9_init a v8 h9) (fun a h1 _ hv => M_X9_init ok.2.2.2.2.2.2.1 (d := 1) (Nat.le_refl _) hv) (by exact Nat.le_trans (by decide) hd) cw_X9_init q968 q969 dX2_aWord_35 [vr v6] rfl (Nat.le_of_ble_eq_true rfl) hf (fun h10 hf => ?_)
  refine v_astore_n ok 2 dX2_aWord_38 rfl (by decide) ?_
  refine v_aload_n ok 0 dX2_aWord_39 rfl rfl ?_
  refine v_gR ok fl_X2_103 (by first | exact Or.inl ⟨_, rfl⟩ | exact Or.inr ⟨_, rfl⟩) dX2_aWord_40 hf (fun v11 hf => ?_)
  refine v_aload_n ok 2 dX2_aWord_43 rfl rfl ?_
  refine v_gRN ok fl_X2_172 (by first | exact Or.inl ⟨_, rfl⟩ | exact Or.inr ⟨_, rfl⟩) dX2_aWord_44 hf (fun v12 hf => ?_)
  refine v_cVi ok (RX1, TX1, 9) cf_1.1 [vr v12] (F := fun a => X1_word a v12 h10) (fun a v h1 _ hv => M_X1_word ok.2.2.2.2.2.2.1 (d := 4) (Nat.le_refl _) hv) (by exact Nat.le_trans (by decide) hd) cw_X1_word q978 q979 q980 dX2_aWord_47 [] rfl (Nat.le_of_ble_eq_true rfl) hf (fun v13 h14 hf => ?_)
  refine v_iconst ok (-1) dX2_aWord_50 rfl ?_
  refine v_icmp_ne ok 66 dX2_aWord_51 rfl hf (fun hf => ?_) (fun hf => ?_)
  ·
    exact W_X2_aWord_66 ok hr hd hx hf hk ⟨rfl, trivial⟩
  ·
    refine v_aload_n ok 0 dX2_aWord_54 rfl rfl ?_
    refine v_gR ok fl_X2_103 (by first | exact Or.inl ⟨_, rfl⟩ | exact Or.inr ⟨_, rfl⟩) dX2_aWord_55 hf (fun v15 hf => ?_)
    refine v_iconst ok 0 dX2_aWord_58 rfl ?_
    refine v_aload_n ok 2 dX2_aWord_59 rfl rfl ?_
    refine v_cVi ok (RX1, TX1, 9) cf_1.1 [vi 0, vr v6] (F := fun a => X1_isIn a 0 v6 h14) (fun a v h1 _ hv => M_X1_isIn ok.2.2.2.2.2.2.1 (d := 7) (Nat.le_refl _) hv) (by exact Nat.le_trans (by decide) hd) cw_X1_isIn q984 q985 q986 dX2_aWord_60 [] rfl (Nat.le_of_ble_eq_true rfl) hf (fun v16 h17 hf => ?_)
    refine v_if_ne ok 76 dX2_aWord_63 rfl hf (fun hf => ?_) (fun hf => ?_)
    ·
      refine v_aload_n ok 0 dX2_aWord_76 rfl rfl ?_
      refine v_gR ok fl_X2_103 (by first | exact Or.inl ⟨_, rfl⟩ | exact Or.inr ⟨_, rfl⟩) dX2_aWord_77 hf (fun v18 hf => ?_)
      refine v_gRN ok fl_X2_162 (by first | exact Or.inl ⟨_, rfl⟩ | exact Or.inr ⟨_, rfl⟩) dX2_aWord_80 hf (fun v19 hf => ?_)
      refine v_aload_n ok 2 dX2_aWord_83 rfl rfl ?_
      refine v_cFi ok (RJ2, TJ2, 3) cf_23.1 [vr v6] (F := fun a => J2_add a v6 h17) (fun a v h1 _ hv => M_J2_add ok.2.2.2.2.2.2.1 (d := 7) (Nat.le_refl _) hv) (by exact Nat.le_trans (by decide) hd) cw_J2_add q957 q258 cwf_J2_add dX2_aWord_84 [] rfl (Nat.le_of_ble_eq_true rfl) hf (fun v20 h21 hf => ?_)
      refine v_pop ok dX2_aWord_89 rfl ?_
      exact v_vretX ok hr (by cases hf; exact hk) dX2_aWord_90
    ·
      exact W_X2_aWord_66 ok hr hd hx hf hk ⟨rfl, trivial⟩
theorem W_X2_aWord {G : GT} {X : CX} {d : Nat} {h0 : AH} {Q : State → Prop} (ok : Ok G X RX2 cX2_aWord 3 d h0) (hr : (cxm X).sig.returnType = none) (hd : 11 ≤ d) (hx : ∀ x ∈ (cxc X).exceptionTable.toList, False) {a0 : Nat} {x1 : Int32} {h : AH} {z : ((Unit ⊕ Nat) × AH)} (hf : X2_aWord a0 x1 h = some z) (hk : Q = QMX G X h0 (rxv z.1) z.2) {lv : List (Nat × AV)} (hl : lle lv [(0, vr (some a0)), (1, vi x1)]) : V G X 3 h0 Q h 0 lv [] := by
  refine V.sub hl ?_
  unfold X2_aWord at hf
  refine v_aload_n ok 0 dX2_aWord_0 rfl rfl ?_
  refine v_aload_n ok 0 dX2_aWord_1 rfl rfl ?_
  refine v_gR ok fl_X2_103 (by first | exact Or.inl ⟨_, rfl⟩ | exact Or.inr ⟨_, rfl⟩) dX2_aWord_2 hf (fun v22 hf => ?_)
  refine v_gRN ok fl_X2_162 (by first | exact Or.inl ⟨_, rfl⟩ | exact Or.inr ⟨_, rfl⟩) dX2_aWord_5 hf (fun v23 hf => ?_)
  refine v_cFi ok (RJ2, TJ2, 3) cf_23.1 [] (F := fun a => J2_size a h) (fun a v h1 _ hv => M_J2_size ok.2.2.2.2.2.2.1 (d := 1) (Nat.le_refl _) hv) (by exact Nat.le_trans (by decide) hd) cw_J2_size q920 q925 cwf_J2_size dX2_aWord_8 [vr (some a0)] rfl (Nat.le_of_ble_eq_true rfl) hf (fun v24 h25 hf => ?_)
  refine v_bipush ok 8 dX2_aWord_13 rfl ?_
  refine v_icmp_ne ok 22 dX2_aWord_15 rfl hf (fun hf => ?_) (fun hf => ?_)
  ·
    refine v_iconst ok 0 dX2_aWord_22 rfl ?_
    exact W_X2_aWord_23 ok hr hd hx hf hk ⟨rfl, rfl, trivial⟩
  ·
    refine v_iconst ok 1 dX2_aWord_18 rfl ?_
    refine v_goto ok 23 dX2_aWord_19 rfl ?_
    exact W_X2_aWord_23 ok hr hd hx hf hk ⟨rfl, rfl, trivial⟩
theorem M_X2_aWord {G : GT} {l : Launch} (hG : Glob G) {d : Nat} (hd : 11 ≤ d) {a0 : Nat} {x1 : Int32} {h : AH} {w : Unit ⊕ Nat} {h' : AH} (hf : X2_aWord a0 x1 h = some (w, h')) : MMX G l yX2_aWord cX2_aWord 3 none d [vr (some a0), vi x1] h (rxv w) h' := by
  refine mmx_of hG (by decide) (Nat.le_of_ble_eq_true rfl) (fun X hX ok hr hx => ?_)
  subst hX
  exact W_X2_aWord ok hr hd hx hf rfl ⟨rfl, rfl, trivial⟩
theorem cw_X2_number_2 : CW yX2_number_2 cX2_number_2 4 (Option.some Jvm.ClassFile.FieldType.int) 2 := ⟨q897, q177, ⟨by decide, by decide⟩, by decide +kernel, by decide⟩
def pkX2_number_2_34 (G : GT) (X : CX) (h0 : AH) (Q : State → Prop) (a0 : Nat) (x1 : Int32) (x2 : Int32) (o : ((Int32 × AH) ⊕ ((Int32 ⊕ Nat) × AH))) : Prop := match o with
  | .inl s => ∀ lv : List (Nat × AV), lle lv [(0, vr (some a0)), (1, vi x1), (2, vi x2), (3, vi s.1)] → V G X 4 h0 Q s.2 34 lv []
  | .inr z => Q = QMX G X h0 (rx vi z.1) z.2
theorem W_X2_number_2_61 {G : GT} {X : CX} {d : Nat} {h0 : AH} {Q : State → Prop} (ok : Ok G X RX2 cX2_number_2 4 d h0) (hr : (cxm X).sig.returnType = (Option.some Jvm.ClassFile.FieldType.int)) (hd : 3 ≤ d) (hx : ∀ x ∈ (cxc X).exceptionTable.toList, False) {a0 : Nat} {h : AH} {z : ((Int32 ⊕ Nat) × AH)} (hf : X2_number_2_61 a0 h = some z) (hk : Q = QMX G X h0 (rx vi z.1) z.2) {lv : List (Nat × AV)} (hl : lle lv [(0, vr (some a0))]) : V G X 4 h0 Q h 61 lv [] := by
  refine V.sub hl ?_
  unfold X2_number_2_61 at hf
  refine v_aload_n ok 0 dX2_number_2_61 rfl rfl ?_
  refine v_iconst ok 1 dX2_number_2_62 rfl ?_
  refine v_aload_n ok 0 dX2_number_2_63 rfl rfl ?_
  refine v_gI ok fl_X2_36 (fun _ _ _ => rfl) dX2_number_2_64 hf (fun v1 hf => ?_)
  refine v_cVr ok (RX2, TX2, 8) cf_2.1 [vi 1, vi v1] (F := fun a => X2_wrong a 1 v1 h) (fun a v h1 _ hv => M_X2_wrong ok.2.2.2.2.2.2.1 (d := 1) (Nat.le_refl _) hv) (by exact Nat.le_trans (by decide) hd) cw_X2_wrong q684 q686 qs10 dX2_number_2_67 [] rfl (Nat.le_of_ble_eq_true rfl) hf (fun v2 h3 hf => ?_)
  exact v_athrow ok dX2_number_2_70 hf (fun a h3 h4 hf => VX.out ok hx h3 h4 (by cases hf; exact hk))
theorem W_X2_number_2_101 {G : GT} {X : CX} {d : Nat} {h0 : AH} {Q : State → Prop} (ok : Ok G X RX2 cX2_number_2 4 d h0) (hr : (cxm X).sig.returnType = (Option.some Jvm.ClassFile.FieldType.int)) (hd : 3 ≤ d) (hx : ∀ x ∈ (cxc X).exceptionTable.toList, False) {a0 : Nat} {x1 : Int32} {x2 : Int32} {x3 : Int32} {h : AH} {z : ((Int32 ⊕ Nat) × AH)} (hf : X2_number_2_101 a0 x1 x2 x3 h = some z) (hk : Q = QMX G X h0 (rx vi z.1) z.2) {lv : List (Nat × AV)} (hl : lle lv [(0, vr (some a0)), (1, vi x1), (2, vi x2), (3, vi x3)]) : V G X 4 h0 Q h 101 lv [] := by
  refine V.sub hl ?_
  unfold X2_number_2_101 at hf
  refine v_iload_n ok 3 dX2_number_2_101 rfl rfl ?_
  refine v_iload_n ok 1 dX2_number_2_102 rfl rfl ?_
  refine v_iload_n ok 2 dX2_number_2_103 rfl rfl ?_
  refine v_cSNi ok [vi x3, vi x1, vi x2] (F := X0_is x3 x1 x2 h) (fun v h1 hv => M_X0_is ok.2.2.2.2.2.2.1 (d := 1) (Nat.le_refl _) hv) (by exact Nat.le_trans (by decide) hd) cw_X0_is q898 q899 dX2_number_2_104 [] rfl (Nat.le_of_ble_eq_true rfl) hf (fun v4 h5 hf => ?_)
  refine v_if_ne ok 120 dX2_number_2_107 rfl hf (fun hf => ?_) (fun hf => ?_)
  ·
    refine v_iload_n ok 3 dX2_number_2_120 rfl rfl ?_
    exact v_iretX ok hr (by cases hf; exact hk) dX2_number_2_121
  ·
    refine v_aload_n ok 0 dX2_number_2_110 rfl rfl ?_
    refine v_iconst ok 2 dX2_number_2_111 rfl ?_
    refine v_aload_n ok 0 dX2_number_2_112 rfl rfl ?_
    refine v_gI ok fl_X2_61 (fun _ _ _ => rfl) dX2_number_2_113 hf (fun v6 hf => ?_)
    refine v_cVr ok (RX2, TX2, 8) cf_2.1 [vi 2, vi v6] (F := fun a => X2_wrong a 2 v6 h5) (fun a v h1 _ hv => M_X2_wrong ok.2.2.2.2.2.2.1 (d := 1) (Nat.le_refl _) hv) (by exact Nat.le_trans (by decide) hd) cw_X2_wrong q684 q686 qs10 dX2_number_2_116 [] rfl (Nat.le_of_ble_eq_true rfl) hf (fun v7 h8 hf => ?_)
    exact v_athrow ok dX2_number_2_119 hf (fun a h3 h4 hf => VX.out ok hx h3 h4 (by cases hf; exact hk))
theorem W_X2_number_2_34b {G : GT} {X : CX} {d : Nat} {h0 : AH} {Q : State → Prop} (ok : Ok G X RX2 cX2_number_2 4 d h0) (hr : (cxm X).sig.returnType = (Option.some Jvm.ClassFile.FieldType.int)) (hd : 3 ≤ d) (hx : ∀ x ∈ (cxc X).exceptionTable.toList, False) {a0 : Nat} {x1 : Int32} {x2 : Int32} {x3 : Int32} {h : AH} {z : ((Int32 × AH) ⊕ ((Int32 ⊕ Nat) × AH))} (hf : X2_number_2_34b  a0 x1 x2 x3 h = some z) (hk : pkX2_number_2_34 G X h0 Q a0 x1 x2 z) {lv : List (Nat × AV)} (hl : lle lv [(0, vr (some a0)), (1, vi x1), (2, vi x2), (3, vi x3)]) : V G X 4 h0 Q h 34 lv [] := by
  refine V.sub hl ?_
  unfold X2_number_2_34b at hf
  refine v_aload_n ok 0 dX2_number_2_34 rfl rfl ?_
  refine v_aload_n ok 0 dX2_number_2_35 rfl rfl ?_
  refine v_gI ok fl_X2_36 (fun _ _ _ => rfl) dX2_number_2_36 hf (fun v9 hf => ?_)
  refine v_cVi ok (RX2, TX2, 8) cf_2.1 [vi v9] (F := fun a => X2_byteAt a v9 h) (fun a v h1 _ hv => M_X2_byteAt ok.2.2.2.2.2.2.1 (d := 1) (Nat.le_refl _) hv) (by exact Nat.le_trans (by decide) hd) cw_X2_byteAt q676 q678 qs8 dX2_number_2_39 [] rfl (Nat.le_of_ble_eq_true rfl) hf (fun v10 h11 hf => ?_)
  refine v_cSNi ok [vi v10] (F := X0_isDigit v10 h11) (fun v h1 hv => M_X0_isDigit ok.2.2.2.2.2.2.1 (d := 1) (Nat.le_refl _) hv) (by exact Nat.le_trans (by decide) hd) cw_X0_isDigit q699 q700 dX2_number_2_42 [] rfl (Nat.le_of_ble_eq_true rfl) hf (fun v12 h13 hf => ?_)
  refine v_if_eq ok 101 dX2_number_2_45 rfl hf (fun hf => ?_) (fun hf => ?_)
  ·
    obtain ⟨o, ho, hz⟩ := ob hf
    cases hz; exact W_X2_number_2_101 ok hr hd hx ho hk ⟨rfl, rfl, rfl, rfl, trivial⟩
  ·
    refine v_aload_n ok 0 dX2_number_2_48 rfl rfl ?_
    refine v_gI ok fl_X2_36 (fun _ _ _ => rfl) dX2_number_2_49 hf (fun v14 hf => ?_)
    refine v_aload_n ok 0 dX2_number_2_52 rfl rfl ?_
    refine v_gI ok fl_X2_61 (fun _ _ _ => rfl) dX2_number_2_53 hf (fun v15 hf => ?_)
    refine v_isub ok dX2_number_2_56 ?_
    refine v_iconst ok 4 dX2_number_2_57 rfl ?_
    refine v_icmp_ne ok 71 dX2_number_2_58 rfl hf (fun hf => ?_) (fun hf => ?_)
    ·
      refine v_bipush ok 10 dX2_number_2_71 rfl ?_
      refine v_iload_n ok 3 dX2_number_2_73 rfl rfl ?_
      refine v_imul ok dX2_number_2_74 ?_
      refine v_aload_n ok 0 dX2_number_2_75 rfl rfl ?_
      refine v_aload_n ok 0 dX2_number_2_76 rfl rfl ?_
      refine v_gI ok fl_X2_36 (fun _ _ _ => rfl) dX2_number_2_77 hf (fun v16 hf => ?_)
      refine v_cVi ok (RX2, TX2, 8) cf_2.1 [vi v16] (F := fun a => X2_byteAt a v16 h13) (fun a v h1 _ hv => M_X2_byteAt ok.2.2.2.2.2.2.1 (d := 1) (Nat.le_refl _) hv) (by exact Nat.le_trans (by decide) hd) cw_X2_byteAt q676 q678 qs8 dX2_number_2_80 [vi (10 * x3)] rfl (Nat.le_of_ble_eq_true rfl) hf (fun v17 h18 hf => ?_)
      refine v_iadd ok dX2_number_2_83 ?_
      refine v_bipush ok 48 dX2_number_2_84 rfl ?_
      refine v_isub ok dX2_number_2_86 ?_
      refine v_istore_n ok 3 dX2_number_2_87 rfl (by decide) ?_
      refine v_aload_n ok 0 dX2_number_2_88 rfl rfl ?_
      refine v_dup ok dX2_number_2_89 rfl ?_
      refine v_gI ok fl_X2_36 (fun _ _ _ => rfl) dX2_number_2_90 hf (fun v19 hf => ?_)
      refine v_iconst ok 1 dX2_number_2_93 rfl ?_
      refine v_iadd ok dX2_number_2_94 ?_
      refine v_pI ok fl_X2_36 ⟨fun _ _ _ => rfl, rfl⟩ (FN.of cf_2.1 rfl) dX2_number_2_95 hf (fun h20 hf => ?_)
      refine v_goto ok 34 dX2_number_2_98 rfl ?_
      cases hf; exact hk _ ⟨rfl, rfl, rfl, rfl, trivial⟩
    ·
      obtain ⟨o, ho, hz⟩ := ob hf
      cases hz; exact W_X2_number_2_61 ok hr hd hx ho hk ⟨rfl, trivial⟩
theorem W_X2_number_2_34 {G : GT} {X : CX} {d : Nat} {h0 : AH} {Q : State → Prop} (ok : Ok G X RX2 cX2_number_2 4 d h0) (hr : (cxm X).sig.returnType = (Option.some Jvm.ClassFile.FieldType.int)) (hd : 3 ≤ d) (hx : ∀ x ∈ (cxc X).exceptionTable.toList, False) {a0 : Nat} {x1 : Int32} {x2 : Int32} {x3 : Int32} {h : AH} {z : ((Int32 ⊕ Nat) × AH)} (hf : X2_number_2_34  a0 x1 x2 x3 h = some z) (hk : Q = QMX G X h0 (rx vi z.1) z.2) {lv : List (Nat × AV)} (hl : lle lv [(0, vr (some a0)), (1, vi x1), (2, vi x2), (3, vi x3)]) : V G X 4 h0 Q h 34 lv [] := by
  unfold X2_number_2_34 at hf
  exact loopC_walk (Wh := fun s : Int32 × AH => ∀ lv : List (Nat × AV), lle lv [(0, vr (some a0)), (1, vi x1), (2, vi x2), (3, vi s.1)] → V G X 4 h0 Q s.2 34 lv []) (PK := fun z => Q = QMX G X h0 (rx vi z.1) z.2) (fun s o hf hk lv hl => W_X2_number_2_34b ok hr hd hx hf (by cases o <;> exact hk) hl) _ z hf hk lv hl
theorem W_X2_number_2 {G : GT} {X : CX} {d : Nat} {h0 : AH} {Q : State → Prop} (ok : Ok G X RX2 cX2_number_2 4 d h0) (hr : (cxm X).sig.returnType = (Option.some Jvm.ClassFile.FieldType.int)) (hd : 3 ≤ d) (hx : ∀ x ∈ (cxc X).exceptionTable.toList, False) {a0 : Nat} {x1 : Int32} {x2 : Int32} {h : AH} {z : ((Int32 ⊕ Nat) × AH)} (hf : X2_number_2 a0 x1 x2 h = some z) (hk : Q = QMX G X h0 (rx vi z.1) z.2) {lv : List (Nat × AV)} (hl : lle lv [(0, vr (some a0)), (1, vi x1), (2, vi x2)]) : V G X 4 h0 Q h 0 lv [] := by
  refine V.sub hl ?_
  unfold X2_number_2 at hf
  refine v_aload_n ok 0 dX2_number_2_0 rfl rfl ?_
  refine v_cVi ok (RX2, TX2, 8) cf_2.1 [] (F := fun a => X2_here a h) (fun a v h1 _ hv => M_X2_here ok.2.2.2.2.2.2.1 (d := 2) (Nat.le_refl _) hv) (by exact Nat.le_trans (by decide) hd) cw_X2_here q672 q674 qs7 dX2_number_2_1 [] rfl (Nat.le_of_ble_eq_true rfl) hf (fun v21 h22 hf => ?_)
  refine v_cSNi ok [vi v21] (F := X0_isDigit v21 h22) (fun v h1 hv => M_X0_isDigit ok.2.2.2.2.2.2.1 (d := 1) (Nat.le_refl _) hv) (by exact Nat.le_trans (by decide) hd) cw_X0_isDigit q699 q700 dX2_number_2_4 [] rfl (Nat.le_of_ble_eq_true rfl) hf (fun v23 h24 hf => ?_)
  refine v_if_ne ok 20 dX2_number_2_7 rfl hf (fun hf => ?_) (fun hf => ?_)
  ·
    refine v_aload_n ok 0 dX2_number_2_20 rfl rfl ?_
    refine v_cXv ok (RX2, TX2, 8) cf_2.1 [] (F := fun a => X2_parted a h24) (fun a w h1 _ hv => M_X2_parted ok.2.2.2.2.2.2.1 (d := 2) (Nat.le_refl _) hv) (by omega) cw_X2_parted q695 q697 qs12 dX2_number_2_21 [] rfl (Nat.le_of_ble_eq_true rfl) hf (fun b h_ h3 h4 hf => VX.out ok hx h3 h4 (by cases hf; exact hk)) (fun _ h26 hf => ?_)
    refine v_aload_n ok 0 dX2_number_2_24 rfl rfl ?_
    refine v_aload_n ok 0 dX2_number_2_25 rfl rfl ?_
    refine v_gI ok fl_X2_36 (fun _ _ _ => rfl) dX2_number_2_26 hf (fun v27 hf => ?_)
    refine v_pI ok fl_X2_61 ⟨fun _ _ _ => rfl, rfl⟩ (FN.of cf_2.1 rfl) dX2_number_2_29 hf (fun h28 hf => ?_)
    refine v_iconst ok 0 dX2_number_2_32 rfl ?_
    refine v_istore_n ok 3 dX2_number_2_33 rfl (by decide) ?_
    exact W_X2_number_2_34 ok hr hd hx hf hk ⟨rfl, rfl, rfl, rfl, trivial⟩
  ·
    refine v_aload_n ok 0 dX2_number_2_10 rfl rfl ?_
    refine v_iconst ok 1 dX2_number_2_11 rfl ?_
    refine v_aload_n ok 0 dX2_number_2_12 rfl rfl ?_
    refine v_gI ok fl_X2_36 (fun _ _ _ => rfl) dX2_number_2_13 hf (fun v29 hf => ?_)
    refine v_cVr ok (RX2, TX2, 8) cf_2.1 [vi 1, vi v29] (F := fun a => X2_wrong a 1 v29 h24) (fun a v h1 _ hv => M_X2_wrong ok.2.2.2.2.2.2.1 (d := 1) (Nat.le_refl _) hv) (by exact Nat.le_trans (by decide) hd) cw_X2_wrong q684 q686 qs10 dX2_number_2_16 [] rfl (Nat.le_of_ble_eq_true rfl) hf (fun v30 h31 hf => ?_)
    exact v_athrow ok dX2_number_2_19 hf (fun a h3 h4 hf => VX.out ok hx h3 h4 (by cases hf; exact hk))
theorem M_X2_number_2 {G : GT} {l : Launch} (hG : Glob G) {d : Nat} (hd : 3 ≤ d) {a0 : Nat} {x1 : Int32} {x2 : Int32} {h : AH} {w : Int32 ⊕ Nat} {h' : AH} (hf : X2_number_2 a0 x1 x2 h = some (w, h')) : MMX G l yX2_number_2 cX2_number_2 4 (Option.some Jvm.ClassFile.FieldType.int) d [vr (some a0), vi x1, vi x2] h (rx vi w) h' := by
  refine mmx_of hG (by decide) (Nat.le_of_ble_eq_true rfl) (fun X hX ok hr hx => ?_)
  subst hX
  exact W_X2_number_2 ok hr hd hx hf rfl ⟨rfl, rfl, rfl, trivial⟩
theorem cw_X2_word_2 : CW yX2_word_2 cX2_word_2 2 none 1 := ⟨q893, q177, ⟨by decide, by decide⟩, by decide +kernel, by decide⟩
theorem W_X2_word_2 {G : GT} {X : CX} {d : Nat} {h0 : AH} {Q : State → Prop} (ok : Ok G X RX2 cX2_word_2 2 d h0) (hr : (cxm X).sig.returnType = none) (hd : 10 ≤ d) (hx : ∀ x ∈ (cxc X).exceptionTable.toList, False) {a0 : Nat} {x1 : Option Nat} {h : AH} {z : ((Unit ⊕ Nat) × AH)} (hf : X2_word_2 a0 x1 h = some z) (hk : Q = QMX G X h0 (rxv z.1) z.2) {lv : List (Nat × AV)} (hl : lle lv [(0, vr (some a0)), (1, vr x1)]) : V G X 2 h0 Q h 0 lv [] := by
  refine V.sub hl ?_
  unfold X2_word_2 at hf
  refine v_aload_n ok 0 dX2_word_2_0 rfl rfl ?_
  refine v_cXr ok (RX2, TX2, 8) cf_2.1 [] (F := fun a => X2_word a h) (fun a w h1 _ hv => M_X2_word ok.2.2.2.2.2.2.1 (d := 9) (Nat.le_refl _) hv) (by omega) cw_X2_word q688 q690 qs11 dX2_word_2_1 [] rfl (Nat.le_of_ble_eq_true rfl) hf (fun b h_ h3 h4 hf => VX.out ok hx h3 h4 (by cases hf; exact hk)) (fun v1 h2 hf => ?_)
  refine v_aload_n ok 1 dX2_word_2_4 rfl rfl ?_
  refine v_cVi ok (RJ9, TJ9, 4) cf_24.1 [vr x1] (F := fun a => J9_equals a x1 h2) (fun a v h1 _ hv => M_J9_equals ok.2.2.2.2.2.2.1 (d := 2) (Nat.le_refl _) hv) (by exact Nat.le_trans (by decide) hd) cw_J9_equals q838 q839 q840 dX2_word_2_5 [] rfl (Nat.le_of_ble_eq_true rfl) hf (fun v3 h4 hf => ?_)
  refine v_if_ne ok 21 dX2_word_2_8 rfl hf (fun hf => ?_) (fun hf => ?_)
  ·
    exact v_vretX ok hr (by cases hf; exact hk) dX2_word_2_21
  ·
    refine v_aload_n ok 0 dX2_word_2_11 rfl rfl ?_
    refine v_iconst ok 1 dX2_word_2_12 rfl ?_
    refine v_aload_n ok 0 dX2_word_2_13 rfl rfl ?_
    refine v_gI ok fl_X2_61 (fun _ _ _ => rfl) dX2_word_2_14 hf (fun v5 hf => ?_)
    refine v_cVr ok (RX2, TX2, 8) cf_2.1 [vi 1, vi v5] (F := fun a => X2_wrong a 1 v5 h4) (fun a v h1 _ hv => M_X2_wrong ok.2.2.2.2.2.2.1 (d := 1) (Nat.le_refl _) hv) (by exact Nat.le_trans (by decide) hd) cw_X2_wrong q684 q686 qs10 dX2_word_2_17 [] rfl (Nat.le_of_ble_eq_true rfl) hf (fun v6 h7 hf => ?_)
    exact v_athrow ok dX2_word_2_20 hf (fun a h3 h4 hf => VX.out ok hx h3 h4 (by cases hf; exact hk))
theorem M_X2_word_2 {G : GT} {l : Launch} (hG : Glob G) {d : Nat} (hd : 10 ≤ d) {a0 : Nat} {x1 : Option Nat} {h : AH} {w : Unit ⊕ Nat} {h' : AH} (hf : X2_word_2 a0 x1 h = some (w, h')) : MMX G l yX2_word_2 cX2_word_2 2 none d [vr (some a0), vr x1] h (rxv w) h' := by
  refine mmx_of hG (by decide) (Nat.le_of_ble_eq_true rfl) (fun X hX ok hr hx => ?_)
  subst hX
  exact W_X2_word_2 ok hr hd hx hf rfl ⟨rfl, rfl, trivial⟩
theorem cw_X2_number : CW yX2_number cX2_number 4 (Option.some Jvm.ClassFile.FieldType.int) 3 := ⟨q889, q177, ⟨by decide, by decide⟩, by decide +kernel, by decide⟩
theorem W_X2_number {G : GT} {X : CX} {d : Nat} {h0 : AH} {Q : State → Prop} (ok : Ok G X RX2 cX2_number 4 d h0) (hr : (cxm X).sig.returnType = (Option.some Jvm.ClassFile.FieldType.int)) (hd : 11 ≤ d) (hx : ∀ x ∈ (cxc X).exceptionTable.toList, False) {a0 : Nat} {x1 : Option Nat} {x2 : Int32} {x3 : Int32} {h : AH} {z : ((Int32 ⊕ Nat) × AH)} (hf : X2_number a0 x1 x2 x3 h = some z) (hk : Q = QMX G X h0 (rx vi z.1) z.2) {lv : List (Nat × AV)} (hl : lle lv [(0, vr (some a0)), (1, vr x1), (2, vi x2), (3, vi x3)]) : V G X 4 h0 Q h 0 lv [] := by
  refine V.sub hl ?_
  unfold X2_number at hf
  refine v_aload_n ok 0 dX2_number_0 rfl rfl ?_
  refine v_aload_n ok 1 dX2_number_1 rfl rfl ?_
  refine v_cXv ok (RX2, TX2, 8) cf_2.1 [vr x1] (F := fun a => X2_word_2 a x1 h) (fun a w h1 _ hv => M_X2_word_2 ok.2.2.2.2.2.2.1 (d := 10) (Nat.le_refl _) hv) (by omega) cw_X2_word_2 q890 q892 qs16 dX2_number_2 [] rfl (Nat.le_of_ble_eq_true rfl) hf (fun b h_ h3 h4 hf => VX.out ok hx h3 h4 (by cases hf; exact hk)) (fun _ h2 hf => ?_)
  refine v_aload_n ok 0 dX2_number_5 rfl rfl ?_
  refine v_iload_n ok 2 dX2_number_6 rfl rfl ?_
  refine v_iload_n ok 3 dX2_number_7 rfl rfl ?_
  refine v_cXi ok (RX2, TX2, 8) cf_2.1 [vi x2, vi x3] (F := fun a => X2_number_2 a x2 x3 h2) (fun a w h1 _ hv => M_X2_number_2 ok.2.2.2.2.2.2.1 (d := 3) (Nat.le_refl _) hv) (by omega) cw_X2_number_2 q894 q896 qs17 dX2_number_8 [] rfl (Nat.le_of_ble_eq_true rfl) hf (fun b h_ h3 h4 hf => VX.out ok hx h3 h4 (by cases hf; exact hk)) (fun v3 h4 hf => ?_)
  exact v_iretX ok hr (by cases hf; exact hk) dX2_number_11
theorem M_X2_number {G : GT} {l : Launch} (hG : Glob G) {d : Nat} (hd : 11 ≤ d) {a0 : Nat} {x1 : Option Nat} {x2 : Int32} {x3 : Int32} {h : AH} {w : Int32 ⊕ Nat} {h' : AH} (hf : X2_number a0 x1 x2 x3 h = some (w, h')) : MMX G l yX2_number cX2_number 4 (Option.some Jvm.ClassFile.FieldType.int) d [vr (some a0), vr x1, vi x2, vi x3] h (rx vi w) h' := by
  refine mmx_of hG (by decide) (Nat.le_of_ble_eq_true rfl) (fun X hX ok hr hx => ?_)
  subst hX
  exact W_X2_number ok hr hd hx hf rfl ⟨rfl, rfl, rfl, rfl, trivial⟩
theorem cw_X2_board : CW yX2_board cX2_board 4 none 1 := ⟨q1002, q177, ⟨by decide, by decide⟩, by decide +kernel, by decide⟩
theorem W_X2_board_22 {G : GT} {X : CX} {d : Nat} {h0 : AH} {Q : State → Prop} (ok : Ok G X RX2 cX2_board 4 d h0) (hr : (cxm X).sig.returnType = none) (hd : 12 ≤ d) (hx : ∀ x ∈ (cxc X).exceptionTable.toList, False) {a0 : Nat} {x1 : Int32} {s0 : Option Nat} {s1 : Int32} {h : AH} {z : ((Unit ⊕ Nat) × AH)} (hf : X2_board_22 a0 x1 s0 s1 h = some z) (hk : Q = QMX G X h0 (rxv z.1) z.2) {lv : List (Nat × AV)} (hl : lle lv [(0, vr (some a0)), (1, vi x1)]) : V G X 4 h0 Q h 22 lv [vi s1, vr s0] := by
  refine V.sub hl ?_
  unfold X2_board_22 at hf
  refine v_iload_n ok 1 dX2_board_22 rfl rfl ?_
  refine v_cXv ok (RX2, TX2, 8) cf_2.1 [vi s1, vi x1] (F := fun a => X2_most a s1 x1 h) (fun a w h1 _ hv => M_X2_most ok.2.2.2.2.2.2.1 (d := 2) (Nat.le_refl _) hv) (by omega) cw_X2_most q680 q682 qs9 dX2_board_23 [] rfl (Nat.le_of_ble_eq_true rfl) hf (fun b h_ h3 h4 hf => VX.out ok hx h3 h4 (by cases hf; exact hk)) (fun _ h2 hf => ?_)
  refine v_aload_n ok 0 dX2_board_26 rfl rfl ?_
  refine v_gR ok fl_X2_103 (by first | exact Or.inl ⟨_, rfl⟩ | exact Or.inr ⟨_, rfl⟩) dX2_board_27 hf (fun v3 hf => ?_)
  refine v_aload_n ok 0 dX2_board_30 rfl rfl ?_
  refine v_cXr ok (RX2, TX2, 8) cf_2.1 [] (F := fun a => X2_name a h2) (fun a w h1 _ hv => M_X2_name ok.2.2.2.2.2.2.1 (d := 10) (Nat.le_refl _) hv) (by omega) cw_X2_name q964 q966 qs19 dX2_board_31 [vr v3] rfl (Nat.le_of_ble_eq_true rfl) hf (fun b h_ h3 h4 hf => VX.out ok hx h3 h4 (by cases hf; exact hk)) (fun v4 h5 hf => ?_)
  refine v_cVi ok (RX1, TX1, 9) cf_1.1 [vr v4] (F := fun a => X1_word a v4 h5) (fun a v h1 _ hv => M_X1_word ok.2.2.2.2.2.2.1 (d := 4) (Nat.le_refl _) hv) (by exact Nat.le_trans (by decide) hd) cw_X1_word q978 q979 q980 dX2_board_34 [] rfl (Nat.le_of_ble_eq_true rfl) hf (fun v6 h7 hf => ?_)
  refine v_istore_n ok 2 dX2_board_37 rfl (by decide) ?_
  refine v_iload_n ok 2 dX2_board_38 rfl rfl ?_
  refine v_iconst ok (-1) dX2_board_39 rfl ?_
  refine v_icmp_ne ok 53 dX2_board_40 rfl hf (fun hf => ?_) (fun hf => ?_)
  ·
    refine v_aload_n ok 0 dX2_board_53 rfl rfl ?_
    refine v_ldcS ok (a0 := 22) (tx := "hand") (List.mem_of_getElem? (i := 34) rfl) (by decide) dX2_board_54 ?_
    refine v_iconst ok 0 dX2_board_56 rfl ?_
    refine v_iconst ok 1 dX2_board_57 rfl ?_
    refine v_cXi ok (RX2, TX2, 8) cf_2.1 [vr (some 22), vi 0, vi 1] (F := fun a => X2_number a (some 22) 0 1 h7) (fun a w h1 _ hv => M_X2_number ok.2.2.2.2.2.2.1 (d := 11) (Nat.le_refl _) hv) (by omega) cw_X2_number q886 q888 qs15 dX2_board_58 [] rfl (Nat.le_of_ble_eq_true rfl) hf (fun b h_ h3 h4 hf => VX.out ok hx h3 h4 (by cases hf; exact hk)) (fun v8 h9 hf => ?_)
    refine v_istore_n ok 3 dX2_board_61 rfl (by decide) ?_
    refine v_aload_n ok 0 dX2_board_62 rfl rfl ?_
    refine v_gR ok fl_X2_103 (by first | exact Or.inl ⟨_, rfl⟩ | exact Or.inr ⟨_, rfl⟩) dX2_board_63 hf (fun v10 hf => ?_)
    refine v_iload_n ok 3 dX2_board_66 rfl rfl ?_
    refine v_aload_n ok 0 dX2_board_67 rfl rfl ?_
    refine v_gR ok fl_X2_103 (by first | exact Or.inl ⟨_, rfl⟩ | exact Or.inr ⟨_, rfl⟩) dX2_board_68 hf (fun v11 hf => ?_)
    refine v_gRN ok fl_X2_162 (by first | exact Or.inl ⟨_, rfl⟩ | exact Or.inr ⟨_, rfl⟩) dX2_board_71 hf (fun v12 hf => ?_)
    refine v_iload_n ok 2 dX2_board_74 rfl rfl ?_
    refine v_cFr ok (RJ2, TJ2, 3) cf_23.1 [vi v6] (F := fun a => J2_get a v6 h9) (fun a v h1 _ hv => M_J2_get ok.2.2.2.2.2.2.1 (d := 3) (Nat.le_refl _) hv) (by exact Nat.le_trans (by decide) hd) cw_J2_get q902 q907 cwf_J2_get dX2_board_75 [vi v8, vr v10] rfl (Nat.le_of_ble_eq_true rfl) hf (fun v13 h14 hf => ?_)
    refine v_cast_ ok ck_TurnedBoards_Word q962 dX2_board_80 hf (fun hf => ?_)
    refine v_cVi ok (RX1, TX1, 9) cf_1.1 [vi v8, vr v13] (F := fun a => X1_isIn a v8 v13 h14) (fun a v h1 _ hv => M_X1_isIn ok.2.2.2.2.2.2.1 (d := 7) (Nat.le_refl _) hv) (by exact Nat.le_trans (by decide) hd) cw_X1_isIn q984 q985 q986 dX2_board_83 [] rfl (Nat.le_of_ble_eq_true rfl) hf (fun v15 h16 hf => ?_)
    refine v_if_ne ok 99 dX2_board_86 rfl hf (fun hf => ?_) (fun hf => ?_)
    ·
      refine v_aload_n ok 0 dX2_board_99 rfl rfl ?_
      refine v_gR ok fl_X2_103 (by first | exact Or.inl ⟨_, rfl⟩ | exact Or.inr ⟨_, rfl⟩) dX2_board_100 hf (fun v17 hf => ?_)
      refine v_gRN ok fl_X2_182 (by first | exact Or.inl ⟨_, rfl⟩ | exact Or.inr ⟨_, rfl⟩) dX2_board_103 hf (fun v18 hf => ?_)
      refine v_new ok cf_10 rfl q1003 q1004 q193 df_10 dX2_board_106 hf (fun v19 h20 hf => ?_)
      refine v_dup ok dX2_board_109 rfl ?_
      refine v_iload_n ok 2 dX2_board_110 rfl rfl ?_
      refine v_iload_n ok 3 dX2_board_111 rfl rfl ?_
      refine v_cIv ok [vi v6, vi v8] rfl (F := fun a => X10_init a v6 v8 h20) (fun a h1 _ hv => M_X10_init ok.2.2.2.2.2.2.1 (d := 1) (Nat.le_refl _) hv) (by exact Nat.le_trans (by decide) hd) cw_X10_init q1005 q1006 dX2_board_112 [vr v19, vr v18] rfl (Nat.le_of_ble_eq_true rfl) hf (fun h21 hf => ?_)
      refine v_cFi ok (RJ2, TJ2, 3) cf_23.1 [vr v19] (F := fun a => J2_add a v19 h21) (fun a v h1 _ hv => M_J2_add ok.2.2.2.2.2.2.1 (d := 7) (Nat.le_refl _) hv) (by exact Nat.le_trans (by decide) hd) cw_J2_add q957 q258 cwf_J2_add dX2_board_115 [] rfl (Nat.le_of_ble_eq_true rfl) hf (fun v22 h23 hf => ?_)
      refine v_pop ok dX2_board_120 rfl ?_
      exact v_vretX ok hr (by cases hf; exact hk) dX2_board_121
    ·
      refine v_aload_n ok 0 dX2_board_89 rfl rfl ?_
      refine v_iconst ok 2 dX2_board_90 rfl ?_
      refine v_aload_n ok 0 dX2_board_91 rfl rfl ?_
      refine v_gI ok fl_X2_61 (fun _ _ _ => rfl) dX2_board_92 hf (fun v24 hf => ?_)
      refine v_cVr ok (RX2, TX2, 8) cf_2.1 [vi 2, vi v24] (F := fun a => X2_wrong a 2 v24 h16) (fun a v h1 _ hv => M_X2_wrong ok.2.2.2.2.2.2.1 (d := 1) (Nat.le_refl _) hv) (by exact Nat.le_trans (by decide) hd) cw_X2_wrong q684 q686 qs10 dX2_board_95 [] rfl (Nat.le_of_ble_eq_true rfl) hf (fun v25 h26 hf => ?_)
      exact v_athrow ok dX2_board_98 hf (fun a h3 h4 hf => VX.out ok hx h3 h4 (by cases hf; exact hk))
  ·
    refine v_aload_n ok 0 dX2_board_43 rfl rfl ?_
    refine v_iconst ok 3 dX2_board_44 rfl ?_
    refine v_aload_n ok 0 dX2_board_45 rfl rfl ?_
    refine v_gI ok fl_X2_61 (fun _ _ _ => rfl) dX2_board_46 hf (fun v27 hf => ?_)
    refine v_cVr ok (RX2, TX2, 8) cf_2.1 [vi 3, vi v27] (F := fun a => X2_wrong a 3 v27 h7) (fun a v h1 _ hv => M_X2_wrong ok.2.2.2.2.2.2.1 (d := 1) (Nat.le_refl _) hv) (by exact Nat.le_trans (by decide) hd) cw_X2_wrong q684 q686 qs10 dX2_board_49 [] rfl (Nat.le_of_ble_eq_true rfl) hf (fun v28 h29 hf => ?_)
    exact v_athrow ok dX2_board_52 hf (fun a h3 h4 hf => VX.out ok hx h3 h4 (by cases hf; exact hk))
theorem W_X2_board {G : GT} {X : CX} {d : Nat} {h0 : AH} {Q : State → Prop} (ok : Ok G X RX2 cX2_board 4 d h0) (hr : (cxm X).sig.returnType = none) (hd : 12 ≤ d) (hx : ∀ x ∈ (cxc X).exceptionTable.toList, False) {a0 : Nat} {x1 : Int32} {h : AH} {z : ((Unit ⊕ Nat) × AH)} (hf : X2_board a0 x1 h = some z) (hk : Q = QMX G X h0 (rxv z.1) z.2) {lv : List (Nat × AV)} (hl : lle lv [(0, vr (some a0)), (1, vi x1)]) : V G X 4 h0 Q h 0 lv [] := by
  refine V.sub hl ?_
  unfold X2_board at hf
  refine v_aload_n ok 0 dX2_board_0 rfl rfl ?_
  refine v_aload_n ok 0 dX2_board_1 rfl rfl ?_
  refine v_gR ok fl_X2_103 (by first | exact Or.inl ⟨_, rfl⟩ | exact Or.inr ⟨_, rfl⟩) dX2_board_2 hf (fun v30 hf => ?_)
  refine v_gRN ok fl_X2_182 (by first | exact Or.inl ⟨_, rfl⟩ | exact Or.inr ⟨_, rfl⟩) dX2_board_5 hf (fun v31 hf => ?_)
  refine v_cFi ok (RJ2, TJ2, 3) cf_23.1 [] (F := fun a => J2_size a h) (fun a v h1 _ hv => M_J2_size ok.2.2.2.2.2.2.1 (d := 1) (Nat.le_refl _) hv) (by exact Nat.le_trans (by decide) hd) cw_J2_size q920 q925 cwf_J2_size dX2_board_8 [vr (some a0)] rfl (Nat.le_of_ble_eq_true rfl) hf (fun v32 h33 hf => ?_)
  refine v_iconst ok 4 dX2_board_13 rfl ?_
  refine v_icmp_ne ok 21 dX2_board_14 rfl hf (fun hf => ?_) (fun hf => ?_)
  ·
    refine v_iconst ok 0 dX2_board_21 rfl ?_
    exact W_X2_board_22 ok hr hd hx hf hk ⟨rfl, rfl, trivial⟩
  ·
    refine v_iconst ok 1 dX2_board_17 rfl ?_
    refine v_goto ok 22 dX2_board_18 rfl ?_
    exact W_X2_board_22 ok hr hd hx hf hk ⟨rfl, rfl, trivial⟩
theorem M_X2_board {G : GT} {l : Launch} (hG : Glob G) {d : Nat} (hd : 12 ≤ d) {a0 : Nat} {x1 : Int32} {h : AH} {w : Unit ⊕ Nat} {h' : AH} (hf : X2_board a0 x1 h = some (w, h')) : MMX G l yX2_board cX2_board 4 none d [vr (some a0), vi x1] h (rxv w) h' := by
  refine mmx_of hG (by decide) (Nat.le_of_ble_eq_true rfl) (fun X hX ok hr hx => ?_)
  subst hX
  exact W_X2_board ok hr hd hx hf rfl ⟨rfl, rfl, trivial⟩
theorem cw_X2_letter : CW yX2_letter cX2_letter 8 none 0 := ⟨q850, q177, ⟨by decide, by decide⟩, by decide +kernel, by decide⟩
def pkX2_letter_140 (G : GT) (X : CX) (h0 : AH) (Q : State → Prop) (a0 : Nat) (x2 : Int32) (x3 : Int32) (o : ((Int32 × Int32 × AH) ⊕ ((Unit ⊕ Nat) × AH))) : Prop := match o with
  | .inl s => ∀ lv : List (Nat × AV), lle lv [(0, vr (some a0)), (2, vi x2), (3, vi x3), (4, vi s.1), (5, vi s.2.1)] → V G X 8 h0 Q s.2.2 140 lv []
  | .inr z => Q = QMX G X h0 (rxv z.1) z.2
def pkX2_letter_158 (G : GT) (X : CX) (h0 : AH) (Q : State → Prop) (a0 : Nat) (x2 : Int32) (x3 : Int32) (x5 : Int32) (x6 : Int32) (o : ((Int32 × Int32 × AH) ⊕ ((Int32 × Int32 × AH) ⊕ ((Unit ⊕ Nat) × AH)))) : Prop := match o with
  | .inl s => ∀ lv : List (Nat × AV), lle lv [(0, vr (some a0)), (2, vi x2), (3, vi x3), (4, vi s.1), (5, vi x5), (6, vi x6), (7, vi s.2.1)] → V G X 8 h0 Q s.2.2 158 lv []
  | .inr z => pkX2_letter_140 G X h0 Q a0 x2 x3 z
theorem W_X2_letter_158b {G : GT} {X : CX} {d : Nat} {h0 : AH} {Q : State → Prop} (ok : Ok G X RX2 cX2_letter 8 d h0) (hr : (cxm X).sig.returnType = none) (hd : 12 ≤ d) (hx : ∀ x ∈ (cxc X).exceptionTable.toList, False) {a0 : Nat} {x2 : Int32} {x3 : Int32} {x5 : Int32} {x6 : Int32} {x4 : Int32} {x7 : Int32} {h : AH} {z : ((Int32 × Int32 × AH) ⊕ ((Int32 × Int32 × AH) ⊕ ((Unit ⊕ Nat) × AH)))} (hf : X2_letter_158b  a0 x2 x3 x5 x6 x4 x7 h = some z) (hk : pkX2_letter_158 G X h0 Q a0 x2 x3 x5 x6 z) {lv : List (Nat × AV)} (hl : lle lv [(0, vr (some a0)), (2, vi x2), (3, vi x3), (4, vi x4), (5, vi x5), (6, vi x6), (7, vi x7)]) : V G X 8 h0 Q h 158 lv [] := by
  refine V.sub hl ?_
  unfold X2_letter_158b at hf
  refine v_iload ok dX2_letter_158 rfl ?_
  refine v_iconst ok 3 dX2_letter_160 rfl ?_
  refine v_icmp_ge ok 192 dX2_letter_161 rfl hf (fun hf => ?_) (fun hf => ?_)
  ·
    refine v_iinc ok x5 (x5 + 1) dX2_letter_192 rfl rfl (by decide) ?_
    refine v_goto ok 140 dX2_letter_195 rfl ?_
    cases hf; exact hk _ ⟨rfl, rfl, rfl, rfl, rfl, trivial⟩
  ·
    refine v_iload ok dX2_letter_164 rfl ?_
    refine v_iload ok dX2_letter_166 rfl ?_
    refine v_iconst ok 2 dX2_letter_168 rfl ?_
    refine v_iload ok dX2_letter_169 rfl ?_
    refine v_isub ok dX2_letter_171 ?_
    refine v_ishr ok dX2_letter_172 ?_
    refine v_iconst ok 1 dX2_letter_173 rfl ?_
    refine v_iand ok dX2_letter_174 ?_
    refine v_iconst ok 3 dX2_letter_175 rfl ?_
    refine v_iload ok dX2_letter_176 rfl ?_
    refine v_imul ok dX2_letter_178 ?_
    refine v_iload ok dX2_letter_179 rfl ?_
    refine v_iadd ok dX2_letter_181 ?_
    refine v_ishl ok dX2_letter_182 ?_
    refine v_ior ok dX2_letter_183 ?_
    refine v_istore ok dX2_letter_184 (by decide) ?_
    refine v_iinc ok x7 (x7 + 1) dX2_letter_186 rfl rfl (by decide) ?_
    refine v_goto ok 158 dX2_letter_189 rfl ?_
    cases hf; exact hk _ ⟨rfl, rfl, rfl, rfl, rfl, rfl, rfl, trivial⟩
theorem W_X2_letter_158 {G : GT} {X : CX} {d : Nat} {h0 : AH} {Q : State → Prop} (ok : Ok G X RX2 cX2_letter 8 d h0) (hr : (cxm X).sig.returnType = none) (hd : 12 ≤ d) (hx : ∀ x ∈ (cxc X).exceptionTable.toList, False) {a0 : Nat} {x2 : Int32} {x3 : Int32} {x4 : Int32} {x5 : Int32} {x6 : Int32} {x7 : Int32} {h : AH} {z : ((Int32 × Int32 × AH) ⊕ ((Unit ⊕ Nat) × AH))} (hf : X2_letter_158  a0 x2 x3 x4 x5 x6 x7 h = some z) (hk : pkX2_letter_140 G X h0 Q a0 x2 x3 z) {lv : List (Nat × AV)} (hl : lle lv [(0, vr (some a0)), (2, vi x2), (3, vi x3), (4, vi x4), (5, vi x5), (6, vi x6), (7, vi x7)]) : V G X 8 h0 Q h 158 lv [] := by
  unfold X2_letter_158 at hf
  exact loopC_walk (Wh := fun s : Int32 × Int32 × AH => ∀ lv : List (Nat × AV), lle lv [(0, vr (some a0)), (2, vi x2), (3, vi x3), (4, vi s.1), (5, vi x5), (6, vi x6), (7, vi s.2.1)] → V G X 8 h0 Q s.2.2 158 lv []) (PK := fun z => pkX2_letter_140 G X h0 Q a0 x2 x3 z) (fun s o hf hk lv hl => W_X2_letter_158b ok hr hd hx hf (by cases o <;> exact hk) hl) _ z hf hk lv hl
theorem W_X2_letter_198 {G : GT} {X : CX} {d : Nat} {h0 : AH} {Q : State → Prop} (ok : Ok G X RX2 cX2_letter 8 d h0) (hr : (cxm X).sig.returnType = none) (hd : 12 ≤ d) (hx : ∀ x ∈ (cxc X).exceptionTable.toList, False) {a0 : Nat} {x2 : Int32} {x3 : Int32} {x4 : Int32} {h : AH} {z : ((Unit ⊕ Nat) × AH)} (hf : X2_letter_198 a0 x2 x3 x4 h = some z) (hk : Q = QMX G X h0 (rxv z.1) z.2) {lv : List (Nat × AV)} (hl : lle lv [(0, vr (some a0)), (2, vi x2), (3, vi x3), (4, vi x4)]) : V G X 8 h0 Q h 198 lv [] := by
  refine V.sub hl ?_
  unfold X2_letter_198 at hf
  refine v_aload_n ok 0 dX2_letter_198 rfl rfl ?_
  refine v_gR ok fl_X2_103 (by first | exact Or.inl ⟨_, rfl⟩ | exact Or.inr ⟨_, rfl⟩) dX2_letter_199 hf (fun v1 hf => ?_)
  refine v_gRN ok fl_X2_138 (by first | exact Or.inl ⟨_, rfl⟩ | exact Or.inr ⟨_, rfl⟩) dX2_letter_202 hf (fun v2 hf => ?_)
  refine v_iload_n ok 3 dX2_letter_205 rfl rfl ?_
  refine v_cFr ok (RJ2, TJ2, 3) cf_23.1 [vi x3] (F := fun a => J2_get a x3 h) (fun a v h1 _ hv => M_J2_get ok.2.2.2.2.2.2.1 (d := 3) (Nat.le_refl _) hv) (by exact Nat.le_trans (by decide) hd) cw_J2_get q902 q907 cwf_J2_get dX2_letter_206 [] rfl (Nat.le_of_ble_eq_true rfl) hf (fun v3 h4 hf => ?_)
  refine v_cast_ ok ck_java_util_List q918 dX2_letter_211 hf (fun hf => ?_)
  refine v_new ok cf_8 rfl q939 q940 q191 df_8 dX2_letter_214 hf (fun v5 h6 hf => ?_)
  refine v_dup ok dX2_letter_217 rfl ?_
  refine v_iload_n ok 2 dX2_letter_218 rfl rfl ?_
  refine v_iload ok dX2_letter_219 rfl ?_
  refine v_cIv ok [vi x2, vi x4] rfl (F := fun a => X8_init a x2 x4 h6) (fun a h1 _ hv => M_X8_init ok.2.2.2.2.2.2.1 (d := 1) (Nat.le_refl _) hv) (by exact Nat.le_trans (by decide) hd) cw_X8_init q941 q942 dX2_letter_221 [vr v5, vr v3] rfl (Nat.le_of_ble_eq_true rfl) hf (fun h7 hf => ?_)
  refine v_cFi ok (RJ2, TJ2, 3) cf_23.1 [vr v5] (F := fun a => J2_add a v5 h7) (fun a v h1 _ hv => M_J2_add ok.2.2.2.2.2.2.1 (d := 7) (Nat.le_refl _) hv) (by exact Nat.le_trans (by decide) hd) cw_J2_add q957 q258 cwf_J2_add dX2_letter_224 [] rfl (Nat.le_of_ble_eq_true rfl) hf (fun v8 h9 hf => ?_)
  refine v_pop ok dX2_letter_229 rfl ?_
  exact v_vretX ok hr (by cases hf; exact hk) dX2_letter_230
theorem W_X2_letter_140b {G : GT} {X : CX} {d : Nat} {h0 : AH} {Q : State → Prop} (ok : Ok G X RX2 cX2_letter 8 d h0) (hr : (cxm X).sig.returnType = none) (hd : 12 ≤ d) (hx : ∀ x ∈ (cxc X).exceptionTable.toList, False) {a0 : Nat} {x2 : Int32} {x3 : Int32} {x4 : Int32} {x5 : Int32} {h : AH} {z : ((Int32 × Int32 × AH) ⊕ ((Unit ⊕ Nat) × AH))} (hf : X2_letter_140b  a0 x2 x3 x4 x5 h = some z) (hk : pkX2_letter_140 G X h0 Q a0 x2 x3 z) {lv : List (Nat × AV)} (hl : lle lv [(0, vr (some a0)), (2, vi x2), (3, vi x3), (4, vi x4), (5, vi x5)]) : V G X 8 h0 Q h 140 lv [] := by
  refine V.sub hl ?_
  unfold X2_letter_140b at hf
  refine v_iload ok dX2_letter_140 rfl ?_
  refine v_iconst ok 5 dX2_letter_142 rfl ?_
  refine v_icmp_ge ok 198 dX2_letter_143 rfl hf (fun hf => ?_) (fun hf => ?_)
  ·
    obtain ⟨o, ho, hz⟩ := ob hf
    cases hz; exact W_X2_letter_198 ok hr hd hx ho hk ⟨rfl, rfl, rfl, rfl, trivial⟩
  ·
    refine v_aload_n ok 0 dX2_letter_146 rfl rfl ?_
    refine v_iconst ok 0 dX2_letter_147 rfl ?_
    refine v_bipush ok 7 dX2_letter_148 rfl ?_
    refine v_cXi ok (RX2, TX2, 8) cf_2.1 [vi 0, vi 7] (F := fun a => X2_number_2 a 0 7 h) (fun a w h1 _ hv => M_X2_number_2 ok.2.2.2.2.2.2.1 (d := 3) (Nat.le_refl _) hv) (by omega) cw_X2_number_2 q894 q896 qs17 dX2_letter_150 [] rfl (Nat.le_of_ble_eq_true rfl) hf (fun b h_ h3 h4 hf => VX.out ok hx h3 h4 (by cases hf; exact hk)) (fun v10 h11 hf => ?_)
    refine v_istore ok dX2_letter_153 (by decide) ?_
    refine v_iconst ok 0 dX2_letter_155 rfl ?_
    refine v_istore ok dX2_letter_156 (by decide) ?_
    exact W_X2_letter_158 ok hr hd hx hf hk ⟨rfl, rfl, rfl, rfl, rfl, rfl, rfl, trivial⟩
theorem W_X2_letter_140 {G : GT} {X : CX} {d : Nat} {h0 : AH} {Q : State → Prop} (ok : Ok G X RX2 cX2_letter 8 d h0) (hr : (cxm X).sig.returnType = none) (hd : 12 ≤ d) (hx : ∀ x ∈ (cxc X).exceptionTable.toList, False) {a0 : Nat} {x2 : Int32} {x3 : Int32} {x4 : Int32} {x5 : Int32} {h : AH} {z : ((Unit ⊕ Nat) × AH)} (hf : X2_letter_140  a0 x2 x3 x4 x5 h = some z) (hk : Q = QMX G X h0 (rxv z.1) z.2) {lv : List (Nat × AV)} (hl : lle lv [(0, vr (some a0)), (2, vi x2), (3, vi x3), (4, vi x4), (5, vi x5)]) : V G X 8 h0 Q h 140 lv [] := by
  unfold X2_letter_140 at hf
  exact loopC_walk (Wh := fun s : Int32 × Int32 × AH => ∀ lv : List (Nat × AV), lle lv [(0, vr (some a0)), (2, vi x2), (3, vi x3), (4, vi s.1), (5, vi s.2.1)] → V G X 8 h0 Q s.2.2 140 lv []) (PK := fun z => Q = QMX G X h0 (rxv z.1) z.2) (fun s o hf hk lv hl => W_X2_letter_140b ok hr hd hx hf (by cases o <;> exact hk) hl) _ z hf hk lv hl
theorem W_X2_letter_98 {G : GT} {X : CX} {d : Nat} {h0 : AH} {Q : State → Prop} (ok : Ok G X RX2 cX2_letter 8 d h0) (hr : (cxm X).sig.returnType = none) (hd : 12 ≤ d) (hx : ∀ x ∈ (cxc X).exceptionTable.toList, False) {a0 : Nat} {x2 : Int32} {x3 : Int32} {s0 : Option Nat} {s1 : Int32} {h : AH} {z : ((Unit ⊕ Nat) × AH)} (hf : X2_letter_98 a0 x2 x3 s0 s1 h = some z) (hk : Q = QMX G X h0 (rxv z.1) z.2) {lv : List (Nat × AV)} (hl : lle lv [(0, vr (some a0)), (2, vi x2), (3, vi x3)]) : V G X 8 h0 Q h 98 lv [vi s1, vr s0] := by
  refine V.sub hl ?_
  unfold X2_letter_98 at hf
  refine v_aload_n ok 0 dX2_letter_98 rfl rfl ?_
  refine v_gI ok fl_X2_61 (fun _ _ _ => rfl) dX2_letter_99 hf (fun v12 hf => ?_)
  refine v_cXv ok (RX2, TX2, 8) cf_2.1 [vi s1, vi v12] (F := fun a => X2_most a s1 v12 h) (fun a w h1 _ hv => M_X2_most ok.2.2.2.2.2.2.1 (d := 2) (Nat.le_refl _) hv) (by omega) cw_X2_most q680 q682 qs9 dX2_letter_102 [] rfl (Nat.le_of_ble_eq_true rfl) hf (fun b h_ h3 h4 hf => VX.out ok hx h3 h4 (by cases hf; exact hk)) (fun _ h14 hf => ?_)
  refine v_aload_n ok 0 dX2_letter_105 rfl rfl ?_
  refine v_gR ok fl_X2_103 (by first | exact Or.inl ⟨_, rfl⟩ | exact Or.inr ⟨_, rfl⟩) dX2_letter_106 hf (fun v15 hf => ?_)
  refine v_iload_n ok 3 dX2_letter_109 rfl rfl ?_
  refine v_iload_n ok 2 dX2_letter_110 rfl rfl ?_
  refine v_cVi ok (RX1, TX1, 9) cf_1.1 [vi x3, vi x2] (F := fun a => X1_letter a x3 x2 h14) (fun a v h1 _ hv => M_X1_letter ok.2.2.2.2.2.2.1 (d := 4) (Nat.le_refl _) hv) (by exact Nat.le_trans (by decide) hd) cw_X1_letter q928 q929 q930 dX2_letter_111 [] rfl (Nat.le_of_ble_eq_true rfl) hf (fun v16 h17 hf => ?_)
  refine v_iconst ok (-1) dX2_letter_114 rfl ?_
  refine v_icmp_eq ok 128 dX2_letter_115 rfl hf (fun hf => ?_) (fun hf => ?_)
  ·
    refine v_aload_n ok 0 dX2_letter_128 rfl rfl ?_
    refine v_ldcS ok (a0 := 26) (tx := "is") (List.mem_of_getElem? (i := 35) rfl) (by decide) dX2_letter_129 ?_
    refine v_cXv ok (RX2, TX2, 8) cf_2.1 [vr (some 26)] (F := fun a => X2_word_2 a (some 26) h17) (fun a w h1 _ hv => M_X2_word_2 ok.2.2.2.2.2.2.1 (d := 10) (Nat.le_refl _) hv) (by omega) cw_X2_word_2 q890 q892 qs16 dX2_letter_131 [] rfl (Nat.le_of_ble_eq_true rfl) hf (fun b h_ h3 h4 hf => VX.out ok hx h3 h4 (by cases hf; exact hk)) (fun _ h19 hf => ?_)
    refine v_iconst ok 0 dX2_letter_134 rfl ?_
    refine v_istore ok dX2_letter_135 (by decide) ?_
    refine v_iconst ok 0 dX2_letter_137 rfl ?_
    refine v_istore ok dX2_letter_138 (by decide) ?_
    exact W_X2_letter_140 ok hr hd hx hf hk ⟨rfl, rfl, rfl, rfl, rfl, trivial⟩
  ·
    refine v_aload_n ok 0 dX2_letter_118 rfl rfl ?_
    refine v_iconst ok 2 dX2_letter_119 rfl ?_
    refine v_aload_n ok 0 dX2_letter_120 rfl rfl ?_
    refine v_gI ok fl_X2_61 (fun _ _ _ => rfl) dX2_letter_121 hf (fun v20 hf => ?_)
    refine v_cVr ok (RX2, TX2, 8) cf_2.1 [vi 2, vi v20] (F := fun a => X2_wrong a 2 v20 h17) (fun a v h1 _ hv => M_X2_wrong ok.2.2.2.2.2.2.1 (d := 1) (Nat.le_refl _) hv) (by exact Nat.le_trans (by decide) hd) cw_X2_wrong q684 q686 qs10 dX2_letter_124 [] rfl (Nat.le_of_ble_eq_true rfl) hf (fun v21 h22 hf => ?_)
    exact v_athrow ok dX2_letter_127 hf (fun a h3 h4 hf => VX.out ok hx h3 h4 (by cases hf; exact hk))
theorem W_X2_letter {G : GT} {X : CX} {d : Nat} {h0 : AH} {Q : State → Prop} (ok : Ok G X RX2 cX2_letter 8 d h0) (hr : (cxm X).sig.returnType = none) (hd : 12 ≤ d) (hx : ∀ x ∈ (cxc X).exceptionTable.toList, False) {a0 : Nat} {h : AH} {z : ((Unit ⊕ Nat) × AH)} (hf : X2_letter a0 h = some z) (hk : Q = QMX G X h0 (rxv z.1) z.2) {lv : List (Nat × AV)} (hl : lle lv [(0, vr (some a0))]) : V G X 8 h0 Q h 0 lv [] := by
  refine V.sub hl ?_
  unfold X2_letter at hf
  refine v_aload_n ok 0 dX2_letter_0 rfl rfl ?_
  refine v_cXr ok (RX2, TX2, 8) cf_2.1 [] (F := fun a => X2_word a h) (fun a w h1 _ hv => M_X2_word ok.2.2.2.2.2.2.1 (d := 9) (Nat.le_refl _) hv) (by omega) cw_X2_word q688 q690 qs11 dX2_letter_1 [] rfl (Nat.le_of_ble_eq_true rfl) hf (fun b h_ h3 h4 hf => VX.out ok hx h3 h4 (by cases hf; exact hk)) (fun v23 h24 hf => ?_)
  refine v_astore_n ok 1 dX2_letter_4 rfl (by decide) ?_
  refine v_aload_n ok 1 dX2_letter_5 rfl rfl ?_
  refine v_getsN ok (v := vr (hR h24 120 9)) (List.mem_of_getElem? (i := 9) rfl) q851 rfl dX2_letter_6 ?_
  refine v_cSNi ok [vr v23, vr (hR h24 120 9)] (F := X0_find v23 (hR h24 120 9) h24) (fun v h1 hv => M_X0_find ok.2.2.2.2.2.2.1 (d := 3) (Nat.le_refl _) hv) (by exact Nat.le_trans (by decide) hd) cw_X0_find q853 q854 dX2_letter_9 [] rfl (Nat.le_of_ble_eq_true rfl) hf (fun v25 h26 hf => ?_)
  refine v_iconst ok (-1) dX2_letter_12 rfl ?_
  refine v_icmp_eq ok 26 dX2_letter_13 rfl hf (fun hf => ?_) (fun hf => ?_)
  ·
    refine v_aload_n ok 1 dX2_letter_26 rfl rfl ?_
    refine v_cVi ok (RJ9, TJ9, 4) cf_24.1 [] (F := fun a => J9_length a h26) (fun a v h1 _ hv => M_J9_length ok.2.2.2.2.2.2.1 (d := 2) (Nat.le_refl _) hv) (by exact Nat.le_trans (by decide) hd) cw_J9_length q857 q858 q859 dX2_letter_27 [] rfl (Nat.le_of_ble_eq_true rfl) hf (fun v27 h28 hf => ?_)
    refine v_iconst ok 1 dX2_letter_30 rfl ?_
    refine v_icmp_le ok 46 dX2_letter_31 rfl hf (fun hf => ?_) (fun hf => ?_)
    ·
      refine v_aload_n ok 1 dX2_letter_46 rfl rfl ?_
      refine v_iconst ok 0 dX2_letter_47 rfl ?_
      refine v_cVi ok (RJ9, TJ9, 4) cf_24.1 [vi 0] (F := fun a => J9_charAt a 0 h28) (fun a v h1 _ hv => M_J9_charAt ok.2.2.2.2.2.2.1 (d := 5) (Nat.le_refl _) hv) (by exact Nat.le_trans (by decide) hd) cw_J9_charAt q865 q866 q867 dX2_letter_48 [] rfl (Nat.le_of_ble_eq_true rfl) hf (fun v29 h30 hf => ?_)
      refine v_bipush ok 97 dX2_letter_51 rfl ?_
      refine v_isub ok dX2_letter_53 ?_
      refine v_iconst ok 1 dX2_letter_54 rfl ?_
      refine v_iadd ok dX2_letter_55 ?_
      refine v_istore_n ok 2 dX2_letter_56 rfl (by decide) ?_
      refine v_aload_n ok 0 dX2_letter_57 rfl rfl ?_
      refine v_ldcS ok (a0 := 22) (tx := "hand") (List.mem_of_getElem? (i := 34) rfl) (by decide) dX2_letter_58 ?_
      refine v_iconst ok 0 dX2_letter_60 rfl ?_
      refine v_iconst ok 1 dX2_letter_61 rfl ?_
      refine v_cXi ok (RX2, TX2, 8) cf_2.1 [vr (some 22), vi 0, vi 1] (F := fun a => X2_number a (some 22) 0 1 h30) (fun a w h1 _ hv => M_X2_number ok.2.2.2.2.2.2.1 (d := 11) (Nat.le_refl _) hv) (by omega) cw_X2_number q886 q888 qs15 dX2_letter_62 [] rfl (Nat.le_of_ble_eq_true rfl) hf (fun b h_ h3 h4 hf => VX.out ok hx h3 h4 (by cases hf; exact hk)) (fun v31 h32 hf => ?_)
      refine v_istore_n ok 3 dX2_letter_65 rfl (by decide) ?_
      refine v_aload_n ok 0 dX2_letter_66 rfl rfl ?_
      refine v_aload_n ok 0 dX2_letter_67 rfl rfl ?_
      refine v_gR ok fl_X2_103 (by first | exact Or.inl ⟨_, rfl⟩ | exact Or.inr ⟨_, rfl⟩) dX2_letter_68 hf (fun v33 hf => ?_)
      refine v_gRN ok fl_X2_138 (by first | exact Or.inl ⟨_, rfl⟩ | exact Or.inr ⟨_, rfl⟩) dX2_letter_71 hf (fun v34 hf => ?_)
      refine v_iload_n ok 3 dX2_letter_74 rfl rfl ?_
      refine v_cFr ok (RJ2, TJ2, 3) cf_23.1 [vi v31] (F := fun a => J2_get a v31 h32) (fun a v h1 _ hv => M_J2_get ok.2.2.2.2.2.2.1 (d := 3) (Nat.le_refl _) hv) (by exact Nat.le_trans (by decide) hd) cw_J2_get q902 q907 cwf_J2_get dX2_letter_75 [vr (some a0)] rfl (Nat.le_of_ble_eq_true rfl) hf (fun v35 h36 hf => ?_)
      refine v_cast_ ok ck_java_util_List q918 dX2_letter_80 hf (fun hf => ?_)
      refine v_cFi ok (RJ2, TJ2, 3) cf_23.1 [] (F := fun a => J2_size a h36) (fun a v h1 _ hv => M_J2_size ok.2.2.2.2.2.2.1 (d := 1) (Nat.le_refl _) hv) (by exact Nat.le_trans (by decide) hd) cw_J2_size q920 q925 cwf_J2_size dX2_letter_83 [vr (some a0)] rfl (Nat.le_of_ble_eq_true rfl) hf (fun v37 h38 hf => ?_)
      refine v_bipush ok 12 dX2_letter_88 rfl ?_
      refine v_icmp_ne ok 97 dX2_letter_90 rfl hf (fun hf => ?_) (fun hf => ?_)
      ·
        refine v_iconst ok 0 dX2_letter_97 rfl ?_
        exact W_X2_letter_98 ok hr hd hx hf hk ⟨rfl, rfl, rfl, trivial⟩
      ·
        refine v_iconst ok 1 dX2_letter_93 rfl ?_
        refine v_goto ok 98 dX2_letter_94 rfl ?_
        exact W_X2_letter_98 ok hr hd hx hf hk ⟨rfl, rfl, rfl, trivial⟩
    ·
      refine v_aload_n ok 0 dX2_letter_34 rfl rfl ?_
      refine v_iconst ok 1 dX2_letter_35 rfl ?_
      refine v_aload_n ok 0 dX2_letter_36 rfl rfl ?_
      refine v_gI ok fl_X2_61 (fun _ _ _ => rfl) dX2_letter_37 hf (fun v39 hf => ?_)
      refine v_iconst ok 1 dX2_letter_40 rfl ?_
      refine v_iadd ok dX2_letter_41 ?_
      refine v_cVr ok (RX2, TX2, 8) cf_2.1 [vi 1, vi (v39 + 1)] (F := fun a => X2_wrong a 1 (v39 + 1) h28) (fun a v h1 _ hv => M_X2_wrong ok.2.2.2.2.2.2.1 (d := 1) (Nat.le_refl _) hv) (by exact Nat.le_trans (by decide) hd) cw_X2_wrong q684 q686 qs10 dX2_letter_42 [] rfl (Nat.le_of_ble_eq_true rfl) hf (fun v40 h41 hf => ?_)
      exact v_athrow ok dX2_letter_45 hf (fun a h3 h4 hf => VX.out ok hx h3 h4 (by cases hf; exact hk))
  ·
    refine v_aload_n ok 0 dX2_letter_16 rfl rfl ?_
    refine v_iconst ok 1 dX2_letter_17 rfl ?_
    refine v_aload_n ok 0 dX2_letter_18 rfl rfl ?_
    refine v_gI ok fl_X2_61 (fun _ _ _ => rfl) dX2_letter_19 hf (fun v42 hf => ?_)
    refine v_cVr ok (RX2, TX2, 8) cf_2.1 [vi 1, vi v42] (F := fun a => X2_wrong a 1 v42 h26) (fun a v h1 _ hv => M_X2_wrong ok.2.2.2.2.2.2.1 (d := 1) (Nat.le_refl _) hv) (by exact Nat.le_trans (by decide) hd) cw_X2_wrong q684 q686 qs10 dX2_letter_22 [] rfl (Nat.le_of_ble_eq_true rfl) hf (fun v43 h44 hf => ?_)
    exact v_athrow ok dX2_letter_25 hf (fun a h3 h4 hf => VX.out ok hx h3 h4 (by cases hf; exact hk))
theorem M_X2_letter {G : GT} {l : Launch} (hG : Glob G) {d : Nat} (hd : 12 ≤ d) {a0 : Nat} {h : AH} {w : Unit ⊕ Nat} {h' : AH} (hf : X2_letter a0 h = some (w, h')) : MMX G l yX2_letter cX2_letter 8 none d [vr (some a0)] h (rxv w) h' := by
  refine mmx_of hG (by decide) (Nat.le_of_ble_eq_true rfl) (fun X hX ok hr hx => ?_)
  subst hX
  exact W_X2_letter ok hr hd hx hf rfl ⟨rfl, trivial⟩
theorem cw_X2_laid : CW yX2_laid cX2_laid 5 (Option.some Jvm.ClassFile.FieldType.boolean) 2 := ⟨q783, q177, ⟨by decide, by decide⟩, by decide +kernel, by decide⟩
theorem W_X2_laid_86 {G : GT} {X : CX} {d : Nat} {h0 : AH} {Q : State → Prop} (ok : Ok G X RX2 cX2_laid 5 d h0) (hr : (cxm X).sig.returnType = (Option.some Jvm.ClassFile.FieldType.boolean)) (hd : 13 ≤ d) (hx : ∀ x ∈ (cxc X).exceptionTable.toList, False) {a0 : Nat} {x2 : Int32} {x4 : Int32} {h : AH} {z : ((Int32 ⊕ Nat) × AH)} (hf : X2_laid_86 a0 x2 x4 h = some z) (hk : Q = QMX G X h0 (rx vi z.1) z.2) {lv : List (Nat × AV)} (hl : lle lv [(0, vr (some a0)), (2, vi x2), (4, vi x4)]) : V G X 5 h0 Q h 86 lv [] := by
  refine V.sub hl ?_
  unfold X2_laid_86 at hf
  refine v_iload ok dX2_laid_86 rfl ?_
  refine sw_if (v := 0) hf (fun e_ hf => ?_) (fun n1 hf => ?_)
  ·
    refine v_tableIn ok 0 116 dX2_laid_88 e_ (by decide) (by decide) rfl rfl ?_
    refine v_aload_n ok 0 dX2_laid_116 rfl rfl ?_
    refine v_cXv ok (RX2, TX2, 8) cf_2.1 [] (F := fun a => X2_letter a h) (fun a w h1 _ hv => M_X2_letter ok.2.2.2.2.2.2.1 (d := 12) (Nat.le_refl _) hv) (by omega) cw_X2_letter q847 q849 qs14 dX2_laid_117 [] rfl (Nat.le_of_ble_eq_true rfl) hf (fun b h_ h3 h4 hf => VX.out ok hx h3 h4 (by cases hf; exact hk)) (fun _ h3 hf => ?_)
    refine v_iconst ok 1 dX2_laid_120 rfl ?_
    exact v_zretLX ok hr (by decide) (by decide) (by cases hf; exact hk) dX2_laid_121
  ·
    refine sw_if (v := 1) hf (fun e_ hf => ?_) (fun n4 hf => ?_)
    ·
      refine v_tableIn ok 1 122 dX2_laid_88 e_ (by decide) (by decide) rfl rfl ?_
      refine v_aload_n ok 0 dX2_laid_122 rfl rfl ?_
      refine v_iload_n ok 2 dX2_laid_123 rfl rfl ?_
      refine v_cXv ok (RX2, TX2, 8) cf_2.1 [vi x2] (F := fun a => X2_aWord a x2 h) (fun a w h1 _ hv => M_X2_aWord ok.2.2.2.2.2.2.1 (d := 11) (Nat.le_refl _) hv) (by omega) cw_X2_aWord q958 q960 qs18 dX2_laid_124 [] rfl (Nat.le_of_ble_eq_true rfl) hf (fun b h_ h3 h4 hf => VX.out ok hx h3 h4 (by cases hf; exact hk)) (fun _ h6 hf => ?_)
      refine v_iconst ok 1 dX2_laid_127 rfl ?_
      exact v_zretLX ok hr (by decide) (by decide) (by cases hf; exact hk) dX2_laid_128
    ·
      refine sw_if (v := 2) hf (fun e_ hf => ?_) (fun n7 hf => ?_)
      ·
        refine v_tableIn ok 2 129 dX2_laid_88 e_ (by decide) (by decide) rfl rfl ?_
        refine v_aload_n ok 0 dX2_laid_129 rfl rfl ?_
        refine v_iload_n ok 2 dX2_laid_130 rfl rfl ?_
        refine v_cXv ok (RX2, TX2, 8) cf_2.1 [vi x2] (F := fun a => X2_board a x2 h) (fun a w h1 _ hv => M_X2_board ok.2.2.2.2.2.2.1 (d := 12) (Nat.le_refl _) hv) (by omega) cw_X2_board q999 q1001 qs20 dX2_laid_131 [] rfl (Nat.le_of_ble_eq_true rfl) hf (fun b h_ h3 h4 hf => VX.out ok hx h3 h4 (by cases hf; exact hk)) (fun _ h9 hf => ?_)
        refine v_iconst ok 1 dX2_laid_134 rfl ?_
        exact v_zretLX ok hr (by decide) (by decide) (by cases hf; exact hk) dX2_laid_135
      ·
        have n1 := ne_toI 0 (by decide) n1
        have n4 := ne_toI 1 (by decide) n4
        have n7 := ne_toI 2 (by decide) n7
        refine v_tableOut ok 136 dX2_laid_88 (by omega) rfl ?_
        refine v_iconst ok 0 dX2_laid_136 rfl ?_
        exact v_zretLX ok hr (by decide) (by decide) (by cases hf; exact hk) dX2_laid_137
theorem W_X2_laid {G : GT} {X : CX} {d : Nat} {h0 : AH} {Q : State → Prop} (ok : Ok G X RX2 cX2_laid 5 d h0) (hr : (cxm X).sig.returnType = (Option.some Jvm.ClassFile.FieldType.boolean)) (hd : 13 ≤ d) (hx : ∀ x ∈ (cxc X).exceptionTable.toList, False) {a0 : Nat} {x1 : Option Nat} {x2 : Int32} {h : AH} {z : ((Int32 ⊕ Nat) × AH)} (hf : X2_laid a0 x1 x2 h = some z) (hk : Q = QMX G X h0 (rx vi z.1) z.2) {lv : List (Nat × AV)} (hl : lle lv [(0, vr (some a0)), (1, vr x1), (2, vi x2)]) : V G X 5 h0 Q h 0 lv [] := by
  refine V.sub hl ?_
  unfold X2_laid at hf
  refine v_aload_n ok 1 dX2_laid_0 rfl rfl ?_
  refine v_astore_n ok 3 dX2_laid_1 rfl (by decide) ?_
  refine v_iconst ok (-1) dX2_laid_2 rfl ?_
  refine v_istore ok dX2_laid_3 (by decide) ?_
  refine v_aload_n ok 3 dX2_laid_5 rfl rfl ?_
  refine v_cVi ok (RJ9, TJ9, 4) cf_24.1 [] (F := fun a => J9_hashCode a h) (fun a v h1 _ hv => M_J9_hashCode ok.2.2.2.2.2.2.1 (d := 4) (Nat.le_refl _) hv) (by exact Nat.le_trans (by decide) hd) cw_J9_hashCode q784 q785 q786 dX2_laid_6 [] rfl (Nat.le_of_ble_eq_true rfl) hf (fun v10 h11 hf => ?_)
  refine sw_if (v := (-1106172890)) hf (fun e_ hf => ?_) (fun n12 hf => ?_)
  ·
    refine v_lookup ok (off := 35) 44 dX2_laid_9 (by decide) (by rw [e_]; try rfl) rfl ?_
    refine v_aload_n ok 3 dX2_laid_44 rfl rfl ?_
    refine v_ldcS ok (a0 := 34) (tx := "letter") (List.mem_of_getElem? (i := 36) rfl) (by decide) dX2_laid_45 ?_
    refine v_cVi ok (RJ9, TJ9, 4) cf_24.1 [vr (some 34)] (F := fun a => J9_equals a (some 34) h11) (fun a v h1 _ hv => M_J9_equals ok.2.2.2.2.2.2.1 (d := 2) (Nat.le_refl _) hv) (by exact Nat.le_trans (by decide) hd) cw_J9_equals q838 q839 q840 dX2_laid_47 [] rfl (Nat.le_of_ble_eq_true rfl) hf (fun v13 h14 hf => ?_)
    refine v_if_eq ok 86 dX2_laid_50 rfl hf (fun hf => ?_) (fun hf => ?_)
    ·
      exact W_X2_laid_86 ok hr hd hx hf hk ⟨rfl, rfl, rfl, trivial⟩
    ·
      refine v_iconst ok 0 dX2_laid_53 rfl ?_
      refine v_istore ok dX2_laid_54 (by decide) ?_
      refine v_goto ok 86 dX2_laid_56 rfl ?_
      exact W_X2_laid_86 ok hr hd hx hf hk ⟨rfl, rfl, rfl, trivial⟩
  ·
    refine sw_if (v := 3655434) hf (fun e_ hf => ?_) (fun n15 hf => ?_)
    ·
      refine v_lookup ok (off := 50) 59 dX2_laid_9 (by decide) (by rw [e_]; try rfl) rfl ?_
      refine v_aload_n ok 3 dX2_laid_59 rfl rfl ?_
      refine v_ldcS ok (a0 := 66) (tx := "word") (List.mem_of_getElem? (i := 37) rfl) (by decide) dX2_laid_60 ?_
      refine v_cVi ok (RJ9, TJ9, 4) cf_24.1 [vr (some 66)] (F := fun a => J9_equals a (some 66) h11) (fun a v h1 _ hv => M_J9_equals ok.2.2.2.2.2.2.1 (d := 2) (Nat.le_refl _) hv) (by exact Nat.le_trans (by decide) hd) cw_J9_equals q838 q839 q840 dX2_laid_62 [] rfl (Nat.le_of_ble_eq_true rfl) hf (fun v16 h17 hf => ?_)
      refine v_if_eq ok 86 dX2_laid_65 rfl hf (fun hf => ?_) (fun hf => ?_)
      ·
        exact W_X2_laid_86 ok hr hd hx hf hk ⟨rfl, rfl, rfl, trivial⟩
      ·
        refine v_iconst ok 1 dX2_laid_68 rfl ?_
        refine v_istore ok dX2_laid_69 (by decide) ?_
        refine v_goto ok 86 dX2_laid_71 rfl ?_
        exact W_X2_laid_86 ok hr hd hx hf hk ⟨rfl, rfl, rfl, trivial⟩
    ·
      refine sw_if (v := 93908710) hf (fun e_ hf => ?_) (fun n18 hf => ?_)
      ·
        refine v_lookup ok (off := 65) 74 dX2_laid_9 (by decide) (by rw [e_]; try rfl) rfl ?_
        refine v_aload_n ok 3 dX2_laid_74 rfl rfl ?_
        refine v_ldcS ok (a0 := 10) (tx := "board") (List.mem_of_getElem? (i := 38) rfl) (by decide) dX2_laid_75 ?_
        refine v_cVi ok (RJ9, TJ9, 4) cf_24.1 [vr (some 10)] (F := fun a => J9_equals a (some 10) h11) (fun a v h1 _ hv => M_J9_equals ok.2.2.2.2.2.2.1 (d := 2) (Nat.le_refl _) hv) (by exact Nat.le_trans (by decide) hd) cw_J9_equals q838 q839 q840 dX2_laid_77 [] rfl (Nat.le_of_ble_eq_true rfl) hf (fun v19 h20 hf => ?_)
        refine v_if_eq ok 86 dX2_laid_80 rfl hf (fun hf => ?_) (fun hf => ?_)
        ·
          exact W_X2_laid_86 ok hr hd hx hf hk ⟨rfl, rfl, rfl, trivial⟩
        ·
          refine v_iconst ok 2 dX2_laid_83 rfl ?_
          refine v_istore ok dX2_laid_84 (by decide) ?_
          exact W_X2_laid_86 ok hr hd hx hf hk ⟨rfl, rfl, rfl, trivial⟩
      ·
        have n12 := ne_toI (-1106172890) (by decide) n12
        have n15 := ne_toI 3655434 (by decide) n15
        have n18 := ne_toI 93908710 (by decide) n18
        refine v_lookup ok (off := 77) 86 dX2_laid_9 (by decide) (by simp only [Op.lookupswitch.offset, List.find?]; simp [Ne.symm n12, n12, Ne.symm n15, n15, Ne.symm n18, n18]) rfl ?_
        exact W_X2_laid_86 ok hr hd hx hf hk ⟨rfl, rfl, rfl, trivial⟩
theorem M_X2_laid {G : GT} {l : Launch} (hG : Glob G) {d : Nat} (hd : 13 ≤ d) {a0 : Nat} {x1 : Option Nat} {x2 : Int32} {h : AH} {w : Int32 ⊕ Nat} {h' : AH} (hf : X2_laid a0 x1 x2 h = some (w, h')) : MMX G l yX2_laid cX2_laid 5 (Option.some Jvm.ClassFile.FieldType.boolean) d [vr (some a0), vr x1, vi x2] h (rx vi w) h' := by
  refine mmx_of hG (by decide) (Nat.le_of_ble_eq_true rfl) (fun X hX ok hr hx => ?_)
  subst hX
  exact W_X2_laid ok hr hd hx hf rfl ⟨rfl, rfl, rfl, trivial⟩
theorem cw_X2_product : CW yX2_product cX2_product 3 (Option.some (Jvm.ClassFile.FieldType.object "TurnedBoards$Value")) 0 := ⟨q1075, q177, ⟨by decide, by decide⟩, by decide +kernel, by decide⟩
def pkX2_product_20 (G : GT) (X : CX) (h0 : AH) (Q : State → Prop) (a0 : Nat) (x1 : Option Nat) (o : ((Int32 × AH) ⊕ ((Option Nat ⊕ Nat) × AH))) : Prop := match o with
  | .inl s => ∀ lv : List (Nat × AV), lle lv [(0, vr (some a0)), (1, vr x1), (2, vi s.1)] → V G X 3 h0 Q s.2 20 lv []
  | .inr z => Q = QMX G X h0 (rx vr z.1) z.2
theorem W_X2_product_20b {G : GT} {X : CX} {d : Nat} {h0 : AH} {Q : State → Prop} (ok : Ok G X RX2 cX2_product 3 d h0) (hr : (cxm X).sig.returnType = (Option.some (Jvm.ClassFile.FieldType.object "TurnedBoards$Value"))) {pa : PaT} {e : Nat} (hpa : DPA G X.2.1 e pa) (hd : e + 10 ≤ d) (hx : ∀ x ∈ (cxc X).exceptionTable.toList, False) {a0 : Nat} {x1 : Option Nat} {x2 : Int32} {h : AH} {z : ((Int32 × AH) ⊕ ((Option Nat ⊕ Nat) × AH))} (hf : X2_product_20b  pa a0 x1 x2 h = some z) (hk : pkX2_product_20 G X h0 Q a0 x1 z) {lv : List (Nat × AV)} (hl : lle lv [(0, vr (some a0)), (1, vr x1), (2, vi x2)]) : V G X 3 h0 Q h 20 lv [] := by
  refine V.sub hl ?_
  unfold X2_product_20b at hf
  refine v_iload_n ok 2 dX2_product_20 rfl rfl ?_
  refine v_if_eq ok 73 dX2_product_21 rfl hf (fun hf => ?_) (fun hf => ?_)
  ·
    refine v_aload_n ok 1 dX2_product_73 rfl rfl ?_
    exact v_aretX ok hr (by first | exact Or.inl ⟨_, rfl⟩ | exact Or.inr ⟨_, rfl⟩) (by cases hf; exact hk) dX2_product_74
  ·
    refine v_aload_n ok 0 dX2_product_24 rfl rfl ?_
    refine v_bipush ok 42 dX2_product_25 rfl ?_
    refine v_cVi ok (RX2, TX2, 8) cf_2.1 [vi 42] (F := fun a => X2_takes a 42 h) (fun a v h1 _ hv => M_X2_takes ok.2.2.2.2.2.2.1 (d := 3) (Nat.le_refl _) hv) (by omega) cw_X2_takes q1211 q1213 qs29 dX2_product_27 [] rfl (Nat.le_of_ble_eq_true rfl) hf (fun v1 h2 hf => ?_)
    refine v_if_eq ok 46 dX2_product_30 rfl hf (fun hf => ?_) (fun hf => ?_)
    ·
      refine v_aload_n ok 0 dX2_product_46 rfl rfl ?_
      refine v_bipush ok 47 dX2_product_47 rfl ?_
      refine v_cVi ok (RX2, TX2, 8) cf_2.1 [vi 47] (F := fun a => X2_takes a 47 h2) (fun a v h1 _ hv => M_X2_takes ok.2.2.2.2.2.2.1 (d := 3) (Nat.le_refl _) hv) (by omega) cw_X2_takes q1211 q1213 qs29 dX2_product_49 [] rfl (Nat.le_of_ble_eq_true rfl) hf (fun v3 h4 hf => ?_)
      refine v_if_eq ok 68 dX2_product_52 rfl hf (fun hf => ?_) (fun hf => ?_)
      ·
        refine v_iconst ok 0 dX2_product_68 rfl ?_
        refine v_istore_n ok 2 dX2_product_69 rfl (by decide) ?_
        refine v_goto ok 20 dX2_product_70 rfl ?_
        cases hf; exact hk _ ⟨rfl, rfl, rfl, trivial⟩
      ·
        refine v_aload_n ok 1 dX2_product_55 rfl rfl ?_
        refine v_bipush ok 47 dX2_product_56 rfl ?_
        refine v_aload_n ok 0 dX2_product_58 rfl rfl ?_
        refine v_cXr ok (RX2, TX2, 8) cf_2.1 [] (F := fun a => pa a h4) (fun a w h1 _ hv => hpa _ _ _ _ hv) (by omega) cw_X2_atom q1076 q1078 qs24 dX2_product_59 [vi 47, vr x1] rfl (Nat.le_of_ble_eq_true rfl) hf (fun b h_ h3 h4 hf => VX.out ok hx h3 h4 (by cases hf; exact hk)) (fun v5 h6 hf => ?_)
        refine v_cVv ok (RX12, TX12, 2) cf_12.1 [vi 47, vr v5] (F := fun a => X12_add a 47 v5 h6) (fun a h1 _ hv => M_X12_add ok.2.2.2.2.2.2.1 (d := 9) (Nat.le_refl _) hv) (by omega) cw_X12_add q1157 q1158 q1159 dX2_product_62 [] rfl (Nat.le_of_ble_eq_true rfl) hf (fun h7 hf => ?_)
        refine v_goto ok 20 dX2_product_65 rfl ?_
        cases hf; exact hk _ ⟨rfl, rfl, rfl, trivial⟩
    ·
      refine v_aload_n ok 1 dX2_product_33 rfl rfl ?_
      refine v_bipush ok 42 dX2_product_34 rfl ?_
      refine v_aload_n ok 0 dX2_product_36 rfl rfl ?_
      refine v_cXr ok (RX2, TX2, 8) cf_2.1 [] (F := fun a => pa a h2) (fun a w h1 _ hv => hpa _ _ _ _ hv) (by omega) cw_X2_atom q1076 q1078 qs24 dX2_product_37 [vi 42, vr x1] rfl (Nat.le_of_ble_eq_true rfl) hf (fun b h_ h3 h4 hf => VX.out ok hx h3 h4 (by cases hf; exact hk)) (fun v8 h9 hf => ?_)
      refine v_cVv ok (RX12, TX12, 2) cf_12.1 [vi 42, vr v8] (F := fun a => X12_add a 42 v8 h9) (fun a h1 _ hv => M_X12_add ok.2.2.2.2.2.2.1 (d := 9) (Nat.le_refl _) hv) (by omega) cw_X12_add q1157 q1158 q1159 dX2_product_40 [] rfl (Nat.le_of_ble_eq_true rfl) hf (fun h10 hf => ?_)
      refine v_goto ok 20 dX2_product_43 rfl ?_
      cases hf; exact hk _ ⟨rfl, rfl, rfl, trivial⟩
theorem W_X2_product_20 {G : GT} {X : CX} {d : Nat} {h0 : AH} {Q : State → Prop} (ok : Ok G X RX2 cX2_product 3 d h0) (hr : (cxm X).sig.returnType = (Option.some (Jvm.ClassFile.FieldType.object "TurnedBoards$Value"))) {pa : PaT} {e : Nat} (hpa : DPA G X.2.1 e pa) (hd : e + 10 ≤ d) (hx : ∀ x ∈ (cxc X).exceptionTable.toList, False) {a0 : Nat} {x1 : Option Nat} {x2 : Int32} {h : AH} {z : ((Option Nat ⊕ Nat) × AH)} (hf : X2_product_20  pa a0 x1 x2 h = some z) (hk : Q = QMX G X h0 (rx vr z.1) z.2) {lv : List (Nat × AV)} (hl : lle lv [(0, vr (some a0)), (1, vr x1), (2, vi x2)]) : V G X 3 h0 Q h 20 lv [] := by
  unfold X2_product_20 at hf
  exact loopC_walk (Wh := fun s : Int32 × AH => ∀ lv : List (Nat × AV), lle lv [(0, vr (some a0)), (1, vr x1), (2, vi s.1)] → V G X 3 h0 Q s.2 20 lv []) (PK := fun z => Q = QMX G X h0 (rx vr z.1) z.2) (fun s o hf hk lv hl => W_X2_product_20b ok hr hpa hd hx hf (by cases o <;> exact hk) hl) _ z hf hk lv hl
theorem W_X2_product {G : GT} {X : CX} {d : Nat} {h0 : AH} {Q : State → Prop} (ok : Ok G X RX2 cX2_product 3 d h0) (hr : (cxm X).sig.returnType = (Option.some (Jvm.ClassFile.FieldType.object "TurnedBoards$Value"))) {pa : PaT} {e : Nat} (hpa : DPA G X.2.1 e pa) (hd : e + 10 ≤ d) (hx : ∀ x ∈ (cxc X).exceptionTable.toList, False) {a0 : Nat} {h : AH} {z : ((Option Nat ⊕ Nat) × AH)} (hf : X2_product pa a0 h = some z) (hk : Q = QMX G X h0 (rx vr z.1) z.2) {lv : List (Nat × AV)} (hl : lle lv [(0, vr (some a0))]) : V G X 3 h0 Q h 0 lv [] := by
  refine V.sub hl ?_
  unfold X2_product at hf
  refine v_new ok cf_12 rfl q1031 q1032 q195 df_12 dX2_product_0 hf (fun v11 h12 hf => ?_)
  refine v_dup ok dX2_product_3 rfl ?_
  refine v_cINv ok [] rfl (F := fun a => X12_init a h12) (fun a h1 _ hv => M_X12_init ok.2.2.2.2.2.2.1 (d := 5) (Nat.le_refl _) hv) (by omega) cw_X12_init q1033 q1034 dX2_product_4 [vr v11] rfl (Nat.le_of_ble_eq_true rfl) hf (fun h13 hf => ?_)
  refine v_astore_n ok 1 dX2_product_7 rfl (by decide) ?_
  refine v_aload_n ok 1 dX2_product_8 rfl rfl ?_
  refine v_bipush ok 42 dX2_product_9 rfl ?_
  refine v_aload_n ok 0 dX2_product_11 rfl rfl ?_
  refine v_cXr ok (RX2, TX2, 8) cf_2.1 [] (F := fun a => pa a h13) (fun a w h1 _ hv => hpa _ _ _ _ hv) (by omega) cw_X2_atom q1076 q1078 qs24 dX2_product_12 [vi 42, vr v11] rfl (Nat.le_of_ble_eq_true rfl) hf (fun b h_ h3 h4 hf => VX.out ok hx h3 h4 (by cases hf; exact hk)) (fun v14 h15 hf => ?_)
  refine v_cVv ok (RX12, TX12, 2) cf_12.1 [vi 42, vr v14] (F := fun a => X12_add a 42 v14 h15) (fun a h1 _ hv => M_X12_add ok.2.2.2.2.2.2.1 (d := 9) (Nat.le_refl _) hv) (by omega) cw_X12_add q1157 q1158 q1159 dX2_product_15 [] rfl (Nat.le_of_ble_eq_true rfl) hf (fun h16 hf => ?_)
  refine v_iconst ok 1 dX2_product_18 rfl ?_
  refine v_istore_n ok 2 dX2_product_19 rfl (by decide) ?_
  exact W_X2_product_20 ok hr hpa hd hx hf hk ⟨rfl, rfl, rfl, trivial⟩
theorem M_X2_product {G : GT} {l : Launch} (hG : Glob G) {pa : PaT} {e : Nat} (hpa : DPA G l e pa) {d : Nat} (hd : e + 10 ≤ d) {a0 : Nat} {h : AH} {w : Option Nat ⊕ Nat} {h' : AH} (hf : X2_product pa a0 h = some (w, h')) : MMX G l yX2_product cX2_product 3 (Option.some (Jvm.ClassFile.FieldType.object "TurnedBoards$Value")) d [vr (some a0)] h (rx vr w) h' := by
  refine mmx_of hG (by decide) (Nat.le_of_ble_eq_true rfl) (fun X hX ok hr hx => ?_)
  subst hX
  exact W_X2_product ok hr hpa hd hx hf rfl ⟨rfl, trivial⟩
theorem cw_X2_sum : CW yX2_sum cX2_sum 3 (Option.some (Jvm.ClassFile.FieldType.object "TurnedBoards$Value")) 0 := ⟨q1030, q177, ⟨by decide, by decide⟩, by decide +kernel, by decide⟩
def pkX2_sum_20 (G : GT) (X : CX) (h0 : AH) (Q : State → Prop) (a0 : Nat) (x1 : Option Nat) (o : ((Int32 × AH) ⊕ ((Option Nat ⊕ Nat) × AH))) : Prop := match o with
  | .inl s => ∀ lv : List (Nat × AV), lle lv [(0, vr (some a0)), (1, vr x1), (2, vi s.1)] → V G X 3 h0 Q s.2 20 lv []
  | .inr z => Q = QMX G X h0 (rx vr z.1) z.2
theorem W_X2_sum_20b {G : GT} {X : CX} {d : Nat} {h0 : AH} {Q : State → Prop} (ok : Ok G X RX2 cX2_sum 3 d h0) (hr : (cxm X).sig.returnType = (Option.some (Jvm.ClassFile.FieldType.object "TurnedBoards$Value"))) {pa : PaT} {e : Nat} (hpa : DPA G X.2.1 e pa) (hd : e + 11 ≤ d) (hx : ∀ x ∈ (cxc X).exceptionTable.toList, False) {a0 : Nat} {x1 : Option Nat} {x2 : Int32} {h : AH} {z : ((Int32 × AH) ⊕ ((Option Nat ⊕ Nat) × AH))} (hf : X2_sum_20b  pa a0 x1 x2 h = some z) (hk : pkX2_sum_20 G X h0 Q a0 x1 z) {lv : List (Nat × AV)} (hl : lle lv [(0, vr (some a0)), (1, vr x1), (2, vi x2)]) : V G X 3 h0 Q h 20 lv [] := by
  refine V.sub hl ?_
  unfold X2_sum_20b at hf
  refine v_iload_n ok 2 dX2_sum_20 rfl rfl ?_
  refine v_if_eq ok 73 dX2_sum_21 rfl hf (fun hf => ?_) (fun hf => ?_)
  ·
    refine v_aload_n ok 1 dX2_sum_73 rfl rfl ?_
    exact v_aretX ok hr (by first | exact Or.inl ⟨_, rfl⟩ | exact Or.inr ⟨_, rfl⟩) (by cases hf; exact hk) dX2_sum_74
  ·
    refine v_aload_n ok 0 dX2_sum_24 rfl rfl ?_
    refine v_bipush ok 43 dX2_sum_25 rfl ?_
    refine v_cVi ok (RX2, TX2, 8) cf_2.1 [vi 43] (F := fun a => X2_takes a 43 h) (fun a v h1 _ hv => M_X2_takes ok.2.2.2.2.2.2.1 (d := 3) (Nat.le_refl _) hv) (by omega) cw_X2_takes q1211 q1213 qs29 dX2_sum_27 [] rfl (Nat.le_of_ble_eq_true rfl) hf (fun v1 h2 hf => ?_)
    refine v_if_eq ok 46 dX2_sum_30 rfl hf (fun hf => ?_) (fun hf => ?_)
    ·
      refine v_aload_n ok 0 dX2_sum_46 rfl rfl ?_
      refine v_bipush ok 45 dX2_sum_47 rfl ?_
      refine v_cVi ok (RX2, TX2, 8) cf_2.1 [vi 45] (F := fun a => X2_takes a 45 h2) (fun a v h1 _ hv => M_X2_takes ok.2.2.2.2.2.2.1 (d := 3) (Nat.le_refl _) hv) (by omega) cw_X2_takes q1211 q1213 qs29 dX2_sum_49 [] rfl (Nat.le_of_ble_eq_true rfl) hf (fun v3 h4 hf => ?_)
      refine v_if_eq ok 68 dX2_sum_52 rfl hf (fun hf => ?_) (fun hf => ?_)
      ·
        refine v_iconst ok 0 dX2_sum_68 rfl ?_
        refine v_istore_n ok 2 dX2_sum_69 rfl (by decide) ?_
        refine v_goto ok 20 dX2_sum_70 rfl ?_
        cases hf; exact hk _ ⟨rfl, rfl, rfl, trivial⟩
      ·
        refine v_aload_n ok 1 dX2_sum_55 rfl rfl ?_
        refine v_bipush ok 45 dX2_sum_56 rfl ?_
        refine v_aload_n ok 0 dX2_sum_58 rfl rfl ?_
        refine v_cXr ok (RX2, TX2, 8) cf_2.1 [] (F := fun a => X2_product pa a h4) (fun a w h1 _ hv => M_X2_product ok.2.2.2.2.2.2.1 hpa (d := e + 10) (Nat.le_refl _) hv) (by omega) cw_X2_product q1072 q1074 qs23 dX2_sum_59 [vi 45, vr x1] rfl (Nat.le_of_ble_eq_true rfl) hf (fun b h_ h3 h4 hf => VX.out ok hx h3 h4 (by cases hf; exact hk)) (fun v5 h6 hf => ?_)
        refine v_cVv ok (RX12, TX12, 2) cf_12.1 [vi 45, vr v5] (F := fun a => X12_add a 45 v5 h6) (fun a h1 _ hv => M_X12_add ok.2.2.2.2.2.2.1 (d := 9) (Nat.le_refl _) hv) (by omega) cw_X12_add q1157 q1158 q1159 dX2_sum_62 [] rfl (Nat.le_of_ble_eq_true rfl) hf (fun h7 hf => ?_)
        refine v_goto ok 20 dX2_sum_65 rfl ?_
        cases hf; exact hk _ ⟨rfl, rfl, rfl, trivial⟩
    ·
      refine v_aload_n ok 1 dX2_sum_33 rfl rfl ?_
      refine v_bipush ok 43 dX2_sum_34 rfl ?_
      refine v_aload_n ok 0 dX2_sum_36 rfl rfl ?_
      refine v_cXr ok (RX2, TX2, 8) cf_2.1 [] (F := fun a => X2_product pa a h2) (fun a w h1 _ hv => M_X2_product ok.2.2.2.2.2.2.1 hpa (d := e + 10) (Nat.le_refl _) hv) (by omega) cw_X2_product q1072 q1074 qs23 dX2_sum_37 [vi 43, vr x1] rfl (Nat.le_of_ble_eq_true rfl) hf (fun b h_ h3 h4 hf => VX.out ok hx h3 h4 (by cases hf; exact hk)) (fun v8 h9 hf => ?_)
      refine v_cVv ok (RX12, TX12, 2) cf_12.1 [vi 43, vr v8] (F := fun a => X12_add a 43 v8 h9) (fun a h1 _ hv => M_X12_add ok.2.2.2.2.2.2.1 (d := 9) (Nat.le_refl _) hv) (by omega) cw_X12_add q1157 q1158 q1159 dX2_sum_40 [] rfl (Nat.le_of_ble_eq_true rfl) hf (fun h10 hf => ?_)
      refine v_goto ok 20 dX2_sum_43 rfl ?_
      cases hf; exact hk _ ⟨rfl, rfl, rfl, trivial⟩
theorem W_X2_sum_20 {G : GT} {X : CX} {d : Nat} {h0 : AH} {Q : State → Prop} (ok : Ok G X RX2 cX2_sum 3 d h0) (hr : (cxm X).sig.returnType = (Option.some (Jvm.ClassFile.FieldType.object "TurnedBoards$Value"))) {pa : PaT} {e : Nat} (hpa : DPA G X.2.1 e pa) (hd : e + 11 ≤ d) (hx : ∀ x ∈ (cxc X).exceptionTable.toList, False) {a0 : Nat} {x1 : Option Nat} {x2 : Int32} {h : AH} {z : ((Option Nat ⊕ Nat) × AH)} (hf : X2_sum_20  pa a0 x1 x2 h = some z) (hk : Q = QMX G X h0 (rx vr z.1) z.2) {lv : List (Nat × AV)} (hl : lle lv [(0, vr (some a0)), (1, vr x1), (2, vi x2)]) : V G X 3 h0 Q h 20 lv [] := by
  unfold X2_sum_20 at hf
  exact loopC_walk (Wh := fun s : Int32 × AH => ∀ lv : List (Nat × AV), lle lv [(0, vr (some a0)), (1, vr x1), (2, vi s.1)] → V G X 3 h0 Q s.2 20 lv []) (PK := fun z => Q = QMX G X h0 (rx vr z.1) z.2) (fun s o hf hk lv hl => W_X2_sum_20b ok hr hpa hd hx hf (by cases o <;> exact hk) hl) _ z hf hk lv hl
theorem W_X2_sum {G : GT} {X : CX} {d : Nat} {h0 : AH} {Q : State → Prop} (ok : Ok G X RX2 cX2_sum 3 d h0) (hr : (cxm X).sig.returnType = (Option.some (Jvm.ClassFile.FieldType.object "TurnedBoards$Value"))) {pa : PaT} {e : Nat} (hpa : DPA G X.2.1 e pa) (hd : e + 11 ≤ d) (hx : ∀ x ∈ (cxc X).exceptionTable.toList, False) {a0 : Nat} {h : AH} {z : ((Option Nat ⊕ Nat) × AH)} (hf : X2_sum pa a0 h = some z) (hk : Q = QMX G X h0 (rx vr z.1) z.2) {lv : List (Nat × AV)} (hl : lle lv [(0, vr (some a0))]) : V G X 3 h0 Q h 0 lv [] := by
  refine V.sub hl ?_
  unfold X2_sum at hf
  refine v_new ok cf_12 rfl q1031 q1032 q195 df_12 dX2_sum_0 hf (fun v11 h12 hf => ?_)
  refine v_dup ok dX2_sum_3 rfl ?_
  refine v_cINv ok [] rfl (F := fun a => X12_init a h12) (fun a h1 _ hv => M_X12_init ok.2.2.2.2.2.2.1 (d := 5) (Nat.le_refl _) hv) (by omega) cw_X12_init q1033 q1034 dX2_sum_4 [vr v11] rfl (Nat.le_of_ble_eq_true rfl) hf (fun h13 hf => ?_)
  refine v_astore_n ok 1 dX2_sum_7 rfl (by decide) ?_
  refine v_aload_n ok 1 dX2_sum_8 rfl rfl ?_
  refine v_bipush ok 43 dX2_sum_9 rfl ?_
  refine v_aload_n ok 0 dX2_sum_11 rfl rfl ?_
  refine v_cXr ok (RX2, TX2, 8) cf_2.1 [] (F := fun a => X2_product pa a h13) (fun a w h1 _ hv => M_X2_product ok.2.2.2.2.2.2.1 hpa (d := e + 10) (Nat.le_refl _) hv) (by omega) cw_X2_product q1072 q1074 qs23 dX2_sum_12 [vi 43, vr v11] rfl (Nat.le_of_ble_eq_true rfl) hf (fun b h_ h3 h4 hf => VX.out ok hx h3 h4 (by cases hf; exact hk)) (fun v14 h15 hf => ?_)
  refine v_cVv ok (RX12, TX12, 2) cf_12.1 [vi 43, vr v14] (F := fun a => X12_add a 43 v14 h15) (fun a h1 _ hv => M_X12_add ok.2.2.2.2.2.2.1 (d := 9) (Nat.le_refl _) hv) (by omega) cw_X12_add q1157 q1158 q1159 dX2_sum_15 [] rfl (Nat.le_of_ble_eq_true rfl) hf (fun h16 hf => ?_)
  refine v_iconst ok 1 dX2_sum_18 rfl ?_
  refine v_istore_n ok 2 dX2_sum_19 rfl (by decide) ?_
  exact W_X2_sum_20 ok hr hpa hd hx hf hk ⟨rfl, rfl, rfl, trivial⟩
theorem M_X2_sum {G : GT} {l : Launch} (hG : Glob G) {pa : PaT} {e : Nat} (hpa : DPA G l e pa) {d : Nat} (hd : e + 11 ≤ d) {a0 : Nat} {h : AH} {w : Option Nat ⊕ Nat} {h' : AH} (hf : X2_sum pa a0 h = some (w, h')) : MMX G l yX2_sum cX2_sum 3 (Option.some (Jvm.ClassFile.FieldType.object "TurnedBoards$Value")) d [vr (some a0)] h (rx vr w) h' := by
  refine mmx_of hG (by decide) (Nat.le_of_ble_eq_true rfl) (fun X hX ok hr hx => ?_)
  subst hX
  exact W_X2_sum ok hr hpa hd hx hf rfl ⟨rfl, trivial⟩
theorem cw_X2_passes : CW yX2_passes cX2_passes 3 (Option.some Jvm.ClassFile.FieldType.boolean) 1 := ⟨q1250, q177, ⟨by decide, by decide⟩, by decide +kernel, by decide⟩
theorem W_X2_passes {G : GT} {X : CX} {d : Nat} {h0 : AH} {Q : State → Prop} (ok : Ok G X RX2 cX2_passes 3 d h0) (hr : (cxm X).sig.returnType = (Option.some Jvm.ClassFile.FieldType.boolean)) (hd : 10 ≤ d) (hx : ∀ x ∈ (cxc X).exceptionTable.toList, False) {a0 : Nat} {x1 : Option Nat} {h : AH} {z : ((Int32 ⊕ Nat) × AH)} (hf : X2_passes a0 x1 h = some z) (hk : Q = QMX G X h0 (rx vi z.1) z.2) {lv : List (Nat × AV)} (hl : lle lv [(0, vr (some a0)), (1, vr x1)]) : V G X 3 h0 Q h 0 lv [] := by
  refine V.sub hl ?_
  unfold X2_passes at hf
  refine v_aload_n ok 0 dX2_passes_0 rfl rfl ?_
  refine v_gI ok fl_X2_36 (fun _ _ _ => rfl) dX2_passes_1 hf (fun v1 hf => ?_)
  refine v_istore_n ok 2 dX2_passes_4 rfl (by decide) ?_
  refine v_aload_n ok 0 dX2_passes_5 rfl rfl ?_
  refine v_cVi ok (RX2, TX2, 8) cf_2.1 [] (F := fun a => X2_here a h) (fun a v h1 _ hv => M_X2_here ok.2.2.2.2.2.2.1 (d := 2) (Nat.le_refl _) hv) (by exact Nat.le_trans (by decide) hd) cw_X2_here q672 q674 qs7 dX2_passes_6 [] rfl (Nat.le_of_ble_eq_true rfl) hf (fun v2 h3 hf => ?_)
  refine v_cSNi ok [vi v2] (F := X0_isLetter v2 h3) (fun v h1 hv => M_X0_isLetter ok.2.2.2.2.2.2.1 (d := 1) (Nat.le_refl _) hv) (by exact Nat.le_trans (by decide) hd) cw_X0_isLetter q692 q693 dX2_passes_9 [] rfl (Nat.le_of_ble_eq_true rfl) hf (fun v4 h5 hf => ?_)
  refine v_if_ne ok 17 dX2_passes_12 rfl hf (fun hf => ?_) (fun hf => ?_)
  ·
    refine v_aload_n ok 0 dX2_passes_17 rfl rfl ?_
    refine v_cXr ok (RX2, TX2, 8) cf_2.1 [] (F := fun a => X2_word a h5) (fun a w h1 _ hv => M_X2_word ok.2.2.2.2.2.2.1 (d := 9) (Nat.le_refl _) hv) (by omega) cw_X2_word q688 q690 qs11 dX2_passes_18 [] rfl (Nat.le_of_ble_eq_true rfl) hf (fun b h_ h3 h4 hf => VX.out ok hx h3 h4 (by cases hf; exact hk)) (fun v6 h7 hf => ?_)
    refine v_aload_n ok 1 dX2_passes_21 rfl rfl ?_
    refine v_cVi ok (RJ9, TJ9, 4) cf_24.1 [vr x1] (F := fun a => J9_equals a x1 h7) (fun a v h1 _ hv => M_J9_equals ok.2.2.2.2.2.2.1 (d := 2) (Nat.le_refl _) hv) (by exact Nat.le_trans (by decide) hd) cw_J9_equals q838 q839 q840 dX2_passes_22 [] rfl (Nat.le_of_ble_eq_true rfl) hf (fun v8 h9 hf => ?_)
    refine v_if_eq ok 30 dX2_passes_25 rfl hf (fun hf => ?_) (fun hf => ?_)
    ·
      refine v_aload_n ok 0 dX2_passes_30 rfl rfl ?_
      refine v_iload_n ok 2 dX2_passes_31 rfl rfl ?_
      refine v_pI ok fl_X2_36 ⟨fun _ _ _ => rfl, rfl⟩ (FN.of cf_2.1 rfl) dX2_passes_32 hf (fun h10 hf => ?_)
      refine v_iconst ok 0 dX2_passes_35 rfl ?_
      exact v_zretLX ok hr (by decide) (by decide) (by cases hf; exact hk) dX2_passes_36
    ·
      refine v_iconst ok 1 dX2_passes_28 rfl ?_
      exact v_zretLX ok hr (by decide) (by decide) (by cases hf; exact hk) dX2_passes_29
  ·
    refine v_iconst ok 0 dX2_passes_15 rfl ?_
    exact v_zretLX ok hr (by decide) (by decide) (by cases hf; exact hk) dX2_passes_16
theorem M_X2_passes {G : GT} {l : Launch} (hG : Glob G) {d : Nat} (hd : 10 ≤ d) {a0 : Nat} {x1 : Option Nat} {h : AH} {w : Int32 ⊕ Nat} {h' : AH} (hf : X2_passes a0 x1 h = some (w, h')) : MMX G l yX2_passes cX2_passes 3 (Option.some Jvm.ClassFile.FieldType.boolean) d [vr (some a0), vr x1] h (rx vi w) h' := by
  refine mmx_of hG (by decide) (Nat.le_of_ble_eq_true rfl) (fun X hX ok hr hx => ?_)
  subst hX
  exact W_X2_passes ok hr hd hx hf rfl ⟨rfl, rfl, trivial⟩
theorem cw_X2_both : CW yX2_both cX2_both 2 (Option.some (Jvm.ClassFile.FieldType.object "TurnedBoards$Test")) 0 := ⟨q1241, q177, ⟨by decide, by decide⟩, by decide +kernel, by decide⟩
def pkX2_both_23 (G : GT) (X : CX) (h0 : AH) (Q : State → Prop) (a0 : Nat) (x1 : Option Nat) (o : ((AH) ⊕ ((Option Nat ⊕ Nat) × AH))) : Prop := match o with
  | .inl s => ∀ lv : List (Nat × AV), lle lv [(0, vr (some a0)), (1, vr x1)] → V G X 2 h0 Q s 23 lv []
  | .inr z => Q = QMX G X h0 (rx vr z.1) z.2
theorem W_X2_both_23b {G : GT} {X : CX} {d : Nat} {h0 : AH} {Q : State → Prop} (ok : Ok G X RX2 cX2_both 2 d h0) (hr : (cxm X).sig.returnType = (Option.some (Jvm.ClassFile.FieldType.object "TurnedBoards$Test"))) {pf : PaT} {e : Nat} (hpf : DPF G X.2.1 e pf) (hd : e + 11 ≤ d) (hx : ∀ x ∈ (cxc X).exceptionTable.toList, False) {a0 : Nat} {x1 : Option Nat} {h : AH} {z : ((AH) ⊕ ((Option Nat ⊕ Nat) × AH))} (hf : X2_both_23b  pf a0 x1  h = some z) (hk : pkX2_both_23 G X h0 Q a0 x1 z) {lv : List (Nat × AV)} (hl : lle lv [(0, vr (some a0)), (1, vr x1)]) : V G X 2 h0 Q h 23 lv [] := by
  refine V.sub hl ?_
  unfold X2_both_23b at hf
  refine v_aload_n ok 0 dX2_both_23 rfl rfl ?_
  refine v_ldcwS ok (a0 := 4) (tx := "and") (List.mem_of_getElem? (i := 47) rfl) (by decide) dX2_both_24 ?_
  refine v_cXi ok (RX2, TX2, 8) cf_2.1 [vr (some 4)] (F := fun a => X2_passes a (some 4) h) (fun a w h1 _ hv => M_X2_passes ok.2.2.2.2.2.2.1 (d := 10) (Nat.le_refl _) hv) (by omega) cw_X2_passes q1247 q1249 qs33 dX2_both_27 [] rfl (Nat.le_of_ble_eq_true rfl) hf (fun b h_ h3 h4 hf => VX.out ok hx h3 h4 (by cases hf; exact hk)) (fun v1 h2 hf => ?_)
  refine v_if_eq ok 50 dX2_both_30 rfl hf (fun hf => ?_) (fun hf => ?_)
  ·
    refine v_aload_n ok 1 dX2_both_50 rfl rfl ?_
    exact v_aretX ok hr (by first | exact Or.inl ⟨_, rfl⟩ | exact Or.inr ⟨_, rfl⟩) (by cases hf; exact hk) dX2_both_51
  ·
    refine v_aload_n ok 1 dX2_both_33 rfl rfl ?_
    refine v_gRN ok fl_X2_293 (by first | exact Or.inl ⟨_, rfl⟩ | exact Or.inr ⟨_, rfl⟩) dX2_both_34 hf (fun v3 hf => ?_)
    refine v_aload_n ok 0 dX2_both_37 rfl rfl ?_
    refine v_cXr ok (RX2, TX2, 8) cf_2.1 [] (F := fun a => pf a h2) (fun a w h1 _ hv => hpf _ _ _ _ hv) (by omega) cw_X2_fact q1242 q1244 qs32 dX2_both_38 [vr v3] rfl (Nat.le_of_ble_eq_true rfl) hf (fun b h_ h3 h4 hf => VX.out ok hx h3 h4 (by cases hf; exact hk)) (fun v4 h5 hf => ?_)
    refine v_cFi ok (RJ2, TJ2, 3) cf_23.1 [vr v4] (F := fun a => J2_add a v4 h5) (fun a v h1 _ hv => M_J2_add ok.2.2.2.2.2.2.1 (d := 7) (Nat.le_refl _) hv) (by omega) cw_J2_add q957 q258 cwf_J2_add dX2_both_41 [] rfl (Nat.le_of_ble_eq_true rfl) hf (fun v6 h7 hf => ?_)
    refine v_pop ok dX2_both_46 rfl ?_
    refine v_goto ok 23 dX2_both_47 rfl ?_
    cases hf; exact hk _ ⟨rfl, rfl, trivial⟩
theorem W_X2_both_23 {G : GT} {X : CX} {d : Nat} {h0 : AH} {Q : State → Prop} (ok : Ok G X RX2 cX2_both 2 d h0) (hr : (cxm X).sig.returnType = (Option.some (Jvm.ClassFile.FieldType.object "TurnedBoards$Test"))) {pf : PaT} {e : Nat} (hpf : DPF G X.2.1 e pf) (hd : e + 11 ≤ d) (hx : ∀ x ∈ (cxc X).exceptionTable.toList, False) {a0 : Nat} {x1 : Option Nat} {h : AH} {z : ((Option Nat ⊕ Nat) × AH)} (hf : X2_both_23  pf a0 x1 h = some z) (hk : Q = QMX G X h0 (rx vr z.1) z.2) {lv : List (Nat × AV)} (hl : lle lv [(0, vr (some a0)), (1, vr x1)]) : V G X 2 h0 Q h 23 lv [] := by
  unfold X2_both_23 at hf
  exact loopC_walk (Wh := fun s : AH => ∀ lv : List (Nat × AV), lle lv [(0, vr (some a0)), (1, vr x1)] → V G X 2 h0 Q s 23 lv []) (PK := fun z => Q = QMX G X h0 (rx vr z.1) z.2) (fun s o hf hk lv hl => W_X2_both_23b ok hr hpf hd hx hf (by cases o <;> exact hk) hl) _ z hf hk lv hl
theorem W_X2_both {G : GT} {X : CX} {d : Nat} {h0 : AH} {Q : State → Prop} (ok : Ok G X RX2 cX2_both 2 d h0) (hr : (cxm X).sig.returnType = (Option.some (Jvm.ClassFile.FieldType.object "TurnedBoards$Test"))) {pf : PaT} {e : Nat} (hpf : DPF G X.2.1 e pf) (hd : e + 11 ≤ d) (hx : ∀ x ∈ (cxc X).exceptionTable.toList, False) {a0 : Nat} {h : AH} {z : ((Option Nat ⊕ Nat) × AH)} (hf : X2_both pf a0 h = some z) (hk : Q = QMX G X h0 (rx vr z.1) z.2) {lv : List (Nat × AV)} (hl : lle lv [(0, vr (some a0))]) : V G X 2 h0 Q h 0 lv [] := by
  refine V.sub hl ?_
  unfold X2_both at hf
  refine v_new ok cf_18 rfl q1219 q1220 q203 df_18 dX2_both_0 hf (fun v8 h9 hf => ?_)
  refine v_dup ok dX2_both_3 rfl ?_
  refine v_iconst ok 1 dX2_both_4 rfl ?_
  refine v_cIv ok [vi 1] rfl (F := fun a => X18_init a 1 h9) (fun a h1 _ hv => M_X18_init ok.2.2.2.2.2.2.1 (d := 4) (Nat.le_refl _) hv) (by omega) cw_X18_init q1221 q1222 dX2_both_5 [vr v8] rfl (Nat.le_of_ble_eq_true rfl) hf (fun h10 hf => ?_)
  refine v_astore_n ok 1 dX2_both_8 rfl (by decide) ?_
  refine v_aload_n ok 1 dX2_both_9 rfl rfl ?_
  refine v_gRN ok fl_X2_293 (by first | exact Or.inl ⟨_, rfl⟩ | exact Or.inr ⟨_, rfl⟩) dX2_both_10 hf (fun v11 hf => ?_)
  refine v_aload_n ok 0 dX2_both_13 rfl rfl ?_
  refine v_cXr ok (RX2, TX2, 8) cf_2.1 [] (F := fun a => pf a h10) (fun a w h1 _ hv => hpf _ _ _ _ hv) (by omega) cw_X2_fact q1242 q1244 qs32 dX2_both_14 [vr v11] rfl (Nat.le_of_ble_eq_true rfl) hf (fun b h_ h3 h4 hf => VX.out ok hx h3 h4 (by cases hf; exact hk)) (fun v12 h13 hf => ?_)
  refine v_cFi ok (RJ2, TJ2, 3) cf_23.1 [vr v12] (F := fun a => J2_add a v12 h13) (fun a v h1 _ hv => M_J2_add ok.2.2.2.2.2.2.1 (d := 7) (Nat.le_refl _) hv) (by omega) cw_J2_add q957 q258 cwf_J2_add dX2_both_17 [] rfl (Nat.le_of_ble_eq_true rfl) hf (fun v14 h15 hf => ?_)
  refine v_pop ok dX2_both_22 rfl ?_
  exact W_X2_both_23 ok hr hpf hd hx hf hk ⟨rfl, rfl, trivial⟩
theorem M_X2_both {G : GT} {l : Launch} (hG : Glob G) {pf : PaT} {e : Nat} (hpf : DPF G l e pf) {d : Nat} (hd : e + 11 ≤ d) {a0 : Nat} {h : AH} {w : Option Nat ⊕ Nat} {h' : AH} (hf : X2_both pf a0 h = some (w, h')) : MMX G l yX2_both cX2_both 2 (Option.some (Jvm.ClassFile.FieldType.object "TurnedBoards$Test")) d [vr (some a0)] h (rx vr w) h' := by
  refine mmx_of hG (by decide) (Nat.le_of_ble_eq_true rfl) (fun X hX ok hr hx => ?_)
  subst hX
  exact W_X2_both ok hr hpf hd hx hf rfl ⟨rfl, trivial⟩
theorem cw_X2_test : CW yX2_test cX2_test 2 (Option.some (Jvm.ClassFile.FieldType.object "TurnedBoards$Test")) 0 := ⟨q1218, q177, ⟨by decide, by decide⟩, by decide +kernel, by decide⟩
def pkX2_test_23 (G : GT) (X : CX) (h0 : AH) (Q : State → Prop) (a0 : Nat) (x1 : Option Nat) (o : ((AH) ⊕ ((Option Nat ⊕ Nat) × AH))) : Prop := match o with
  | .inl s => ∀ lv : List (Nat × AV), lle lv [(0, vr (some a0)), (1, vr x1)] → V G X 2 h0 Q s 23 lv []
  | .inr z => Q = QMX G X h0 (rx vr z.1) z.2
theorem W_X2_test_23b {G : GT} {X : CX} {d : Nat} {h0 : AH} {Q : State → Prop} (ok : Ok G X RX2 cX2_test 2 d h0) (hr : (cxm X).sig.returnType = (Option.some (Jvm.ClassFile.FieldType.object "TurnedBoards$Test"))) {pf : PaT} {e : Nat} (hpf : DPF G X.2.1 e pf) (hd : e + 12 ≤ d) (hx : ∀ x ∈ (cxc X).exceptionTable.toList, False) {a0 : Nat} {x1 : Option Nat} {h : AH} {z : ((AH) ⊕ ((Option Nat ⊕ Nat) × AH))} (hf : X2_test_23b  pf a0 x1  h = some z) (hk : pkX2_test_23 G X h0 Q a0 x1 z) {lv : List (Nat × AV)} (hl : lle lv [(0, vr (some a0)), (1, vr x1)]) : V G X 2 h0 Q h 23 lv [] := by
  refine V.sub hl ?_
  unfold X2_test_23b at hf
  refine v_aload_n ok 0 dX2_test_23 rfl rfl ?_
  refine v_ldcwS ok (a0 := 56) (tx := "or") (List.mem_of_getElem? (i := 46) rfl) (by decide) dX2_test_24 ?_
  refine v_cXi ok (RX2, TX2, 8) cf_2.1 [vr (some 56)] (F := fun a => X2_passes a (some 56) h) (fun a w h1 _ hv => M_X2_passes ok.2.2.2.2.2.2.1 (d := 10) (Nat.le_refl _) hv) (by omega) cw_X2_passes q1247 q1249 qs33 dX2_test_27 [] rfl (Nat.le_of_ble_eq_true rfl) hf (fun b h_ h3 h4 hf => VX.out ok hx h3 h4 (by cases hf; exact hk)) (fun v1 h2 hf => ?_)
  refine v_if_eq ok 50 dX2_test_30 rfl hf (fun hf => ?_) (fun hf => ?_)
  ·
    refine v_aload_n ok 1 dX2_test_50 rfl rfl ?_
    exact v_aretX ok hr (by first | exact Or.inl ⟨_, rfl⟩ | exact Or.inr ⟨_, rfl⟩) (by cases hf; exact hk) dX2_test_51
  ·
    refine v_aload_n ok 1 dX2_test_33 rfl rfl ?_
    refine v_gRN ok fl_X2_293 (by first | exact Or.inl ⟨_, rfl⟩ | exact Or.inr ⟨_, rfl⟩) dX2_test_34 hf (fun v3 hf => ?_)
    refine v_aload_n ok 0 dX2_test_37 rfl rfl ?_
    refine v_cXr ok (RX2, TX2, 8) cf_2.1 [] (F := fun a => X2_both pf a h2) (fun a w h1 _ hv => M_X2_both ok.2.2.2.2.2.2.1 hpf (d := e + 11) (Nat.le_refl _) hv) (by omega) cw_X2_both q1238 q1240 qs31 dX2_test_38 [vr v3] rfl (Nat.le_of_ble_eq_true rfl) hf (fun b h_ h3 h4 hf => VX.out ok hx h3 h4 (by cases hf; exact hk)) (fun v4 h5 hf => ?_)
    refine v_cFi ok (RJ2, TJ2, 3) cf_23.1 [vr v4] (F := fun a => J2_add a v4 h5) (fun a v h1 _ hv => M_J2_add ok.2.2.2.2.2.2.1 (d := 7) (Nat.le_refl _) hv) (by omega) cw_J2_add q957 q258 cwf_J2_add dX2_test_41 [] rfl (Nat.le_of_ble_eq_true rfl) hf (fun v6 h7 hf => ?_)
    refine v_pop ok dX2_test_46 rfl ?_
    refine v_goto ok 23 dX2_test_47 rfl ?_
    cases hf; exact hk _ ⟨rfl, rfl, trivial⟩
theorem W_X2_test_23 {G : GT} {X : CX} {d : Nat} {h0 : AH} {Q : State → Prop} (ok : Ok G X RX2 cX2_test 2 d h0) (hr : (cxm X).sig.returnType = (Option.some (Jvm.ClassFile.FieldType.object "TurnedBoards$Test"))) {pf : PaT} {e : Nat} (hpf : DPF G X.2.1 e pf) (hd : e + 12 ≤ d) (hx : ∀ x ∈ (cxc X).exceptionTable.toList, False) {a0 : Nat} {x1 : Option Nat} {h : AH} {z : ((Option Nat ⊕ Nat) × AH)} (hf : X2_test_23  pf a0 x1 h = some z) (hk : Q = QMX G X h0 (rx vr z.1) z.2) {lv : List (Nat × AV)} (hl : lle lv [(0, vr (some a0)), (1, vr x1)]) : V G X 2 h0 Q h 23 lv [] := by
  unfold X2_test_23 at hf
  exact loopC_walk (Wh := fun s : AH => ∀ lv : List (Nat × AV), lle lv [(0, vr (some a0)), (1, vr x1)] → V G X 2 h0 Q s 23 lv []) (PK := fun z => Q = QMX G X h0 (rx vr z.1) z.2) (fun s o hf hk lv hl => W_X2_test_23b ok hr hpf hd hx hf (by cases o <;> exact hk) hl) _ z hf hk lv hl
theorem W_X2_test {G : GT} {X : CX} {d : Nat} {h0 : AH} {Q : State → Prop} (ok : Ok G X RX2 cX2_test 2 d h0) (hr : (cxm X).sig.returnType = (Option.some (Jvm.ClassFile.FieldType.object "TurnedBoards$Test"))) {pf : PaT} {e : Nat} (hpf : DPF G X.2.1 e pf) (hd : e + 12 ≤ d) (hx : ∀ x ∈ (cxc X).exceptionTable.toList, False) {a0 : Nat} {h : AH} {z : ((Option Nat ⊕ Nat) × AH)} (hf : X2_test pf a0 h = some z) (hk : Q = QMX G X h0 (rx vr z.1) z.2) {lv : List (Nat × AV)} (hl : lle lv [(0, vr (some a0))]) : V G X 2 h0 Q h 0 lv [] := by
  refine V.sub hl ?_
  unfold X2_test at hf
  refine v_new ok cf_18 rfl q1219 q1220 q203 df_18 dX2_test_0 hf (fun v8 h9 hf => ?_)
  refine v_dup ok dX2_test_3 rfl ?_
  refine v_iconst ok 0 dX2_test_4 rfl ?_
  refine v_cIv ok [vi 0] rfl (F := fun a => X18_init a 0 h9) (fun a h1 _ hv => M_X18_init ok.2.2.2.2.2.2.1 (d := 4) (Nat.le_refl _) hv) (by omega) cw_X18_init q1221 q1222 dX2_test_5 [vr v8] rfl (Nat.le_of_ble_eq_true rfl) hf (fun h10 hf => ?_)
  refine v_astore_n ok 1 dX2_test_8 rfl (by decide) ?_
  refine v_aload_n ok 1 dX2_test_9 rfl rfl ?_
  refine v_gRN ok fl_X2_293 (by first | exact Or.inl ⟨_, rfl⟩ | exact Or.inr ⟨_, rfl⟩) dX2_test_10 hf (fun v11 hf => ?_)
  refine v_aload_n ok 0 dX2_test_13 rfl rfl ?_
  refine v_cXr ok (RX2, TX2, 8) cf_2.1 [] (F := fun a => X2_both pf a h10) (fun a w h1 _ hv => M_X2_both ok.2.2.2.2.2.2.1 hpf (d := e + 11) (Nat.le_refl _) hv) (by omega) cw_X2_both q1238 q1240 qs31 dX2_test_14 [vr v11] rfl (Nat.le_of_ble_eq_true rfl) hf (fun b h_ h3 h4 hf => VX.out ok hx h3 h4 (by cases hf; exact hk)) (fun v12 h13 hf => ?_)
  refine v_cFi ok (RJ2, TJ2, 3) cf_23.1 [vr v12] (F := fun a => J2_add a v12 h13) (fun a v h1 _ hv => M_J2_add ok.2.2.2.2.2.2.1 (d := 7) (Nat.le_refl _) hv) (by omega) cw_J2_add q957 q258 cwf_J2_add dX2_test_17 [] rfl (Nat.le_of_ble_eq_true rfl) hf (fun v14 h15 hf => ?_)
  refine v_pop ok dX2_test_22 rfl ?_
  exact W_X2_test_23 ok hr hpf hd hx hf hk ⟨rfl, rfl, trivial⟩
theorem M_X2_test {G : GT} {l : Launch} (hG : Glob G) {pf : PaT} {e : Nat} (hpf : DPF G l e pf) {d : Nat} (hd : e + 12 ≤ d) {a0 : Nat} {h : AH} {w : Option Nat ⊕ Nat} {h' : AH} (hf : X2_test pf a0 h = some (w, h')) : MMX G l yX2_test cX2_test 2 (Option.some (Jvm.ClassFile.FieldType.object "TurnedBoards$Test")) d [vr (some a0)] h (rx vr w) h' := by
  refine mmx_of hG (by decide) (Nat.le_of_ble_eq_true rfl) (fun X hX ok hr hx => ?_)
  subst hX
  exact W_X2_test ok hr hpf hd hx hf rfl ⟨rfl, trivial⟩
theorem cw_X2_more : CW yX2_more cX2_more 5 none 2 := ⟨q1021, q177, ⟨by decide, by decide⟩, by decide +kernel, by decide⟩
theorem W_X2_more_184 {G : GT} {X : CX} {d : Nat} {h0 : AH} {Q : State → Prop} (ok : Ok G X RX2 cX2_more 5 d h0) (hr : (cxm X).sig.returnType = none) {pa : PaT} {pf : PaT} {e : Nat} (hpa : DPA G X.2.1 e pa) (hpf : DPF G X.2.1 e pf) (hd : e + 13 ≤ d) (hx : ∀ x ∈ (cxc X).exceptionTable.toList, False) {a0 : Nat} {x2 : Int32} {s0 : Option Nat} {s1 : Int32} {h : AH} {z : ((Unit ⊕ Nat) × AH)} (hf : X2_more_184 pa pf a0 x2 s0 s1 h = some z) (hk : Q = QMX G X h0 (rxv z.1) z.2) {lv : List (Nat × AV)} (hl : lle lv [(0, vr (some a0)), (2, vi x2)]) : V G X 5 h0 Q h 184 lv [vi s1, vr s0] := by
  refine V.sub hl ?_
  unfold X2_more_184 at hf
  refine v_iload_n ok 2 dX2_more_184 rfl rfl ?_
  refine v_cXv ok (RX2, TX2, 8) cf_2.1 [vi s1, vi x2] (F := fun a => X2_most a s1 x2 h) (fun a w h1 _ hv => M_X2_most ok.2.2.2.2.2.2.1 (d := 2) (Nat.le_refl _) hv) (by omega) cw_X2_most q680 q682 qs9 dX2_more_185 [] rfl (Nat.le_of_ble_eq_true rfl) hf (fun b h_ h3 h4 hf => VX.out ok hx h3 h4 (by cases hf; exact hk)) (fun _ h2 hf => ?_)
  refine v_aload_n ok 0 dX2_more_188 rfl rfl ?_
  refine v_bipush ok 7 dX2_more_189 rfl ?_
  refine v_pI ok fl_X2_215 ⟨fun _ _ _ => rfl, rfl⟩ (FN.of cf_2.1 rfl) dX2_more_191 hf (fun h3 hf => ?_)
  refine v_aload_n ok 0 dX2_more_194 rfl rfl ?_
  refine v_gR ok fl_X2_103 (by first | exact Or.inl ⟨_, rfl⟩ | exact Or.inr ⟨_, rfl⟩) dX2_more_195 hf (fun v4 hf => ?_)
  refine v_aload_n ok 0 dX2_more_198 rfl rfl ?_
  refine v_cXr ok (RX2, TX2, 8) cf_2.1 [] (F := fun a => X2_sum pa a h3) (fun a w h1 _ hv => M_X2_sum ok.2.2.2.2.2.2.1 hpa (d := e + 11) (Nat.le_refl _) hv) (by omega) cw_X2_sum q1027 q1029 qs22 dX2_more_199 [vr v4] rfl (Nat.le_of_ble_eq_true rfl) hf (fun b h_ h3 h4 hf => VX.out ok hx h3 h4 (by cases hf; exact hk)) (fun v5 h6 hf => ?_)
  refine v_pRN ok fl_X2_212 (by first | exact Or.inl ⟨_, rfl⟩ | exact Or.inr ⟨_, rfl⟩) (FNN.of cf_1.1 rfl) dX2_more_202 hf (fun h7 hf => ?_)
  refine v_goto ok 307 dX2_more_205 rfl ?_
  exact v_vretX ok hr (by cases hf; exact hk) dX2_more_307
theorem W_X2_more_224 {G : GT} {X : CX} {d : Nat} {h0 : AH} {Q : State → Prop} (ok : Ok G X RX2 cX2_more 5 d h0) (hr : (cxm X).sig.returnType = none) {pa : PaT} {pf : PaT} {e : Nat} (hpa : DPA G X.2.1 e pa) (hpf : DPF G X.2.1 e pf) (hd : e + 13 ≤ d) (hx : ∀ x ∈ (cxc X).exceptionTable.toList, False) {a0 : Nat} {x2 : Int32} {s0 : Option Nat} {s1 : Int32} {h : AH} {z : ((Unit ⊕ Nat) × AH)} (hf : X2_more_224 pa pf a0 x2 s0 s1 h = some z) (hk : Q = QMX G X h0 (rxv z.1) z.2) {lv : List (Nat × AV)} (hl : lle lv [(0, vr (some a0)), (2, vi x2)]) : V G X 5 h0 Q h 224 lv [vi s1, vr s0] := by
  refine V.sub hl ?_
  unfold X2_more_224 at hf
  refine v_iload_n ok 2 dX2_more_224 rfl rfl ?_
  refine v_cXv ok (RX2, TX2, 8) cf_2.1 [vi s1, vi x2] (F := fun a => X2_most a s1 x2 h) (fun a w h1 _ hv => M_X2_most ok.2.2.2.2.2.2.1 (d := 2) (Nat.le_refl _) hv) (by omega) cw_X2_most q680 q682 qs9 dX2_more_225 [] rfl (Nat.le_of_ble_eq_true rfl) hf (fun b h_ h3 h4 hf => VX.out ok hx h3 h4 (by cases hf; exact hk)) (fun _ h9 hf => ?_)
  refine v_aload_n ok 0 dX2_more_228 rfl rfl ?_
  refine v_sipush ok 248 dX2_more_229 rfl ?_
  refine v_pI ok fl_X2_215 ⟨fun _ _ _ => rfl, rfl⟩ (FN.of cf_2.1 rfl) dX2_more_232 hf (fun h10 hf => ?_)
  refine v_aload_n ok 0 dX2_more_235 rfl rfl ?_
  refine v_gR ok fl_X2_103 (by first | exact Or.inl ⟨_, rfl⟩ | exact Or.inr ⟨_, rfl⟩) dX2_more_236 hf (fun v11 hf => ?_)
  refine v_aload_n ok 0 dX2_more_239 rfl rfl ?_
  refine v_cXr ok (RX2, TX2, 8) cf_2.1 [] (F := fun a => X2_test pf a h10) (fun a w h1 _ hv => M_X2_test ok.2.2.2.2.2.2.1 hpf (d := e + 12) (Nat.le_refl _) hv) (by omega) cw_X2_test q1215 q1217 qs30 dX2_more_240 [vr v11] rfl (Nat.le_of_ble_eq_true rfl) hf (fun b h_ h3 h4 hf => VX.out ok hx h3 h4 (by cases hf; exact hk)) (fun v12 h13 hf => ?_)
  refine v_pRN ok fl_X2_222 (by first | exact Or.inl ⟨_, rfl⟩ | exact Or.inr ⟨_, rfl⟩) (FNN.of cf_1.1 rfl) dX2_more_243 hf (fun h14 hf => ?_)
  refine v_goto ok 307 dX2_more_246 rfl ?_
  exact v_vretX ok hr (by cases hf; exact hk) dX2_more_307
theorem W_X2_more_132 {G : GT} {X : CX} {d : Nat} {h0 : AH} {Q : State → Prop} (ok : Ok G X RX2 cX2_more 5 d h0) (hr : (cxm X).sig.returnType = none) {pa : PaT} {pf : PaT} {e : Nat} (hpa : DPA G X.2.1 e pa) (hpf : DPF G X.2.1 e pf) (hd : e + 13 ≤ d) (hx : ∀ x ∈ (cxc X).exceptionTable.toList, False) {a0 : Nat} {x2 : Int32} {x4 : Int32} {h : AH} {z : ((Unit ⊕ Nat) × AH)} (hf : X2_more_132 pa pf a0 x2 x4 h = some z) (hk : Q = QMX G X h0 (rxv z.1) z.2) {lv : List (Nat × AV)} (hl : lle lv [(0, vr (some a0)), (2, vi x2), (4, vi x4)]) : V G X 5 h0 Q h 132 lv [] := by
  refine V.sub hl ?_
  unfold X2_more_132 at hf
  refine v_iload ok dX2_more_132 rfl ?_
  refine sw_if (v := 0) hf (fun e_ hf => ?_) (fun n15 hf => ?_)
  ·
    refine v_tableIn ok 0 168 dX2_more_134 e_ (by decide) (by decide) rfl rfl ?_
    refine v_aload_n ok 0 dX2_more_168 rfl rfl ?_
    refine v_aload_n ok 0 dX2_more_169 rfl rfl ?_
    refine v_gR ok fl_X2_103 (by first | exact Or.inl ⟨_, rfl⟩ | exact Or.inr ⟨_, rfl⟩) dX2_more_170 hf (fun v16 hf => ?_)
    refine v_gRN ok fl_X2_212 (by first | exact Or.inl ⟨_, rfl⟩ | exact Or.inr ⟨_, rfl⟩) dX2_more_173 hf (fun v17 hf => ?_)
    refine v_ifnull ok 183 dX2_more_176 rfl hf (fun hf => ?_) (fun hf => ?_)
    ·
      refine v_iconst ok 0 dX2_more_183 rfl ?_
      exact W_X2_more_184 ok hr hpa hpf hd hx hf hk ⟨rfl, rfl, trivial⟩
    ·
      refine v_iconst ok 1 dX2_more_179 rfl ?_
      refine v_goto ok 184 dX2_more_180 rfl ?_
      exact W_X2_more_184 ok hr hpa hpf hd hx hf hk ⟨rfl, rfl, trivial⟩
  ·
    refine sw_if (v := 1) hf (fun e_ hf => ?_) (fun n18 hf => ?_)
    ·
      refine v_tableIn ok 1 208 dX2_more_134 e_ (by decide) (by decide) rfl rfl ?_
      refine v_aload_n ok 0 dX2_more_208 rfl rfl ?_
      refine v_aload_n ok 0 dX2_more_209 rfl rfl ?_
      refine v_gR ok fl_X2_103 (by first | exact Or.inl ⟨_, rfl⟩ | exact Or.inr ⟨_, rfl⟩) dX2_more_210 hf (fun v19 hf => ?_)
      refine v_gRN ok fl_X2_222 (by first | exact Or.inl ⟨_, rfl⟩ | exact Or.inr ⟨_, rfl⟩) dX2_more_213 hf (fun v20 hf => ?_)
      refine v_ifnull ok 223 dX2_more_216 rfl hf (fun hf => ?_) (fun hf => ?_)
      ·
        refine v_iconst ok 0 dX2_more_223 rfl ?_
        exact W_X2_more_224 ok hr hpa hpf hd hx hf hk ⟨rfl, rfl, trivial⟩
      ·
        refine v_iconst ok 1 dX2_more_219 rfl ?_
        refine v_goto ok 224 dX2_more_220 rfl ?_
        exact W_X2_more_224 ok hr hpa hpf hd hx hf hk ⟨rfl, rfl, trivial⟩
    ·
      refine sw_if (v := 2) hf (fun e_ hf => ?_) (fun n21 hf => ?_)
      ·
        refine v_tableIn ok 2 249 dX2_more_134 e_ (by decide) (by decide) rfl rfl ?_
        refine v_aload_n ok 0 dX2_more_249 rfl rfl ?_
        refine v_gR ok fl_X2_103 (by first | exact Or.inl ⟨_, rfl⟩ | exact Or.inr ⟨_, rfl⟩) dX2_more_250 hf (fun v22 hf => ?_)
        refine v_aload_n ok 0 dX2_more_253 rfl rfl ?_
        refine v_iconst ok 0 dX2_more_254 rfl ?_
        refine v_bipush ok 99 dX2_more_255 rfl ?_
        refine v_cXi ok (RX2, TX2, 8) cf_2.1 [vi 0, vi 99] (F := fun a => X2_number_2 a 0 99 h) (fun a w h1 _ hv => M_X2_number_2 ok.2.2.2.2.2.2.1 (d := 3) (Nat.le_refl _) hv) (by omega) cw_X2_number_2 q894 q896 qs17 dX2_more_257 [vr v22] rfl (Nat.le_of_ble_eq_true rfl) hf (fun b h_ h3 h4 hf => VX.out ok hx h3 h4 (by cases hf; exact hk)) (fun v23 h24 hf => ?_)
        refine v_pIN ok fl_X2_229 ⟨fun _ _ _ => rfl, rfl⟩ (FNN.of cf_1.1 rfl) dX2_more_260 hf (fun h25 hf => ?_)
        refine v_goto ok 307 dX2_more_263 rfl ?_
        exact v_vretX ok hr (by cases hf; exact hk) dX2_more_307
      ·
        refine sw_if (v := 3) hf (fun e_ hf => ?_) (fun n26 hf => ?_)
        ·
          refine v_tableIn ok 3 266 dX2_more_134 e_ (by decide) (by decide) rfl rfl ?_
          refine v_aload_n ok 0 dX2_more_266 rfl rfl ?_
          refine v_gR ok fl_X2_103 (by first | exact Or.inl ⟨_, rfl⟩ | exact Or.inr ⟨_, rfl⟩) dX2_more_267 hf (fun v27 hf => ?_)
          refine v_aload_n ok 0 dX2_more_270 rfl rfl ?_
          refine v_iconst ok 0 dX2_more_271 rfl ?_
          refine v_bipush ok 99 dX2_more_272 rfl ?_
          refine v_cXi ok (RX2, TX2, 8) cf_2.1 [vi 0, vi 99] (F := fun a => X2_number_2 a 0 99 h) (fun a w h1 _ hv => M_X2_number_2 ok.2.2.2.2.2.2.1 (d := 3) (Nat.le_refl _) hv) (by omega) cw_X2_number_2 q894 q896 qs17 dX2_more_274 [vr v27] rfl (Nat.le_of_ble_eq_true rfl) hf (fun b h_ h3 h4 hf => VX.out ok hx h3 h4 (by cases hf; exact hk)) (fun v28 h29 hf => ?_)
          refine v_pIN ok fl_X2_231 ⟨fun _ _ _ => rfl, rfl⟩ (FNN.of cf_1.1 rfl) dX2_more_277 hf (fun h30 hf => ?_)
          refine v_goto ok 307 dX2_more_280 rfl ?_
          exact v_vretX ok hr (by cases hf; exact hk) dX2_more_307
        ·
          refine sw_if (v := 4) hf (fun e_ hf => ?_) (fun n31 hf => ?_)
          ·
            refine v_tableIn ok 4 283 dX2_more_134 e_ (by decide) (by decide) rfl rfl ?_
            refine v_aload_n ok 0 dX2_more_283 rfl rfl ?_
            refine v_gR ok fl_X2_103 (by first | exact Or.inl ⟨_, rfl⟩ | exact Or.inr ⟨_, rfl⟩) dX2_more_284 hf (fun v32 hf => ?_)
            refine v_aload_n ok 0 dX2_more_287 rfl rfl ?_
            refine v_iconst ok 0 dX2_more_288 rfl ?_
            refine v_bipush ok 100 dX2_more_289 rfl ?_
            refine v_cXi ok (RX2, TX2, 8) cf_2.1 [vi 0, vi 100] (F := fun a => X2_number_2 a 0 100 h) (fun a w h1 _ hv => M_X2_number_2 ok.2.2.2.2.2.2.1 (d := 3) (Nat.le_refl _) hv) (by omega) cw_X2_number_2 q894 q896 qs17 dX2_more_291 [vr v32] rfl (Nat.le_of_ble_eq_true rfl) hf (fun b h_ h3 h4 hf => VX.out ok hx h3 h4 (by cases hf; exact hk)) (fun v33 h34 hf => ?_)
            refine v_pIN ok fl_X2_233 ⟨fun _ _ _ => rfl, rfl⟩ (FNN.of cf_1.1 rfl) dX2_more_294 hf (fun h35 hf => ?_)
            refine v_goto ok 307 dX2_more_297 rfl ?_
            exact v_vretX ok hr (by cases hf; exact hk) dX2_more_307
          ·
            have n15 := ne_toI 0 (by decide) n15
            have n18 := ne_toI 1 (by decide) n18
            have n21 := ne_toI 2 (by decide) n21
            have n26 := ne_toI 3 (by decide) n26
            have n31 := ne_toI 4 (by decide) n31
            refine v_tableOut ok 300 dX2_more_134 (by omega) rfl ?_
            refine v_aload_n ok 0 dX2_more_300 rfl rfl ?_
            refine v_iconst ok 1 dX2_more_301 rfl ?_
            refine v_iload_n ok 2 dX2_more_302 rfl rfl ?_
            refine v_cVr ok (RX2, TX2, 8) cf_2.1 [vi 1, vi x2] (F := fun a => X2_wrong a 1 x2 h) (fun a v h1 _ hv => M_X2_wrong ok.2.2.2.2.2.2.1 (d := 1) (Nat.le_refl _) hv) (by omega) cw_X2_wrong q684 q686 qs10 dX2_more_303 [] rfl (Nat.le_of_ble_eq_true rfl) hf (fun v36 h37 hf => ?_)
            exact v_athrow ok dX2_more_306 hf (fun a h3 h4 hf => VX.out ok hx h3 h4 (by cases hf; exact hk))
theorem W_X2_more {G : GT} {X : CX} {d : Nat} {h0 : AH} {Q : State → Prop} (ok : Ok G X RX2 cX2_more 5 d h0) (hr : (cxm X).sig.returnType = none) {pa : PaT} {pf : PaT} {e : Nat} (hpa : DPA G X.2.1 e pa) (hpf : DPF G X.2.1 e pf) (hd : e + 13 ≤ d) (hx : ∀ x ∈ (cxc X).exceptionTable.toList, False) {a0 : Nat} {x1 : Option Nat} {x2 : Int32} {h : AH} {z : ((Unit ⊕ Nat) × AH)} (hf : X2_more pa pf a0 x1 x2 h = some z) (hk : Q = QMX G X h0 (rxv z.1) z.2) {lv : List (Nat × AV)} (hl : lle lv [(0, vr (some a0)), (1, vr x1), (2, vi x2)]) : V G X 5 h0 Q h 0 lv [] := by
  refine V.sub hl ?_
  unfold X2_more at hf
  refine v_aload_n ok 1 dX2_more_0 rfl rfl ?_
  refine v_astore_n ok 3 dX2_more_1 rfl (by decide) ?_
  refine v_iconst ok (-1) dX2_more_2 rfl ?_
  refine v_istore ok dX2_more_3 (by decide) ?_
  refine v_aload_n ok 3 dX2_more_5 rfl rfl ?_
  refine v_cVi ok (RJ9, TJ9, 4) cf_24.1 [] (F := fun a => J9_hashCode a h) (fun a v h1 _ hv => M_J9_hashCode ok.2.2.2.2.2.2.1 (d := 4) (Nat.le_refl _) hv) (by omega) cw_J9_hashCode q784 q785 q786 dX2_more_6 [] rfl (Nat.le_of_ble_eq_true rfl) hf (fun v38 h39 hf => ?_)
  refine sw_if (v := (-677614758)) hf (fun e_ hf => ?_) (fun n40 hf => ?_)
  ·
    refine v_lookup ok (off := 81) 90 dX2_more_9 (by decide) (by rw [e_]; try rfl) rfl ?_
    refine v_aload_n ok 3 dX2_more_90 rfl rfl ?_
    refine v_ldcS ok (a0 := 18) (tx := "forgive") (List.mem_of_getElem? (i := 41) rfl) (by decide) dX2_more_91 ?_
    refine v_cVi ok (RJ9, TJ9, 4) cf_24.1 [vr (some 18)] (F := fun a => J9_equals a (some 18) h39) (fun a v h1 _ hv => M_J9_equals ok.2.2.2.2.2.2.1 (d := 2) (Nat.le_refl _) hv) (by omega) cw_J9_equals q838 q839 q840 dX2_more_93 [] rfl (Nat.le_of_ble_eq_true rfl) hf (fun v41 h42 hf => ?_)
    refine v_if_eq ok 132 dX2_more_96 rfl hf (fun hf => ?_) (fun hf => ?_)
    ·
      exact W_X2_more_132 ok hr hpa hpf hd hx hf hk ⟨rfl, rfl, rfl, trivial⟩
    ·
      refine v_iconst ok 2 dX2_more_99 rfl ?_
      refine v_istore ok dX2_more_100 (by decide) ?_
      refine v_goto ok 132 dX2_more_102 rfl ?_
      exact W_X2_more_132 ok hr hpa hpf hd hx hf hk ⟨rfl, rfl, rfl, trivial⟩
  ·
    refine sw_if (v := 3194844) hf (fun e_ hf => ?_) (fun n43 hf => ?_)
    ·
      refine v_lookup ok (off := 111) 120 dX2_more_9 (by decide) (by rw [e_]; try rfl) rfl ?_
      refine v_aload_n ok 3 dX2_more_120 rfl rfl ?_
      refine v_ldcS ok (a0 := 20) (tx := "hail") (List.mem_of_getElem? (i := 43) rfl) (by decide) dX2_more_121 ?_
      refine v_cVi ok (RJ9, TJ9, 4) cf_24.1 [vr (some 20)] (F := fun a => J9_equals a (some 20) h39) (fun a v h1 _ hv => M_J9_equals ok.2.2.2.2.2.2.1 (d := 2) (Nat.le_refl _) hv) (by omega) cw_J9_equals q838 q839 q840 dX2_more_123 [] rfl (Nat.le_of_ble_eq_true rfl) hf (fun v44 h45 hf => ?_)
      refine v_if_eq ok 132 dX2_more_126 rfl hf (fun hf => ?_) (fun hf => ?_)
      ·
        exact W_X2_more_132 ok hr hpa hpf hd hx hf hk ⟨rfl, rfl, rfl, trivial⟩
      ·
        refine v_iconst ok 4 dX2_more_129 rfl ?_
        refine v_istore ok dX2_more_130 (by decide) ?_
        exact W_X2_more_132 ok hr hpa hpf hd hx hf hk ⟨rfl, rfl, rfl, trivial⟩
    ·
      refine sw_if (v := 3492756) hf (fun e_ hf => ?_) (fun n46 hf => ?_)
      ·
        refine v_lookup ok (off := 66) 75 dX2_more_9 (by decide) (by rw [e_]; try rfl) rfl ?_
        refine v_aload_n ok 3 dX2_more_75 rfl rfl ?_
        refine v_ldcS ok (a0 := 60) (tx := "rain") (List.mem_of_getElem? (i := 40) rfl) (by decide) dX2_more_76 ?_
        refine v_cVi ok (RJ9, TJ9, 4) cf_24.1 [vr (some 60)] (F := fun a => J9_equals a (some 60) h39) (fun a v h1 _ hv => M_J9_equals ok.2.2.2.2.2.2.1 (d := 2) (Nat.le_refl _) hv) (by omega) cw_J9_equals q838 q839 q840 dX2_more_78 [] rfl (Nat.le_of_ble_eq_true rfl) hf (fun v47 h48 hf => ?_)
        refine v_if_eq ok 132 dX2_more_81 rfl hf (fun hf => ?_) (fun hf => ?_)
        ·
          exact W_X2_more_132 ok hr hpa hpf hd hx hf hk ⟨rfl, rfl, rfl, trivial⟩
        ·
          refine v_iconst ok 1 dX2_more_84 rfl ?_
          refine v_istore ok dX2_more_85 (by decide) ?_
          refine v_goto ok 132 dX2_more_87 rfl ?_
          exact W_X2_more_132 ok hr hpa hpf hd hx hf hk ⟨rfl, rfl, rfl, trivial⟩
      ·
        refine sw_if (v := 93819220) hf (fun e_ hf => ?_) (fun n49 hf => ?_)
        ·
          refine v_lookup ok (off := 96) 105 dX2_more_9 (by decide) (by rw [e_]; try rfl) rfl ?_
          refine v_aload_n ok 3 dX2_more_105 rfl rfl ?_
          refine v_ldcS ok (a0 := 8) (tx := "blank") (List.mem_of_getElem? (i := 42) rfl) (by decide) dX2_more_106 ?_
          refine v_cVi ok (RJ9, TJ9, 4) cf_24.1 [vr (some 8)] (F := fun a => J9_equals a (some 8) h39) (fun a v h1 _ hv => M_J9_equals ok.2.2.2.2.2.2.1 (d := 2) (Nat.le_refl _) hv) (by omega) cw_J9_equals q838 q839 q840 dX2_more_108 [] rfl (Nat.le_of_ble_eq_true rfl) hf (fun v50 h51 hf => ?_)
          refine v_if_eq ok 132 dX2_more_111 rfl hf (fun hf => ?_) (fun hf => ?_)
          ·
            exact W_X2_more_132 ok hr hpa hpf hd hx hf hk ⟨rfl, rfl, rfl, trivial⟩
          ·
            refine v_iconst ok 3 dX2_more_114 rfl ?_
            refine v_istore ok dX2_more_115 (by decide) ?_
            refine v_goto ok 132 dX2_more_117 rfl ?_
            exact W_X2_more_132 ok hr hpa hpf hd hx hf hk ⟨rfl, rfl, rfl, trivial⟩
        ·
          refine sw_if (v := 95774492) hf (fun e_ hf => ?_) (fun n52 hf => ?_)
          ·
            refine v_lookup ok (off := 51) 60 dX2_more_9 (by decide) (by rw [e_]; try rfl) rfl ?_
            refine v_aload_n ok 3 dX2_more_60 rfl rfl ?_
            refine v_ldcS ok (a0 := 14) (tx := "doubt") (List.mem_of_getElem? (i := 39) rfl) (by decide) dX2_more_61 ?_
            refine v_cVi ok (RJ9, TJ9, 4) cf_24.1 [vr (some 14)] (F := fun a => J9_equals a (some 14) h39) (fun a v h1 _ hv => M_J9_equals ok.2.2.2.2.2.2.1 (d := 2) (Nat.le_refl _) hv) (by omega) cw_J9_equals q838 q839 q840 dX2_more_63 [] rfl (Nat.le_of_ble_eq_true rfl) hf (fun v53 h54 hf => ?_)
            refine v_if_eq ok 132 dX2_more_66 rfl hf (fun hf => ?_) (fun hf => ?_)
            ·
              exact W_X2_more_132 ok hr hpa hpf hd hx hf hk ⟨rfl, rfl, rfl, trivial⟩
            ·
              refine v_iconst ok 0 dX2_more_69 rfl ?_
              refine v_istore ok dX2_more_70 (by decide) ?_
              refine v_goto ok 132 dX2_more_72 rfl ?_
              exact W_X2_more_132 ok hr hpa hpf hd hx hf hk ⟨rfl, rfl, rfl, trivial⟩
          ·
            have n40 := ne_toI (-677614758) (by decide) n40
            have n43 := ne_toI 3194844 (by decide) n43
            have n46 := ne_toI 3492756 (by decide) n46
            have n49 := ne_toI 93819220 (by decide) n49
            have n52 := ne_toI 95774492 (by decide) n52
            refine v_lookup ok (off := 123) 132 dX2_more_9 (by decide) (by simp only [Op.lookupswitch.offset, List.find?]; simp [Ne.symm n40, n40, Ne.symm n43, n43, Ne.symm n46, n46, Ne.symm n49, n49, Ne.symm n52, n52]) rfl ?_
            exact W_X2_more_132 ok hr hpa hpf hd hx hf hk ⟨rfl, rfl, rfl, trivial⟩
theorem M_X2_more {G : GT} {l : Launch} (hG : Glob G) {pa : PaT} {pf : PaT} {e : Nat} (hpa : DPA G l e pa) (hpf : DPF G l e pf) {d : Nat} (hd : e + 13 ≤ d) {a0 : Nat} {x1 : Option Nat} {x2 : Int32} {h : AH} {w : Unit ⊕ Nat} {h' : AH} (hf : X2_more pa pf a0 x1 x2 h = some (w, h')) : MMX G l yX2_more cX2_more 5 none d [vr (some a0), vr x1, vi x2] h (rxv w) h' := by
  refine mmx_of hG (by decide) (Nat.le_of_ble_eq_true rfl) (fun X hX ok hr hx => ?_)
  subst hX
  exact W_X2_more ok hr hpa hpf hd hx hf rfl ⟨rfl, rfl, rfl, trivial⟩
