set_option maxRecDepth 100000
theorem cw_X2_must : CW yX2_must cX2_must 2 none 1 := ⟨q1091, q177, ⟨by decide, by decide⟩, by decide +kernel, by decide⟩
theorem W_X2_must {G : GT} {X : CX} {d : Nat} {h0 : AH} {Q : State → Prop} (ok : Ok G X RX2 cX2_must 2 d h0) (hr : (cxm X).sig.returnType = none) (hd : 3 ≤ d) (hx : ∀ x ∈ (cxc X).exceptionTable.toList, False) {a0 : Nat} {x1 : Int32} {h : AH} {z : ((Unit ⊕ Nat) × AH)} (hf : X2_must a0 x1 h = some z) (hk : Q = QMX G X h0 (rxv z.1) z.2) {lv : List (Nat × AV)} (hl : lle lv [(0, vr (some a0)), (1, vi x1)]) : V G X 2 h0 Q h 0 lv [] := by
  refine V.sub hl ?_
  unfold X2_must at hf
  refine v_aload_n ok 0 dX2_must_0 rfl rfl ?_
  refine v_cVi ok (RX2, TX2, 8) cf_2.1 [] (F := fun a => X2_here a h) (fun a v h1 _ hv => M_X2_here ok.2.2.2.2.2.2.1 (d := 2) (Nat.le_refl _) hv) (by exact Nat.le_trans (by decide) hd) cw_X2_here q672 q674 qs7 dX2_must_1 [] rfl (Nat.le_of_ble_eq_true rfl) hf (fun v1 h2 hf => ?_)
  refine v_iload_n ok 1 dX2_must_4 rfl rfl ?_
  refine v_icmp_eq ok 18 dX2_must_5 rfl hf (fun hf => ?_) (fun hf => ?_)
  ·
    refine v_aload_n ok 0 dX2_must_18 rfl rfl ?_
    refine v_dup ok dX2_must_19 rfl ?_
    refine v_gI ok fl_X2_36 (fun _ _ _ => rfl) dX2_must_20 hf (fun v3 hf => ?_)
    refine v_iconst ok 1 dX2_must_23 rfl ?_
    refine v_iadd ok dX2_must_24 ?_
    refine v_pI ok fl_X2_36 ⟨fun _ _ _ => rfl, rfl⟩ (FN.of cf_2.1 rfl) dX2_must_25 hf (fun h4 hf => ?_)
    exact v_vretX ok hr (by cases hf; exact hk) dX2_must_28
  ·
    refine v_aload_n ok 0 dX2_must_8 rfl rfl ?_
    refine v_iconst ok 1 dX2_must_9 rfl ?_
    refine v_aload_n ok 0 dX2_must_10 rfl rfl ?_
    refine v_gI ok fl_X2_36 (fun _ _ _ => rfl) dX2_must_11 hf (fun v5 hf => ?_)
    refine v_cVr ok (RX2, TX2, 8) cf_2.1 [vi 1, vi v5] (F := fun a => X2_wrong a 1 v5 h2) (fun a v h1 _ hv => M_X2_wrong ok.2.2.2.2.2.2.1 (d := 1) (Nat.le_refl _) hv) (by exact Nat.le_trans (by decide) hd) cw_X2_wrong q684 q686 qs10 dX2_must_14 [] rfl (Nat.le_of_ble_eq_true rfl) hf (fun v6 h7 hf => ?_)
    exact v_athrow ok dX2_must_17 hf (fun a h3 h4 hf => VX.out ok hx h3 h4 (by cases hf; exact hk))
theorem M_X2_must {G : GT} {l : Launch} (hG : Glob G) {d : Nat} (hd : 3 ≤ d) {a0 : Nat} {x1 : Int32} {h : AH} {w : Unit ⊕ Nat} {h' : AH} (hf : X2_must a0 x1 h = some (w, h')) : MMX G l yX2_must cX2_must 2 none d [vr (some a0), vi x1] h (rxv w) h' := by
  refine mmx_of hG (by decide) (Nat.le_of_ble_eq_true rfl) (fun X hX ok hr hx => ?_)
  subst hX
  exact W_X2_must ok hr hd hx hf rfl ⟨rfl, rfl, trivial⟩
theorem cw_X2_all : CW yX2_all cX2_all 3 (Option.some (Jvm.ClassFile.FieldType.object "TurnedBoards$Shop")) 1 := ⟨q669, q177, ⟨by decide, by decide⟩, by decide +kernel, by decide⟩
def pkX2_all_26 (G : GT) (X : CX) (h0 : AH) (Q : State → Prop) (a0 : Nat) (o : ((AH) ⊕ ((Option Nat ⊕ Nat) × AH))) : Prop := match o with
  | .inl s => ∀ lv : List (Nat × AV), lle lv [(0, vr (some a0))] → V G X 3 h0 Q s 26 lv []
  | .inr z => Q = QMX G X h0 (rx vr z.1) z.2
theorem W_X2_all_98 {G : GT} {X : CX} {d : Nat} {h0 : AH} {Q : State → Prop} (ok : Ok G X RX2 cX2_all 3 d h0) (hr : (cxm X).sig.returnType = (Option.some (Jvm.ClassFile.FieldType.object "TurnedBoards$Shop"))) {pa : PaT} {pf : PaT} {e : Nat} (hpa : DPA G X.2.1 e pa) (hpf : DPF G X.2.1 e pf) (hd : e + 14 ≤ d) (hx : ∀ x ∈ (cxc X).exceptionTable.toList, False) {a0 : Nat} {h : AH} {z : ((AH) ⊕ ((Option Nat ⊕ Nat) × AH))} (hf : X2_all_98 pa pf a0 h = some z) (hk : pkX2_all_26 G X h0 Q a0 z) {lv : List (Nat × AV)} (hl : lle lv [(0, vr (some a0))]) : V G X 3 h0 Q h 98 lv [] := by
  refine V.sub hl ?_
  unfold X2_all_98 at hf
  refine v_aload_n ok 0 dX2_all_98 rfl rfl ?_
  refine v_bipush ok 59 dX2_all_99 rfl ?_
  refine v_cXv ok (RX2, TX2, 8) cf_2.1 [vi 59] (F := fun a => X2_must a 59 h) (fun a w h1 _ hv => M_X2_must ok.2.2.2.2.2.2.1 (d := 3) (Nat.le_refl _) hv) (by omega) cw_X2_must q1088 q1090 qs27 dX2_all_101 [] rfl (Nat.le_of_ble_eq_true rfl) hf (fun b h_ h3 h4 hf => VX.out ok hx h3 h4 (by cases hf; exact hk)) (fun _ h2 hf => ?_)
  refine v_goto ok 26 dX2_all_104 rfl ?_
  cases hf; exact hk _ ⟨rfl, trivial⟩
theorem W_X2_all_52 {G : GT} {X : CX} {d : Nat} {h0 : AH} {Q : State → Prop} (ok : Ok G X RX2 cX2_all 3 d h0) (hr : (cxm X).sig.returnType = (Option.some (Jvm.ClassFile.FieldType.object "TurnedBoards$Shop"))) {pa : PaT} {pf : PaT} {e : Nat} (hpa : DPA G X.2.1 e pa) (hpf : DPF G X.2.1 e pf) (hd : e + 14 ≤ d) (hx : ∀ x ∈ (cxc X).exceptionTable.toList, False) {a0 : Nat} {s0 : Option Nat} {s1 : Int32} {h : AH} {z : ((AH) ⊕ ((Option Nat ⊕ Nat) × AH))} (hf : X2_all_52 pa pf a0 s0 s1 h = some z) (hk : pkX2_all_26 G X h0 Q a0 z) {lv : List (Nat × AV)} (hl : lle lv [(0, vr (some a0))]) : V G X 3 h0 Q h 52 lv [vi s1, vr s0] := by
  refine V.sub hl ?_
  unfold X2_all_52 at hf
  refine v_aload_n ok 0 dX2_all_52 rfl rfl ?_
  refine v_gI ok fl_X2_36 (fun _ _ _ => rfl) dX2_all_53 hf (fun v3 hf => ?_)
  refine v_cXv ok (RX2, TX2, 8) cf_2.1 [vi s1, vi v3] (F := fun a => X2_most a s1 v3 h) (fun a w h1 _ hv => M_X2_most ok.2.2.2.2.2.2.1 (d := 2) (Nat.le_refl _) hv) (by omega) cw_X2_most q680 q682 qs9 dX2_all_56 [] rfl (Nat.le_of_ble_eq_true rfl) hf (fun b h_ h3 h4 hf => VX.out ok hx h3 h4 (by cases hf; exact hk)) (fun _ h5 hf => ?_)
  refine v_aload_n ok 0 dX2_all_59 rfl rfl ?_
  refine v_gR ok fl_X2_103 (by first | exact Or.inl ⟨_, rfl⟩ | exact Or.inr ⟨_, rfl⟩) dX2_all_60 hf (fun v6 hf => ?_)
  refine v_dup ok dX2_all_63 rfl ?_
  refine v_gIN ok fl_X2_110 (fun _ _ _ => rfl) dX2_all_64 hf (fun v7 hf => ?_)
  refine v_iconst ok 1 dX2_all_67 rfl ?_
  refine v_iadd ok dX2_all_68 ?_
  refine v_pIN ok fl_X2_110 ⟨fun _ _ _ => rfl, rfl⟩ (FNN.of cf_1.1 rfl) dX2_all_69 hf (fun h8 hf => ?_)
  refine v_aload_n ok 0 dX2_all_72 rfl rfl ?_
  refine v_cXr ok (RX2, TX2, 8) cf_2.1 [] (F := fun a => X2_word a h8) (fun a w h1 _ hv => M_X2_word ok.2.2.2.2.2.2.1 (d := 9) (Nat.le_refl _) hv) (by omega) cw_X2_word q688 q690 qs11 dX2_all_73 [] rfl (Nat.le_of_ble_eq_true rfl) hf (fun b h_ h3 h4 hf => VX.out ok hx h3 h4 (by cases hf; exact hk)) (fun v9 h10 hf => ?_)
  refine v_astore_n ok 2 dX2_all_76 rfl (by decide) ?_
  refine v_aload_n ok 0 dX2_all_77 rfl rfl ?_
  refine v_aload_n ok 2 dX2_all_78 rfl rfl ?_
  refine v_aload_n ok 0 dX2_all_79 rfl rfl ?_
  refine v_gI ok fl_X2_61 (fun _ _ _ => rfl) dX2_all_80 hf (fun v11 hf => ?_)
  refine v_cXi ok (RX2, TX2, 8) cf_2.1 [vr v9, vi v11] (F := fun a => X2_laid a v9 v11 h10) (fun a w h1 _ hv => M_X2_laid ok.2.2.2.2.2.2.1 (d := 13) (Nat.le_refl _) hv) (by omega) cw_X2_laid q780 q782 qs13 dX2_all_83 [] rfl (Nat.le_of_ble_eq_true rfl) hf (fun b h_ h3 h4 hf => VX.out ok hx h3 h4 (by cases hf; exact hk)) (fun v12 h13 hf => ?_)
  refine v_if_ne ok 98 dX2_all_86 rfl hf (fun hf => ?_) (fun hf => ?_)
  ·
    exact W_X2_all_98 ok hr hpa hpf hd hx hf hk ⟨rfl, trivial⟩
  ·
    refine v_aload_n ok 0 dX2_all_89 rfl rfl ?_
    refine v_aload_n ok 2 dX2_all_90 rfl rfl ?_
    refine v_aload_n ok 0 dX2_all_91 rfl rfl ?_
    refine v_gI ok fl_X2_61 (fun _ _ _ => rfl) dX2_all_92 hf (fun v14 hf => ?_)
    refine v_cXv ok (RX2, TX2, 8) cf_2.1 [vr v9, vi v14] (F := fun a => X2_more pa pf a v9 v14 h13) (fun a w h1 _ hv => M_X2_more ok.2.2.2.2.2.2.1 hpa hpf (d := e + 13) (Nat.le_refl _) hv) (by omega) cw_X2_more q1018 q1020 qs21 dX2_all_95 [] rfl (Nat.le_of_ble_eq_true rfl) hf (fun b h_ h3 h4 hf => VX.out ok hx h3 h4 (by cases hf; exact hk)) (fun _ h16 hf => ?_)
    exact W_X2_all_98 ok hr hpa hpf hd hx hf hk ⟨rfl, trivial⟩
theorem W_X2_all_107 {G : GT} {X : CX} {d : Nat} {h0 : AH} {Q : State → Prop} (ok : Ok G X RX2 cX2_all 3 d h0) (hr : (cxm X).sig.returnType = (Option.some (Jvm.ClassFile.FieldType.object "TurnedBoards$Shop"))) {pa : PaT} {pf : PaT} {e : Nat} (hpa : DPA G X.2.1 e pa) (hpf : DPF G X.2.1 e pf) (hd : e + 14 ≤ d) (hx : ∀ x ∈ (cxc X).exceptionTable.toList, False) {a0 : Nat} {h : AH} {z : ((Option Nat ⊕ Nat) × AH)} (hf : X2_all_107 pa pf a0 h = some z) (hk : Q = QMX G X h0 (rx vr z.1) z.2) {lv : List (Nat × AV)} (hl : lle lv [(0, vr (some a0))]) : V G X 3 h0 Q h 107 lv [] := by
  refine V.sub hl ?_
  unfold X2_all_107 at hf
  refine v_aload_n ok 0 dX2_all_107 rfl rfl ?_
  refine v_gR ok fl_X2_103 (by first | exact Or.inl ⟨_, rfl⟩ | exact Or.inr ⟨_, rfl⟩) dX2_all_108 hf (fun v17 hf => ?_)
  exact v_aretX ok hr (by first | exact Or.inl ⟨_, rfl⟩ | exact Or.inr ⟨_, rfl⟩) (by cases hf; exact hk) dX2_all_111
theorem W_X2_all_26b {G : GT} {X : CX} {d : Nat} {h0 : AH} {Q : State → Prop} (ok : Ok G X RX2 cX2_all 3 d h0) (hr : (cxm X).sig.returnType = (Option.some (Jvm.ClassFile.FieldType.object "TurnedBoards$Shop"))) {pa : PaT} {pf : PaT} {e : Nat} (hpa : DPA G X.2.1 e pa) (hpf : DPF G X.2.1 e pf) (hd : e + 14 ≤ d) (hx : ∀ x ∈ (cxc X).exceptionTable.toList, False) {a0 : Nat} {h : AH} {z : ((AH) ⊕ ((Option Nat ⊕ Nat) × AH))} (hf : X2_all_26b  pa pf a0  h = some z) (hk : pkX2_all_26 G X h0 Q a0 z) {lv : List (Nat × AV)} (hl : lle lv [(0, vr (some a0))]) : V G X 3 h0 Q h 26 lv [] := by
  refine V.sub hl ?_
  unfold X2_all_26b at hf
  refine v_aload_n ok 0 dX2_all_26 rfl rfl ?_
  refine v_cVi ok (RX2, TX2, 8) cf_2.1 [] (F := fun a => X2_here a h) (fun a v h1 _ hv => M_X2_here ok.2.2.2.2.2.2.1 (d := 2) (Nat.le_refl _) hv) (by omega) cw_X2_here q672 q674 qs7 dX2_all_27 [] rfl (Nat.le_of_ble_eq_true rfl) hf (fun v18 h19 hf => ?_)
  refine v_iconst ok (-1) dX2_all_30 rfl ?_
  refine v_icmp_eq ok 107 dX2_all_31 rfl hf (fun hf => ?_) (fun hf => ?_)
  ·
    obtain ⟨o, ho, hz⟩ := ob hf
    cases hz; exact W_X2_all_107 ok hr hpa hpf hd hx ho hk ⟨rfl, trivial⟩
  ·
    refine v_aload_n ok 0 dX2_all_34 rfl rfl ?_
    refine v_aload_n ok 0 dX2_all_35 rfl rfl ?_
    refine v_gR ok fl_X2_103 (by first | exact Or.inl ⟨_, rfl⟩ | exact Or.inr ⟨_, rfl⟩) dX2_all_36 hf (fun v20 hf => ?_)
    refine v_gIN ok fl_X2_110 (fun _ _ _ => rfl) dX2_all_39 hf (fun v21 hf => ?_)
    refine v_bipush ok 60 dX2_all_42 rfl ?_
    refine v_icmp_ne ok 51 dX2_all_44 rfl hf (fun hf => ?_) (fun hf => ?_)
    ·
      refine v_iconst ok 0 dX2_all_51 rfl ?_
      exact W_X2_all_52 ok hr hpa hpf hd hx hf hk ⟨rfl, trivial⟩
    ·
      refine v_iconst ok 1 dX2_all_47 rfl ?_
      refine v_goto ok 52 dX2_all_48 rfl ?_
      exact W_X2_all_52 ok hr hpa hpf hd hx hf hk ⟨rfl, trivial⟩
theorem W_X2_all_26 {G : GT} {X : CX} {d : Nat} {h0 : AH} {Q : State → Prop} (ok : Ok G X RX2 cX2_all 3 d h0) (hr : (cxm X).sig.returnType = (Option.some (Jvm.ClassFile.FieldType.object "TurnedBoards$Shop"))) {pa : PaT} {pf : PaT} {e : Nat} (hpa : DPA G X.2.1 e pa) (hpf : DPF G X.2.1 e pf) (hd : e + 14 ≤ d) (hx : ∀ x ∈ (cxc X).exceptionTable.toList, False) {a0 : Nat} {h : AH} {z : ((Option Nat ⊕ Nat) × AH)} (hf : X2_all_26  pa pf a0 h = some z) (hk : Q = QMX G X h0 (rx vr z.1) z.2) {lv : List (Nat × AV)} (hl : lle lv [(0, vr (some a0))]) : V G X 3 h0 Q h 26 lv [] := by
  unfold X2_all_26 at hf
  exact loopC_walk (Wh := fun s : AH => ∀ lv : List (Nat × AV), lle lv [(0, vr (some a0))] → V G X 3 h0 Q s 26 lv []) (PK := fun z => Q = QMX G X h0 (rx vr z.1) z.2) (fun s o hf hk lv hl => W_X2_all_26b ok hr hpa hpf hd hx hf (by cases o <;> exact hk) hl) _ z hf hk lv hl
theorem W_X2_all {G : GT} {X : CX} {d : Nat} {h0 : AH} {Q : State → Prop} (ok : Ok G X RX2 cX2_all 3 d h0) (hr : (cxm X).sig.returnType = (Option.some (Jvm.ClassFile.FieldType.object "TurnedBoards$Shop"))) {pa : PaT} {pf : PaT} {e : Nat} (hpa : DPA G X.2.1 e pa) (hpf : DPF G X.2.1 e pf) (hd : e + 14 ≤ d) (hx : ∀ x ∈ (cxc X).exceptionTable.toList, False) {a0 : Nat} {x1 : Int32} {h : AH} {z : ((Option Nat ⊕ Nat) × AH)} (hf : X2_all pa pf a0 x1 h = some z) (hk : Q = QMX G X h0 (rx vr z.1) z.2) {lv : List (Nat × AV)} (hl : lle lv [(0, vr (some a0)), (1, vi x1)]) : V G X 3 h0 Q h 0 lv [] := by
  refine V.sub hl ?_
  unfold X2_all at hf
  refine v_aload_n ok 0 dX2_all_0 rfl rfl ?_
  refine v_new ok cf_1 rfl q670 q218 q169 df_1 dX2_all_1 hf (fun v22 h23 hf => ?_)
  refine v_dup ok dX2_all_4 rfl ?_
  refine v_cIv ok [] rfl (F := fun a => X1_init a h23) (fun a h1 _ hv => M_X1_init ok.2.2.2.2.2.2.1 (d := 8) (Nat.le_refl _) hv) (by omega) cw_X1_init q671 q220 dX2_all_5 [vr v22, vr (some a0)] rfl (Nat.le_of_ble_eq_true rfl) hf (fun h24 hf => ?_)
  refine v_pR ok fl_X2_103 (by first | exact Or.inl ⟨_, rfl⟩ | exact Or.inr ⟨_, rfl⟩) (FN.of cf_2.1 rfl) dX2_all_8 hf (fun h25 hf => ?_)
  refine v_aload_n ok 0 dX2_all_11 rfl rfl ?_
  refine v_iload_n ok 1 dX2_all_12 rfl rfl ?_
  refine v_pI ok fl_X2_29 ⟨fun _ _ _ => rfl, rfl⟩ (FN.of cf_2.1 rfl) dX2_all_13 hf (fun h26 hf => ?_)
  refine v_aload_n ok 0 dX2_all_16 rfl rfl ?_
  refine v_iconst ok 0 dX2_all_17 rfl ?_
  refine v_pI ok fl_X2_36 ⟨fun _ _ _ => rfl, rfl⟩ (FN.of cf_2.1 rfl) dX2_all_18 hf (fun h27 hf => ?_)
  refine v_aload_n ok 0 dX2_all_21 rfl rfl ?_
  refine v_iconst ok 0 dX2_all_22 rfl ?_
  refine v_pI ok fl_X2_107 ⟨fun _ _ _ => rfl, rfl⟩ (FN.of cf_2.1 rfl) dX2_all_23 hf (fun h28 hf => ?_)
  exact W_X2_all_26 ok hr hpa hpf hd hx hf hk ⟨rfl, trivial⟩
theorem M_X2_all {G : GT} {l : Launch} (hG : Glob G) {pa : PaT} {pf : PaT} {e : Nat} (hpa : DPA G l e pa) (hpf : DPF G l e pf) {d : Nat} (hd : e + 14 ≤ d) {a0 : Nat} {x1 : Int32} {h : AH} {w : Option Nat ⊕ Nat} {h' : AH} (hf : X2_all pa pf a0 x1 h = some (w, h')) : MMX G l yX2_all cX2_all 3 (Option.some (Jvm.ClassFile.FieldType.object "TurnedBoards$Shop")) d [vr (some a0), vi x1] h (rx vr w) h' := by
  refine mmx_of hG (by decide) (Nat.le_of_ble_eq_true rfl) (fun X hX ok hr hx => ?_)
  subst hX
  exact W_X2_all ok hr hpa hpf hd hx hf rfl ⟨rfl, rfl, trivial⟩
theorem cw_X0_shop : CWH yX0_shop cX0_shop 2 (Option.some Jvm.ClassFile.FieldType.int) [(10, 25, 28, 116)] 0 := ⟨q660, q168, ⟨by decide, by decide⟩, by decide +kernel, by decide⟩
theorem W_X0_shop {G : GT} {X : CX} {d : Nat} {h0 : AH} {Q : State → Prop} (ok : Ok G X RX0 cX0_shop 2 d h0) (hr : (cxm X).sig.returnType = (Option.some Jvm.ClassFile.FieldType.int)) {pa : PaT} {pf : PaT} {e : Nat} (hpa : DPA G X.2.1 e pa) (hpf : DPF G X.2.1 e pf) (hd : e + 15 ≤ d) (htab : (cxc X).exceptionTable.toList = tableOf [(10, 25, 28, 116)]) {a0 : Nat} {h : AH} {z : (Int32 × AH)} (hf : X0_shop pa pf a0 h = some z) (hk : Q = QMX G X h0 (.inl (some (vi z.1))) z.2) {lv : List (Nat × AV)} (hl : lle lv [(0, vr (some a0))]) : V G X 2 h0 Q h 0 lv [] := by
  refine V.sub hl ?_
  unfold X0_shop at hf
  refine v_aload_n ok 0 dX0_shop_0 rfl rfl ?_
  refine v_iconst ok 0 dX0_shop_1 rfl ?_
  refine v_pI ok fl_X0_105 ⟨fun _ _ _ => rfl, rfl⟩ (FN.of cf_0.1 rfl) dX0_shop_2 hf (fun h1 hf => ?_)
  refine v_aload_n ok 0 dX0_shop_5 rfl rfl ?_
  refine v_iconst ok (-1) dX0_shop_6 rfl ?_
  refine v_pI ok fl_X0_39 ⟨fun _ _ _ => rfl, rfl⟩ (FN.of cf_0.1 rfl) dX0_shop_7 hf (fun h2 hf => ?_)
  refine v_aload_n ok 0 dX0_shop_10 rfl rfl ?_
  refine v_aload_n ok 0 dX0_shop_11 rfl rfl ?_
  refine v_gR ok fl_X0_48 (by first | exact Or.inl ⟨_, rfl⟩ | exact Or.inr ⟨_, rfl⟩) dX0_shop_12 hf (fun v3 hf => ?_)
  refine v_aload_n ok 0 dX0_shop_15 rfl rfl ?_
  refine v_cVi ok (RX0, TX0, 18) cf_0.1 [] (F := fun a => X0_taken a h2) (fun a v h1 _ hv => M_X0_taken ok.2.2.2.2.2.2.1 (d := 1) (Nat.le_refl _) hv) (by omega) cw_X0_taken q662 q664 qs6 dX0_shop_16 [vr v3, vr (some a0)] rfl (Nat.le_of_ble_eq_true rfl) hf (fun v4 h5 hf => ?_)
  refine v_cXr ok (RX2, TX2, 8) cf_2.1 [vi v4] (F := fun a => X2_all pa pf a v4 h5) (fun a w h1 _ hv => M_X2_all ok.2.2.2.2.2.2.1 hpa hpf (d := e + 14) (Nat.le_refl _) hv) (by omega) cw_X2_all q666 q667 q668 dX0_shop_19 [vr (some a0)] rfl (Nat.le_of_ble_eq_true rfl) hf (fun b h_ h3 h4 hf => VX.catch ok htab (by decide) (by decide) q661 q382 h3 h4 ?_) (fun v6 h7 hf => ?_)
  ·
    refine v_astore_n ok 1 dX0_shop_28 rfl (by decide) ?_
    refine v_aload_n ok 0 dX0_shop_29 rfl rfl ?_
    refine v_aload_n ok 1 dX0_shop_30 rfl rfl ?_
    refine v_gIN ok fl_X0_118 (fun _ _ _ => rfl) dX0_shop_31 hf (fun v8 hf => ?_)
    refine v_pI ok fl_X0_105 ⟨fun _ _ _ => rfl, rfl⟩ (FN.of cf_0.1 rfl) dX0_shop_34 hf (fun h9 hf => ?_)
    refine v_aload_n ok 0 dX0_shop_37 rfl rfl ?_
    refine v_aload_n ok 1 dX0_shop_38 rfl rfl ?_
    refine v_gIN ok fl_X0_121 (fun _ _ _ => rfl) dX0_shop_39 hf (fun v10 hf => ?_)
    refine v_pI ok fl_X0_39 ⟨fun _ _ _ => rfl, rfl⟩ (FN.of cf_0.1 rfl) dX0_shop_42 hf (fun h11 hf => ?_)
    refine v_aload_n ok 0 dX0_shop_45 rfl rfl ?_
    refine v_iconst ok 1 dX0_shop_46 rfl ?_
    refine v_cVi ok (RX0, TX0, 18) cf_0.1 [vi 1] (F := fun a => X0_refuses a 1 h11) (fun a v h1 _ hv => M_X0_refuses ok.2.2.2.2.2.2.1 (d := 1) (Nat.le_refl _) hv) (by omega) cw_X0_refuses q645 q647 qs4 dX0_shop_47 [] rfl (Nat.le_of_ble_eq_true rfl) hf (fun v12 h13 hf => ?_)
    exact v_iretX ok hr (by cases hf; exact hk) dX0_shop_50
  ·
    refine v_pR ok fl_X0_31 (by first | exact Or.inl ⟨_, rfl⟩ | exact Or.inr ⟨_, rfl⟩) (FN.of cf_0.1 rfl) dX0_shop_22 hf (fun h14 hf => ?_)
    refine v_goto ok 51 dX0_shop_25 rfl ?_
    refine v_aload_n ok 0 dX0_shop_51 rfl rfl ?_
    refine v_gR ok fl_X0_69 (by first | exact Or.inl ⟨_, rfl⟩ | exact Or.inr ⟨_, rfl⟩) dX0_shop_52 hf (fun v15 hf => ?_)
    refine v_cVv ok (RX5, TX5, 10) cf_5.1 [] (F := fun a => X5_begins a h14) (fun a h1 _ hv => M_X5_begins ok.2.2.2.2.2.2.1 (d := 9) (Nat.le_refl _) hv) (by omega) cw_X5_begins q1287 q1288 q1289 dX0_shop_55 [] rfl (Nat.le_of_ble_eq_true rfl) hf (fun h16 hf => ?_)
    refine v_aload_n ok 0 dX0_shop_58 rfl rfl ?_
    refine v_iconst ok 0 dX0_shop_59 rfl ?_
    refine v_pI ok fl_X0_127 ⟨fun _ _ _ => rfl, rfl⟩ (FN.of cf_0.1 rfl) dX0_shop_60 hf (fun h17 hf => ?_)
    refine v_aload_n ok 0 dX0_shop_63 rfl rfl ?_
    refine v_gR ok fl_X0_31 (by first | exact Or.inl ⟨_, rfl⟩ | exact Or.inr ⟨_, rfl⟩) dX0_shop_64 hf (fun v18 hf => ?_)
    refine v_gIN ok fl_X0_130 (fun _ _ _ => rfl) dX0_shop_67 hf (fun v19 hf => ?_)
    exact v_iretX ok hr (by cases hf; exact hk) dX0_shop_70
theorem M_X0_shop {G : GT} {l : Launch} (hG : Glob G) {pa : PaT} {pf : PaT} {e : Nat} (hpa : DPA G l e pa) (hpf : DPF G l e pf) {d : Nat} (hd : e + 15 ≤ d) {a0 : Nat} {h : AH} {v : Int32} {h' : AH} (hf : X0_shop pa pf a0 h = some (v, h')) : MMW G l yX0_shop cX0_shop 2 (Option.some Jvm.ClassFile.FieldType.int) [(10, 25, 28, 116)] d [vr (some a0)] h (some (vi v)) h' := by
  refine mmw_of hG (by decide) (Nat.le_of_ble_eq_true rfl) (fun X hX ok hr htab => ?_)
  subst hX
  exact W_X0_shop ok hr hpa hpf hd htab hf rfl ⟨rfl, trivial⟩
theorem cw_X2_question : CW yX2_question cX2_question 4 (Option.some (Jvm.ClassFile.FieldType.object "TurnedBoards$Question")) 1 := ⟨q1718, q177, ⟨by decide, by decide⟩, by decide +kernel, by decide⟩
theorem W_X2_question_82 {G : GT} {X : CX} {d : Nat} {h0 : AH} {Q : State → Prop} (ok : Ok G X RX2 cX2_question 4 d h0) (hr : (cxm X).sig.returnType = (Option.some (Jvm.ClassFile.FieldType.object "TurnedBoards$Question"))) {pa : PaT} {pf : PaT} {e : Nat} (hpa : DPA G X.2.1 e pa) (hpf : DPF G X.2.1 e pf) (hd : e + 13 ≤ d) (hx : ∀ x ∈ (cxc X).exceptionTable.toList, False) {a0 : Nat} {s0 : Option Nat} {h : AH} {z : ((Option Nat ⊕ Nat) × AH)} (hf : X2_question_82 pa pf a0 s0 h = some z) (hk : Q = QMX G X h0 (rx vr z.1) z.2) {lv : List (Nat × AV)} (hl : lle lv [(0, vr (some a0))]) : V G X 4 h0 Q h 82 lv [vr s0] := by
  refine V.sub hl ?_
  unfold X2_question_82 at hf
  refine v_astore_n ok 3 dX2_question_82 rfl (by decide) ?_
  refine v_aload_n ok 0 dX2_question_83 rfl rfl ?_
  refine v_cVi ok (RX2, TX2, 8) cf_2.1 [] (F := fun a => X2_here a h) (fun a v h1 _ hv => M_X2_here ok.2.2.2.2.2.2.1 (d := 2) (Nat.le_refl _) hv) (by omega) cw_X2_here q672 q674 qs7 dX2_question_84 [] rfl (Nat.le_of_ble_eq_true rfl) hf (fun v1 h2 hf => ?_)
  refine v_iconst ok (-1) dX2_question_87 rfl ?_
  refine v_icmp_eq ok 101 dX2_question_88 rfl hf (fun hf => ?_) (fun hf => ?_)
  ·
    refine v_aload_n ok 3 dX2_question_101 rfl rfl ?_
    exact v_aretX ok hr (by first | exact Or.inl ⟨_, rfl⟩ | exact Or.inr ⟨_, rfl⟩) (by cases hf; exact hk) dX2_question_102
  ·
    refine v_aload_n ok 0 dX2_question_91 rfl rfl ?_
    refine v_iconst ok 1 dX2_question_92 rfl ?_
    refine v_aload_n ok 0 dX2_question_93 rfl rfl ?_
    refine v_gI ok fl_X2_36 (fun _ _ _ => rfl) dX2_question_94 hf (fun v3 hf => ?_)
    refine v_cVr ok (RX2, TX2, 8) cf_2.1 [vi 1, vi v3] (F := fun a => X2_wrong a 1 v3 h2) (fun a v h1 _ hv => M_X2_wrong ok.2.2.2.2.2.2.1 (d := 1) (Nat.le_refl _) hv) (by omega) cw_X2_wrong q684 q686 qs10 dX2_question_97 [] rfl (Nat.le_of_ble_eq_true rfl) hf (fun v4 h5 hf => ?_)
    exact v_athrow ok dX2_question_100 hf (fun a h3 h4 hf => VX.out ok hx h3 h4 (by cases hf; exact hk))
theorem W_X2_question {G : GT} {X : CX} {d : Nat} {h0 : AH} {Q : State → Prop} (ok : Ok G X RX2 cX2_question 4 d h0) (hr : (cxm X).sig.returnType = (Option.some (Jvm.ClassFile.FieldType.object "TurnedBoards$Question"))) {pa : PaT} {pf : PaT} {e : Nat} (hpa : DPA G X.2.1 e pa) (hpf : DPF G X.2.1 e pf) (hd : e + 13 ≤ d) (hx : ∀ x ∈ (cxc X).exceptionTable.toList, False) {a0 : Nat} {x1 : Int32} {h : AH} {z : ((Option Nat ⊕ Nat) × AH)} (hf : X2_question pa pf a0 x1 h = some z) (hk : Q = QMX G X h0 (rx vr z.1) z.2) {lv : List (Nat × AV)} (hl : lle lv [(0, vr (some a0)), (1, vi x1)]) : V G X 4 h0 Q h 0 lv [] := by
  refine V.sub hl ?_
  unfold X2_question at hf
  refine v_aload_n ok 0 dX2_question_0 rfl rfl ?_
  refine v_iload_n ok 1 dX2_question_1 rfl rfl ?_
  refine v_pI ok fl_X2_29 ⟨fun _ _ _ => rfl, rfl⟩ (FN.of cf_2.1 rfl) dX2_question_2 hf (fun h6 hf => ?_)
  refine v_aload_n ok 0 dX2_question_5 rfl rfl ?_
  refine v_iconst ok 0 dX2_question_6 rfl ?_
  refine v_pI ok fl_X2_36 ⟨fun _ _ _ => rfl, rfl⟩ (FN.of cf_2.1 rfl) dX2_question_7 hf (fun h7 hf => ?_)
  refine v_aload_n ok 0 dX2_question_10 rfl rfl ?_
  refine v_iconst ok 0 dX2_question_11 rfl ?_
  refine v_pI ok fl_X2_107 ⟨fun _ _ _ => rfl, rfl⟩ (FN.of cf_2.1 rfl) dX2_question_12 hf (fun h8 hf => ?_)
  refine v_aload_n ok 0 dX2_question_15 rfl rfl ?_
  refine v_sipush ok 900 dX2_question_16 rfl ?_
  refine v_pI ok fl_X2_215 ⟨fun _ _ _ => rfl, rfl⟩ (FN.of cf_2.1 rfl) dX2_question_19 hf (fun h9 hf => ?_)
  refine v_aload_n ok 0 dX2_question_22 rfl rfl ?_
  refine v_cXr ok (RX2, TX2, 8) cf_2.1 [] (F := fun a => X2_word a h9) (fun a w h1 _ hv => M_X2_word ok.2.2.2.2.2.2.1 (d := 9) (Nat.le_refl _) hv) (by omega) cw_X2_word q688 q690 qs11 dX2_question_23 [] rfl (Nat.le_of_ble_eq_true rfl) hf (fun b h_ h3 h4 hf => VX.out ok hx h3 h4 (by cases hf; exact hk)) (fun v10 h11 hf => ?_)
  refine v_getsN ok (v := vr (hR h11 120 8)) (List.mem_of_getElem? (i := 8) rfl) q1719 rfl dX2_question_26 ?_
  refine v_cSNi ok [vr v10, vr (hR h11 120 8)] (F := X0_find v10 (hR h11 120 8) h11) (fun v h1 hv => M_X0_find ok.2.2.2.2.2.2.1 (d := 3) (Nat.le_refl _) hv) (by omega) cw_X0_find q853 q854 dX2_question_29 [] rfl (Nat.le_of_ble_eq_true rfl) hf (fun v12 h13 hf => ?_)
  refine v_istore_n ok 2 dX2_question_32 rfl (by decide) ?_
  refine v_iload_n ok 2 dX2_question_33 rfl rfl ?_
  refine v_iconst ok (-1) dX2_question_34 rfl ?_
  refine v_icmp_ne ok 48 dX2_question_35 rfl hf (fun hf => ?_) (fun hf => ?_)
  ·
    refine v_iload_n ok 2 dX2_question_48 rfl rfl ?_
    refine v_iconst ok 3 dX2_question_49 rfl ?_
    refine v_icmp_ge ok 69 dX2_question_50 rfl hf (fun hf => ?_) (fun hf => ?_)
    ·
      refine v_new ok cf_22 rfl q1721 q1722 q208 df_22 dX2_question_69 hf (fun v14 h15 hf => ?_)
      refine v_dup ok dX2_question_72 rfl ?_
      refine v_iload_n ok 2 dX2_question_73 rfl rfl ?_
      refine v_null ok dX2_question_74 ?_
      refine v_aload_n ok 0 dX2_question_75 rfl rfl ?_
      refine v_cXr ok (RX2, TX2, 8) cf_2.1 [] (F := fun a => X2_sum pa a h15) (fun a w h1 _ hv => M_X2_sum ok.2.2.2.2.2.2.1 hpa (d := e + 11) (Nat.le_refl _) hv) (by omega) cw_X2_sum q1027 q1029 qs22 dX2_question_76 [vr none, vi v12, vr v14, vr v14] rfl (Nat.le_of_ble_eq_true rfl) hf (fun b h_ h3 h4 hf => VX.out ok hx h3 h4 (by cases hf; exact hk)) (fun v16 h17 hf => ?_)
      refine v_cIv ok [vi v12, vr none, vr v16] rfl (F := fun a => X22_init a v12 none v16 h17) (fun a h1 _ hv => M_X22_init ok.2.2.2.2.2.2.1 (d := 1) (Nat.le_refl _) hv) (by omega) cw_X22_init q1723 q1724 dX2_question_79 [vr v14] rfl (Nat.le_of_ble_eq_true rfl) hf (fun h18 hf => ?_)
      exact W_X2_question_82 ok hr hpa hpf hd hx hf hk ⟨rfl, trivial⟩
    ·
      refine v_new ok cf_22 rfl q1721 q1722 q208 df_22 dX2_question_53 hf (fun v19 h20 hf => ?_)
      refine v_dup ok dX2_question_56 rfl ?_
      refine v_iload_n ok 2 dX2_question_57 rfl rfl ?_
      refine v_aload_n ok 0 dX2_question_58 rfl rfl ?_
      refine v_cXr ok (RX2, TX2, 8) cf_2.1 [] (F := fun a => X2_test pf a h20) (fun a w h1 _ hv => M_X2_test ok.2.2.2.2.2.2.1 hpf (d := e + 12) (Nat.le_refl _) hv) (by omega) cw_X2_test q1215 q1217 qs30 dX2_question_59 [vi v12, vr v19, vr v19] rfl (Nat.le_of_ble_eq_true rfl) hf (fun b h_ h3 h4 hf => VX.out ok hx h3 h4 (by cases hf; exact hk)) (fun v21 h22 hf => ?_)
      refine v_null ok dX2_question_62 ?_
      refine v_cIv ok [vi v12, vr v21, vr none] rfl (F := fun a => X22_init a v12 v21 none h22) (fun a h1 _ hv => M_X22_init ok.2.2.2.2.2.2.1 (d := 1) (Nat.le_refl _) hv) (by omega) cw_X22_init q1723 q1724 dX2_question_63 [vr v19] rfl (Nat.le_of_ble_eq_true rfl) hf (fun h23 hf => ?_)
      refine v_goto ok 82 dX2_question_66 rfl ?_
      exact W_X2_question_82 ok hr hpa hpf hd hx hf hk ⟨rfl, trivial⟩
  ·
    refine v_aload_n ok 0 dX2_question_38 rfl rfl ?_
    refine v_iconst ok 1 dX2_question_39 rfl ?_
    refine v_aload_n ok 0 dX2_question_40 rfl rfl ?_
    refine v_gI ok fl_X2_61 (fun _ _ _ => rfl) dX2_question_41 hf (fun v24 hf => ?_)
    refine v_cVr ok (RX2, TX2, 8) cf_2.1 [vi 1, vi v24] (F := fun a => X2_wrong a 1 v24 h13) (fun a v h1 _ hv => M_X2_wrong ok.2.2.2.2.2.2.1 (d := 1) (Nat.le_refl _) hv) (by omega) cw_X2_wrong q684 q686 qs10 dX2_question_44 [] rfl (Nat.le_of_ble_eq_true rfl) hf (fun v25 h26 hf => ?_)
    exact v_athrow ok dX2_question_47 hf (fun a h3 h4 hf => VX.out ok hx h3 h4 (by cases hf; exact hk))
theorem M_X2_question {G : GT} {l : Launch} (hG : Glob G) {pa : PaT} {pf : PaT} {e : Nat} (hpa : DPA G l e pa) (hpf : DPF G l e pf) {d : Nat} (hd : e + 13 ≤ d) {a0 : Nat} {x1 : Int32} {h : AH} {w : Option Nat ⊕ Nat} {h' : AH} (hf : X2_question pa pf a0 x1 h = some (w, h')) : MMX G l yX2_question cX2_question 4 (Option.some (Jvm.ClassFile.FieldType.object "TurnedBoards$Question")) d [vr (some a0), vi x1] h (rx vr w) h' := by
  refine mmx_of hG (by decide) (Nat.le_of_ble_eq_true rfl) (fun X hX ok hr hx => ?_)
  subst hX
  exact W_X2_question ok hr hpa hpf hd hx hf rfl ⟨rfl, rfl, trivial⟩
theorem cw_X0_ask : CWH yX0_ask cX0_ask 4 (Option.some Jvm.ClassFile.FieldType.long) [(15, 24, 27, 116)] 0 := ⟨q1714, q168, ⟨by decide, by decide⟩, by decide +kernel, by decide⟩
def pkX0_ask_53 (G : GT) (X : CX) (h0 : AH) (Q : State → Prop) (a0 : Nat) (x2 : Option Nat) (o : ((AH) ⊕ (Int64 × AH))) : Prop := match o with
  | .inl s => ∀ lv : List (Nat × AV), lle lv [(0, vr (some a0)), (2, vr x2)] → V G X 4 h0 Q s 53 lv []
  | .inr z => Q = QMX G X h0 (.inl (some (vl z.1))) z.2
theorem W_X0_ask_173 {G : GT} {X : CX} {d : Nat} {h0 : AH} {Q : State → Prop} (ok : Ok G X RX0 cX0_ask 4 d h0) (hr : (cxm X).sig.returnType = (Option.some Jvm.ClassFile.FieldType.long)) {va : VaT} {th : ThT} {pa : PaT} {pf : PaT} {e : Nat} (hva : DVA G X.2.1 e va) (hth : DTH G X.2.1 e th) (hpa : DPA G X.2.1 e pa) (hpf : DPF G X.2.1 e pf) (hd : e + 14 ≤ d) (htab : (cxc X).exceptionTable.toList = tableOf [(15, 24, 27, 116)]) {x2 : Option Nat} {h : AH} {z : (Int64 × AH)} (hf : X0_ask_173 va th pa pf x2 h = some z) (hk : Q = QMX G X h0 (.inl (some (vl z.1))) z.2) {lv : List (Nat × AV)} (hl : lle lv [(2, vr x2)]) : V G X 4 h0 Q h 173 lv [] := by
  refine V.sub hl ?_
  unfold X0_ask_173 at hf
  refine v_aload_n ok 2 dX0_ask_173 rfl rfl ?_
  refine v_cVl ok (RX22, TX22, 5) cf_22.1 [] (F := fun a => X22_answer a h) (fun a v h1 _ hv => M_X22_answer ok.2.2.2.2.2.2.1 (d := 1) (Nat.le_refl _) hv) (by omega) cw_X22_answer q1756 q1757 q1758 dX0_ask_174 [] rfl (Nat.le_of_ble_eq_true rfl) hf (fun v1 h2 hf => ?_)
  exact v_lretX ok hr (by cases hf; exact hk) dX0_ask_177
theorem W_X0_ask_53b {G : GT} {X : CX} {d : Nat} {h0 : AH} {Q : State → Prop} (ok : Ok G X RX0 cX0_ask 4 d h0) (hr : (cxm X).sig.returnType = (Option.some Jvm.ClassFile.FieldType.long)) {va : VaT} {th : ThT} {pa : PaT} {pf : PaT} {e : Nat} (hva : DVA G X.2.1 e va) (hth : DTH G X.2.1 e th) (hpa : DPA G X.2.1 e pa) (hpf : DPF G X.2.1 e pf) (hd : e + 14 ≤ d) (htab : (cxc X).exceptionTable.toList = tableOf [(15, 24, 27, 116)]) {a0 : Nat} {x2 : Option Nat} {h : AH} {z : ((AH) ⊕ (Int64 × AH))} (hf : X0_ask_53b  va th pa pf a0 x2  h = some z) (hk : pkX0_ask_53 G X h0 Q a0 x2 z) {lv : List (Nat × AV)} (hl : lle lv [(0, vr (some a0)), (2, vr x2)]) : V G X 4 h0 Q h 53 lv [] := by
  refine V.sub hl ?_
  unfold X0_ask_53b at hf
  refine v_aload_n ok 0 dX0_ask_53 rfl rfl ?_
  refine v_gI ok fl_X0_347 (fun _ _ _ => rfl) dX0_ask_54 hf (fun v3 hf => ?_)
  refine v_aload_n ok 0 dX0_ask_57 rfl rfl ?_
  refine v_cVi ok (RX0, TX0, 18) cf_0.1 [] (F := fun a => X0_words a h) (fun a v h1 _ hv => M_X0_words ok.2.2.2.2.2.2.1 (d := 2) (Nat.le_refl _) hv) (by omega) cw_X0_words q1329 q1331 qs36 dX0_ask_58 [vi v3] rfl (Nat.le_of_ble_eq_true rfl) hf (fun v4 h5 hf => ?_)
  refine v_icmp_ge ok 173 dX0_ask_61 rfl hf (fun hf => ?_) (fun hf => ?_)
  ·
    obtain ⟨o, ho, hz⟩ := ob hf
    cases hz; exact W_X0_ask_173 ok hr hva hth hpa hpf hd htab ho hk ⟨rfl, trivial⟩
  ·
    refine v_aload_n ok 0 dX0_ask_64 rfl rfl ?_
    refine v_gR ok fl_X0_59 (by first | exact Or.inl ⟨_, rfl⟩ | exact Or.inr ⟨_, rfl⟩) dX0_ask_65 hf (fun v6 hf => ?_)
    refine v_gRN ok fl_X0_191 (by first | exact Or.inl ⟨_, rfl⟩ | exact Or.inr ⟨_, rfl⟩) dX0_ask_68 hf (fun v7 hf => ?_)
    refine v_iconst ok 2 dX0_ask_71 rfl ?_
    refine v_aload_n ok 0 dX0_ask_72 rfl rfl ?_
    refine v_aload_n ok 0 dX0_ask_73 rfl rfl ?_
    refine v_gI ok fl_X0_347 (fun _ _ _ => rfl) dX0_ask_74 hf (fun v8 hf => ?_)
    refine v_cVi ok (RX0, TX0, 18) cf_0.1 [vi v8] (F := fun a => X0_inkOf a v8 h5) (fun a v h1 _ hv => M_X0_inkOf ok.2.2.2.2.2.2.1 (d := 8) (Nat.le_refl _) hv) (by omega) cw_X0_inkOf q1744 q1746 qs64 dX0_ask_77 [vi 2, vr v7] rfl (Nat.le_of_ble_eq_true rfl) hf (fun v9 h10 hf => ?_)
    refine v_i2l ok dX0_ask_80 ?_
    refine v_last ok rfl dX0_ask_81 hf (fun h11 hf => ?_)
    refine v_aload_n ok 0 dX0_ask_82 rfl rfl ?_
    refine v_gR ok fl_X0_59 (by first | exact Or.inl ⟨_, rfl⟩ | exact Or.inr ⟨_, rfl⟩) dX0_ask_83 hf (fun v12 hf => ?_)
    refine v_gRN ok fl_X0_191 (by first | exact Or.inl ⟨_, rfl⟩ | exact Or.inr ⟨_, rfl⟩) dX0_ask_86 hf (fun v13 hf => ?_)
    refine v_bipush ok 7 dX0_ask_89 rfl ?_
    refine v_aload_n ok 0 dX0_ask_91 rfl rfl ?_
    refine v_gR ok fl_X0_69 (by first | exact Or.inl ⟨_, rfl⟩ | exact Or.inr ⟨_, rfl⟩) dX0_ask_92 hf (fun v14 hf => ?_)
    refine v_gIN ok fl_X0_218 (fun _ _ _ => rfl) dX0_ask_95 hf (fun v15 hf => ?_)
    refine v_i2l ok dX0_ask_98 ?_
    refine v_last ok rfl dX0_ask_99 hf (fun h16 hf => ?_)
    refine v_aload_n ok 0 dX0_ask_100 rfl rfl ?_
    refine v_gR ok fl_X0_59 (by first | exact Or.inl ⟨_, rfl⟩ | exact Or.inr ⟨_, rfl⟩) dX0_ask_101 hf (fun v17 hf => ?_)
    refine v_gRN ok fl_X0_191 (by first | exact Or.inl ⟨_, rfl⟩ | exact Or.inr ⟨_, rfl⟩) dX0_ask_104 hf (fun v18 hf => ?_)
    refine v_bipush ok 8 dX0_ask_107 rfl ?_
    refine v_aload_n ok 0 dX0_ask_109 rfl rfl ?_
    refine v_gI ok fl_X0_347 (fun _ _ _ => rfl) dX0_ask_110 hf (fun v19 hf => ?_)
    refine v_i2l ok dX0_ask_113 ?_
    refine v_last ok rfl dX0_ask_114 hf (fun h20 hf => ?_)
    refine v_aload_n ok 0 dX0_ask_115 rfl rfl ?_
    refine v_gR ok fl_X0_59 (by first | exact Or.inl ⟨_, rfl⟩ | exact Or.inr ⟨_, rfl⟩) dX0_ask_116 hf (fun v21 hf => ?_)
    refine v_gRN ok fl_X0_191 (by first | exact Or.inl ⟨_, rfl⟩ | exact Or.inr ⟨_, rfl⟩) dX0_ask_119 hf (fun v22 hf => ?_)
    refine v_bipush ok 9 dX0_ask_122 rfl ?_
    refine v_aload_n ok 0 dX0_ask_124 rfl rfl ?_
    refine v_gR ok fl_X0_31 (by first | exact Or.inl ⟨_, rfl⟩ | exact Or.inr ⟨_, rfl⟩) dX0_ask_125 hf (fun v23 hf => ?_)
    refine v_gRN ok fl_X0_133 (by first | exact Or.inl ⟨_, rfl⟩ | exact Or.inr ⟨_, rfl⟩) dX0_ask_128 hf (fun v24 hf => ?_)
    refine v_aload_n ok 0 dX0_ask_131 rfl rfl ?_
    refine v_gI ok fl_X0_347 (fun _ _ _ => rfl) dX0_ask_132 hf (fun v25 hf => ?_)
    refine v_cFr ok (RJ2, TJ2, 3) cf_23.1 [vi v25] (F := fun a => J2_get a v25 h20) (fun a v h1 _ hv => M_J2_get ok.2.2.2.2.2.2.1 (d := 3) (Nat.le_refl _) hv) (by omega) cw_J2_get q1327 q907 cwf_J2_get dX0_ask_135 [vi 9, vr v22] rfl (Nat.le_of_ble_eq_true rfl) hf (fun v26 h27 hf => ?_)
    refine v_cast_ ok ck_TurnedBoards_Word q1374 dX0_ask_140 hf (fun hf => ?_)
    refine v_cVi ok (RX9, TX9, 1) cf_9.1 [] (F := fun a => X9_size a h27) (fun a v h1 _ hv => M_X9_size ok.2.2.2.2.2.2.1 (d := 3) (Nat.le_refl _) hv) (by omega) cw_X9_size q1507 q989 q990 dX0_ask_143 [vi 9, vr v22] rfl (Nat.le_of_ble_eq_true rfl) hf (fun v28 h29 hf => ?_)
    refine v_i2l ok dX0_ask_146 ?_
    refine v_last ok rfl dX0_ask_147 hf (fun h30 hf => ?_)
    refine v_aload_n ok 2 dX0_ask_148 rfl rfl ?_
    refine v_aload_n ok 0 dX0_ask_149 rfl rfl ?_
    refine v_gI ok fl_X0_347 (fun _ _ _ => rfl) dX0_ask_150 hf (fun v31 hf => ?_)
    refine v_aload_n ok 0 dX0_ask_153 rfl rfl ?_
    refine v_gR ok fl_X0_59 (by first | exact Or.inl ⟨_, rfl⟩ | exact Or.inr ⟨_, rfl⟩) dX0_ask_154 hf (fun v32 hf => ?_)
    refine v_cVv ok (RX22, TX22, 5) cf_22.1 [vi v31, vr v32] (F := fun a => X22_meets va th a v31 v32 h30) (fun a h1 _ hv => M_X22_meets ok.2.2.2.2.2.2.1 hva hth (d := e + 2) (Nat.le_refl _) hv) (by omega) cw_X22_meets q1748 q1749 q1750 dX0_ask_157 [] rfl (Nat.le_of_ble_eq_true rfl) hf (fun h33 hf => ?_)
    refine v_aload_n ok 0 dX0_ask_160 rfl rfl ?_
    refine v_dup ok dX0_ask_161 rfl ?_
    refine v_gI ok fl_X0_347 (fun _ _ _ => rfl) dX0_ask_162 hf (fun v34 hf => ?_)
    refine v_iconst ok 1 dX0_ask_165 rfl ?_
    refine v_iadd ok dX0_ask_166 ?_
    refine v_pI ok fl_X0_347 ⟨fun _ _ _ => rfl, rfl⟩ (FN.of cf_0.1 rfl) dX0_ask_167 hf (fun h35 hf => ?_)
    refine v_goto ok 53 dX0_ask_170 rfl ?_
    cases hf; exact hk _ ⟨rfl, rfl, trivial⟩
theorem W_X0_ask_53 {G : GT} {X : CX} {d : Nat} {h0 : AH} {Q : State → Prop} (ok : Ok G X RX0 cX0_ask 4 d h0) (hr : (cxm X).sig.returnType = (Option.some Jvm.ClassFile.FieldType.long)) {va : VaT} {th : ThT} {pa : PaT} {pf : PaT} {e : Nat} (hva : DVA G X.2.1 e va) (hth : DTH G X.2.1 e th) (hpa : DPA G X.2.1 e pa) (hpf : DPF G X.2.1 e pf) (hd : e + 14 ≤ d) (htab : (cxc X).exceptionTable.toList = tableOf [(15, 24, 27, 116)]) {a0 : Nat} {x2 : Option Nat} {h : AH} {z : (Int64 × AH)} (hf : X0_ask_53  va th pa pf a0 x2 h = some z) (hk : Q = QMX G X h0 (.inl (some (vl z.1))) z.2) {lv : List (Nat × AV)} (hl : lle lv [(0, vr (some a0)), (2, vr x2)]) : V G X 4 h0 Q h 53 lv [] := by
  unfold X0_ask_53 at hf
  exact loopC_walk (Wh := fun s : AH => ∀ lv : List (Nat × AV), lle lv [(0, vr (some a0)), (2, vr x2)] → V G X 4 h0 Q s 53 lv []) (PK := fun z => Q = QMX G X h0 (.inl (some (vl z.1))) z.2) (fun s o hf hk lv hl => W_X0_ask_53b ok hr hva hth hpa hpf hd htab hf (by cases o <;> exact hk) hl) _ z hf hk lv hl
theorem W_X0_ask {G : GT} {X : CX} {d : Nat} {h0 : AH} {Q : State → Prop} (ok : Ok G X RX0 cX0_ask 4 d h0) (hr : (cxm X).sig.returnType = (Option.some Jvm.ClassFile.FieldType.long)) {va : VaT} {th : ThT} {pa : PaT} {pf : PaT} {e : Nat} (hva : DVA G X.2.1 e va) (hth : DTH G X.2.1 e th) (hpa : DPA G X.2.1 e pa) (hpf : DPF G X.2.1 e pf) (hd : e + 14 ≤ d) (htab : (cxc X).exceptionTable.toList = tableOf [(15, 24, 27, 116)]) {a0 : Nat} {h : AH} {z : (Int64 × AH)} (hf : X0_ask va th pa pf a0 h = some z) (hk : Q = QMX G X h0 (.inl (some (vl z.1))) z.2) {lv : List (Nat × AV)} (hl : lle lv [(0, vr (some a0))]) : V G X 4 h0 Q h 0 lv [] := by
  refine V.sub hl ?_
  unfold X0_ask at hf
  refine v_aload_n ok 0 dX0_ask_0 rfl rfl ?_
  refine v_cVi ok (RX0, TX0, 18) cf_0.1 [] (F := fun a => X0_taken a h) (fun a v h1 _ hv => M_X0_taken ok.2.2.2.2.2.2.1 (d := 1) (Nat.le_refl _) hv) (by omega) cw_X0_taken q662 q664 qs6 dX0_ask_1 [] rfl (Nat.le_of_ble_eq_true rfl) hf (fun v36 h37 hf => ?_)
  refine v_istore_n ok 1 dX0_ask_4 rfl (by decide) ?_
  refine v_aload_n ok 0 dX0_ask_5 rfl rfl ?_
  refine v_iconst ok 0 dX0_ask_6 rfl ?_
  refine v_pI ok fl_X0_105 ⟨fun _ _ _ => rfl, rfl⟩ (FN.of cf_0.1 rfl) dX0_ask_7 hf (fun h38 hf => ?_)
  refine v_aload_n ok 0 dX0_ask_10 rfl rfl ?_
  refine v_iconst ok (-1) dX0_ask_11 rfl ?_
  refine v_pI ok fl_X0_39 ⟨fun _ _ _ => rfl, rfl⟩ (FN.of cf_0.1 rfl) dX0_ask_12 hf (fun h39 hf => ?_)
  refine v_aload_n ok 0 dX0_ask_15 rfl rfl ?_
  refine v_gR ok fl_X0_48 (by first | exact Or.inl ⟨_, rfl⟩ | exact Or.inr ⟨_, rfl⟩) dX0_ask_16 hf (fun v40 hf => ?_)
  refine v_iload_n ok 1 dX0_ask_19 rfl rfl ?_
  refine v_cXr ok (RX2, TX2, 8) cf_2.1 [vi v36] (F := fun a => X2_question pa pf a v36 h39) (fun a w h1 _ hv => M_X2_question ok.2.2.2.2.2.2.1 hpa hpf (d := e + 13) (Nat.le_refl _) hv) (by omega) cw_X2_question q1715 q1716 q1717 dX0_ask_20 [] rfl (Nat.le_of_ble_eq_true rfl) hf (fun b h_ h3 h4 hf => VX.catch ok htab (by decide) (by decide) q661 q382 h3 h4 ?_) (fun v41 h42 hf => ?_)
  ·
    refine v_astore_n ok 3 dX0_ask_27 rfl (by decide) ?_
    refine v_aload_n ok 0 dX0_ask_28 rfl rfl ?_
    refine v_aload_n ok 3 dX0_ask_29 rfl rfl ?_
    refine v_gIN ok fl_X0_118 (fun _ _ _ => rfl) dX0_ask_30 hf (fun v43 hf => ?_)
    refine v_pI ok fl_X0_105 ⟨fun _ _ _ => rfl, rfl⟩ (FN.of cf_0.1 rfl) dX0_ask_33 hf (fun h44 hf => ?_)
    refine v_aload_n ok 0 dX0_ask_36 rfl rfl ?_
    refine v_aload_n ok 3 dX0_ask_37 rfl rfl ?_
    refine v_gIN ok fl_X0_121 (fun _ _ _ => rfl) dX0_ask_38 hf (fun v45 hf => ?_)
    refine v_pI ok fl_X0_39 ⟨fun _ _ _ => rfl, rfl⟩ (FN.of cf_0.1 rfl) dX0_ask_41 hf (fun h46 hf => ?_)
    refine v_ldc2 ok q1531 dX0_ask_44 ?_
    exact v_lretX ok hr (by cases hf; exact hk) dX0_ask_47
  ·
    refine v_astore_n ok 2 dX0_ask_23 rfl (by decide) ?_
    refine v_goto ok 48 dX0_ask_24 rfl ?_
    refine v_aload_n ok 0 dX0_ask_48 rfl rfl ?_
    refine v_iconst ok 0 dX0_ask_49 rfl ?_
    refine v_pI ok fl_X0_347 ⟨fun _ _ _ => rfl, rfl⟩ (FN.of cf_0.1 rfl) dX0_ask_50 hf (fun h47 hf => ?_)
    exact W_X0_ask_53 ok hr hva hth hpa hpf hd htab hf hk ⟨rfl, rfl, trivial⟩
theorem M_X0_ask {G : GT} {l : Launch} (hG : Glob G) {va : VaT} {th : ThT} {pa : PaT} {pf : PaT} {e : Nat} (hva : DVA G l e va) (hth : DTH G l e th) (hpa : DPA G l e pa) (hpf : DPF G l e pf) {d : Nat} (hd : e + 14 ≤ d) {a0 : Nat} {h : AH} {v : Int64} {h' : AH} (hf : X0_ask va th pa pf a0 h = some (v, h')) : MMW G l yX0_ask cX0_ask 4 (Option.some Jvm.ClassFile.FieldType.long) [(15, 24, 27, 116)] d [vr (some a0)] h (some (vl v)) h' := by
  refine mmw_of hG (by decide) (Nat.le_of_ble_eq_true rfl) (fun X hX ok hr htab => ?_)
  subst hX
  exact W_X0_ask ok hr hva hth hpa hpf hd htab hf rfl ⟨rfl, trivial⟩
theorem cw_X2_opens : CW yX2_opens cX2_opens 2 none 1 := ⟨q1087, q177, ⟨by decide, by decide⟩, by decide +kernel, by decide⟩
theorem W_X2_opens {G : GT} {X : CX} {d : Nat} {h0 : AH} {Q : State → Prop} (ok : Ok G X RX2 cX2_opens 2 d h0) (hr : (cxm X).sig.returnType = none) (hd : 2 ≤ d) (hx : ∀ x ∈ (cxc X).exceptionTable.toList, False) {a0 : Nat} {x1 : Int32} {h : AH} {z : ((Unit ⊕ Nat) × AH)} (hf : X2_opens a0 x1 h = some z) (hk : Q = QMX G X h0 (rxv z.1) z.2) {lv : List (Nat × AV)} (hl : lle lv [(0, vr (some a0)), (1, vi x1)]) : V G X 2 h0 Q h 0 lv [] := by
  refine V.sub hl ?_
  unfold X2_opens at hf
  refine v_aload_n ok 0 dX2_opens_0 rfl rfl ?_
  refine v_gI ok fl_X2_107 (fun _ _ _ => rfl) dX2_opens_1 hf (fun v1 hf => ?_)
  refine v_bipush ok 6 dX2_opens_4 rfl ?_
  refine v_icmp_ne ok 16 dX2_opens_6 rfl hf (fun hf => ?_) (fun hf => ?_)
  ·
    refine v_aload_n ok 0 dX2_opens_16 rfl rfl ?_
    refine v_dup ok dX2_opens_17 rfl ?_
    refine v_gI ok fl_X2_107 (fun _ _ _ => rfl) dX2_opens_18 hf (fun v2 hf => ?_)
    refine v_iconst ok 1 dX2_opens_21 rfl ?_
    refine v_iadd ok dX2_opens_22 ?_
    refine v_pI ok fl_X2_107 ⟨fun _ _ _ => rfl, rfl⟩ (FN.of cf_2.1 rfl) dX2_opens_23 hf (fun h3 hf => ?_)
    exact v_vretX ok hr (by cases hf; exact hk) dX2_opens_26
  ·
    refine v_aload_n ok 0 dX2_opens_9 rfl rfl ?_
    refine v_iconst ok 4 dX2_opens_10 rfl ?_
    refine v_iload_n ok 1 dX2_opens_11 rfl rfl ?_
    refine v_cVr ok (RX2, TX2, 8) cf_2.1 [vi 4, vi x1] (F := fun a => X2_wrong a 4 x1 h) (fun a v h1 _ hv => M_X2_wrong ok.2.2.2.2.2.2.1 (d := 1) (Nat.le_refl _) hv) (by exact Nat.le_trans (by decide) hd) cw_X2_wrong q684 q686 qs10 dX2_opens_12 [] rfl (Nat.le_of_ble_eq_true rfl) hf (fun v4 h5 hf => ?_)
    exact v_athrow ok dX2_opens_15 hf (fun a h3 h4 hf => VX.out ok hx h3 h4 (by cases hf; exact hk))
theorem M_X2_opens {G : GT} {l : Launch} (hG : Glob G) {d : Nat} (hd : 2 ≤ d) {a0 : Nat} {x1 : Int32} {h : AH} {w : Unit ⊕ Nat} {h' : AH} (hf : X2_opens a0 x1 h = some (w, h')) : MMX G l yX2_opens cX2_opens 2 none d [vr (some a0), vi x1] h (rxv w) h' := by
  refine mmx_of hG (by decide) (Nat.le_of_ble_eq_true rfl) (fun X hX ok hr hx => ?_)
  subst hX
  exact W_X2_opens ok hr hd hx hf rfl ⟨rfl, rfl, trivial⟩
theorem cw_X2_looked : CW yX2_looked cX2_looked 3 (Option.some (Jvm.ClassFile.FieldType.object "TurnedBoards$Value")) 1 := ⟨q1138, q177, ⟨by decide, by decide⟩, by decide +kernel, by decide⟩
theorem W_X2_looked {G : GT} {X : CX} {d : Nat} {h0 : AH} {Q : State → Prop} (ok : Ok G X RX2 cX2_looked 3 d h0) (hr : (cxm X).sig.returnType = (Option.some (Jvm.ClassFile.FieldType.object "TurnedBoards$Value"))) {pa : PaT} {e : Nat} (hpa : DPA G X.2.1 e pa) (hd : e + 3 ≤ d) (hx : ∀ x ∈ (cxc X).exceptionTable.toList, False) {a0 : Nat} {x1 : Int32} {h : AH} {z : ((Option Nat ⊕ Nat) × AH)} (hf : X2_looked pa a0 x1 h = some z) (hk : Q = QMX G X h0 (rx vr z.1) z.2) {lv : List (Nat × AV)} (hl : lle lv [(0, vr (some a0)), (1, vi x1)]) : V G X 3 h0 Q h 0 lv [] := by
  refine V.sub hl ?_
  unfold X2_looked at hf
  refine v_aload_n ok 0 dX2_looked_0 rfl rfl ?_
  refine v_aload_n ok 0 dX2_looked_1 rfl rfl ?_
  refine v_gI ok fl_X2_61 (fun _ _ _ => rfl) dX2_looked_2 hf (fun v1 hf => ?_)
  refine v_cXv ok (RX2, TX2, 8) cf_2.1 [vi v1] (F := fun a => X2_opens a v1 h) (fun a w h1 _ hv => M_X2_opens ok.2.2.2.2.2.2.1 (d := 2) (Nat.le_refl _) hv) (by omega) cw_X2_opens q1084 q1086 qs26 dX2_looked_5 [] rfl (Nat.le_of_ble_eq_true rfl) hf (fun b h_ h3 h4 hf => VX.out ok hx h3 h4 (by cases hf; exact hk)) (fun _ h3 hf => ?_)
  refine v_new ok cf_16 rfl q1139 q1140 q201 df_16 dX2_looked_8 hf (fun v4 h5 hf => ?_)
  refine v_dup ok dX2_looked_11 rfl ?_
  refine v_aload_n ok 0 dX2_looked_12 rfl rfl ?_
  refine v_gR ok fl_X2_3 (by first | exact Or.inl ⟨_, rfl⟩ | exact Or.inr ⟨_, rfl⟩) dX2_looked_13 hf (fun v6 hf => ?_)
  refine v_iload_n ok 1 dX2_looked_16 rfl rfl ?_
  refine v_aload_n ok 0 dX2_looked_17 rfl rfl ?_
  refine v_cXr ok (RX2, TX2, 8) cf_2.1 [] (F := fun a => pa a h5) (fun a w h1 _ hv => hpa _ _ _ _ hv) (by omega) cw_X2_atom q1076 q1078 qs24 dX2_looked_18 [vi x1, vr v6, vr v4, vr v4] rfl (Nat.le_of_ble_eq_true rfl) hf (fun b h_ h3 h4 hf => VX.out ok hx h3 h4 (by cases hf; exact hk)) (fun v7 h8 hf => ?_)
  refine v_cIv ok [vr v6, vi x1, vr v7] rfl (F := fun a => X16_init a v6 x1 v7 h8) (fun a h1 _ hv => M_X16_init ok.2.2.2.2.2.2.1 (d := 2) (Nat.le_refl _) hv) (by omega) cw_X16_init q1141 q1142 dX2_looked_21 [vr v4] rfl (Nat.le_of_ble_eq_true rfl) hf (fun h9 hf => ?_)
  refine v_astore_n ok 2 dX2_looked_24 rfl (by decide) ?_
  refine v_aload_n ok 0 dX2_looked_25 rfl rfl ?_
  refine v_dup ok dX2_looked_26 rfl ?_
  refine v_gI ok fl_X2_107 (fun _ _ _ => rfl) dX2_looked_27 hf (fun v10 hf => ?_)
  refine v_iconst ok 1 dX2_looked_30 rfl ?_
  refine v_isub ok dX2_looked_31 ?_
  refine v_pI ok fl_X2_107 ⟨fun _ _ _ => rfl, rfl⟩ (FN.of cf_2.1 rfl) dX2_looked_32 hf (fun h11 hf => ?_)
  refine v_aload_n ok 2 dX2_looked_35 rfl rfl ?_
  exact v_aretX ok hr (by first | exact Or.inl ⟨_, rfl⟩ | exact Or.inr ⟨_, rfl⟩) (by cases hf; exact hk) dX2_looked_36
theorem M_X2_looked {G : GT} {l : Launch} (hG : Glob G) {pa : PaT} {e : Nat} (hpa : DPA G l e pa) {d : Nat} (hd : e + 3 ≤ d) {a0 : Nat} {x1 : Int32} {h : AH} {w : Option Nat ⊕ Nat} {h' : AH} (hf : X2_looked pa a0 x1 h = some (w, h')) : MMX G l yX2_looked cX2_looked 3 (Option.some (Jvm.ClassFile.FieldType.object "TurnedBoards$Value")) d [vr (some a0), vi x1] h (rx vr w) h' := by
  refine mmx_of hG (by decide) (Nat.le_of_ble_eq_true rfl) (fun X hX ok hr hx => ?_)
  subst hX
  exact W_X2_looked ok hr hpa hd hx hf rfl ⟨rfl, rfl, trivial⟩
theorem cw_X2_within : CW yX2_within cX2_within 4 (Option.some (Jvm.ClassFile.FieldType.object "TurnedBoards$Value")) 1 := ⟨q1083, q177, ⟨by decide, by decide⟩, by decide +kernel, by decide⟩
theorem W_X2_within_77 {G : GT} {X : CX} {d : Nat} {h0 : AH} {Q : State → Prop} (ok : Ok G X RX2 cX2_within 4 d h0) (hr : (cxm X).sig.returnType = (Option.some (Jvm.ClassFile.FieldType.object "TurnedBoards$Value"))) {pa : PaT} {e : Nat} (hpa : DPA G X.2.1 e pa) (hd : e + 12 ≤ d) (hx : ∀ x ∈ (cxc X).exceptionTable.toList, False) {a0 : Nat} {x3 : Option Nat} {h : AH} {z : ((Option Nat ⊕ Nat) × AH)} (hf : X2_within_77 pa a0 x3 h = some z) (hk : Q = QMX G X h0 (rx vr z.1) z.2) {lv : List (Nat × AV)} (hl : lle lv [(0, vr (some a0)), (3, vr x3)]) : V G X 4 h0 Q h 77 lv [] := by
  refine V.sub hl ?_
  unfold X2_within_77 at hf
  refine v_aload_n ok 0 dX2_within_77 rfl rfl ?_
  refine v_bipush ok 41 dX2_within_78 rfl ?_
  refine v_cXv ok (RX2, TX2, 8) cf_2.1 [vi 41] (F := fun a => X2_must a 41 h) (fun a w h1 _ hv => M_X2_must ok.2.2.2.2.2.2.1 (d := 3) (Nat.le_refl _) hv) (by omega) cw_X2_must q1088 q1090 qs27 dX2_within_80 [] rfl (Nat.le_of_ble_eq_true rfl) hf (fun b h_ h3 h4 hf => VX.out ok hx h3 h4 (by cases hf; exact hk)) (fun _ h2 hf => ?_)
  refine v_aload_n ok 0 dX2_within_83 rfl rfl ?_
  refine v_dup ok dX2_within_84 rfl ?_
  refine v_gI ok fl_X2_107 (fun _ _ _ => rfl) dX2_within_85 hf (fun v3 hf => ?_)
  refine v_iconst ok 1 dX2_within_88 rfl ?_
  refine v_isub ok dX2_within_89 ?_
  refine v_pI ok fl_X2_107 ⟨fun _ _ _ => rfl, rfl⟩ (FN.of cf_2.1 rfl) dX2_within_90 hf (fun h4 hf => ?_)
  refine v_aload_n ok 3 dX2_within_93 rfl rfl ?_
  exact v_aretX ok hr (by first | exact Or.inl ⟨_, rfl⟩ | exact Or.inr ⟨_, rfl⟩) (by cases hf; exact hk) dX2_within_94
theorem W_X2_within_68 {G : GT} {X : CX} {d : Nat} {h0 : AH} {Q : State → Prop} (ok : Ok G X RX2 cX2_within 4 d h0) (hr : (cxm X).sig.returnType = (Option.some (Jvm.ClassFile.FieldType.object "TurnedBoards$Value"))) {pa : PaT} {e : Nat} (hpa : DPA G X.2.1 e pa) (hd : e + 12 ≤ d) (hx : ∀ x ∈ (cxc X).exceptionTable.toList, False) {a0 : Nat} {x2 : Option Nat} {s0 : Option Nat} {s1 : Option Nat} {s2 : Int32} {h : AH} {z : ((Option Nat ⊕ Nat) × AH)} (hf : X2_within_68 pa a0 x2 s0 s1 s2 h = some z) (hk : Q = QMX G X h0 (rx vr z.1) z.2) {lv : List (Nat × AV)} (hl : lle lv [(0, vr (some a0)), (2, vr x2)]) : V G X 4 h0 Q h 68 lv [vi s2, vr s1, vr s0] := by
  refine V.sub hl ?_
  unfold X2_within_68 at hf
  refine v_aload_n ok 2 dX2_within_68 rfl rfl ?_
  refine v_aload_n ok 0 dX2_within_69 rfl rfl ?_
  refine v_cXr ok (RX2, TX2, 8) cf_2.1 [] (F := fun a => X2_sum pa a h) (fun a w h1 _ hv => M_X2_sum ok.2.2.2.2.2.2.1 hpa (d := e + 11) (Nat.le_refl _) hv) (by omega) cw_X2_sum q1027 q1029 qs22 dX2_within_70 [vr x2, vi s2, vr s1, vr s0] rfl (Nat.le_of_ble_eq_true rfl) hf (fun b h_ h3 h4 hf => VX.out ok hx h3 h4 (by cases hf; exact hk)) (fun v5 h6 hf => ?_)
  refine v_cIv ok [vi s2, vr x2, vr v5] rfl (F := fun a => X13_init a s2 x2 v5 h6) (fun a h1 _ hv => M_X13_init ok.2.2.2.2.2.2.1 (d := 2) (Nat.le_refl _) hv) (by omega) cw_X13_init q1094 q1095 dX2_within_73 [vr s0] rfl (Nat.le_of_ble_eq_true rfl) hf (fun h7 hf => ?_)
  refine v_astore_n ok 3 dX2_within_76 rfl (by decide) ?_
  exact W_X2_within_77 ok hr hpa hd hx hf hk ⟨rfl, rfl, trivial⟩
theorem W_X2_within {G : GT} {X : CX} {d : Nat} {h0 : AH} {Q : State → Prop} (ok : Ok G X RX2 cX2_within 4 d h0) (hr : (cxm X).sig.returnType = (Option.some (Jvm.ClassFile.FieldType.object "TurnedBoards$Value"))) {pa : PaT} {e : Nat} (hpa : DPA G X.2.1 e pa) (hd : e + 12 ≤ d) (hx : ∀ x ∈ (cxc X).exceptionTable.toList, False) {a0 : Nat} {x1 : Int32} {h : AH} {z : ((Option Nat ⊕ Nat) × AH)} (hf : X2_within pa a0 x1 h = some z) (hk : Q = QMX G X h0 (rx vr z.1) z.2) {lv : List (Nat × AV)} (hl : lle lv [(0, vr (some a0)), (1, vi x1)]) : V G X 4 h0 Q h 0 lv [] := by
  refine V.sub hl ?_
  unfold X2_within at hf
  refine v_aload_n ok 0 dX2_within_0 rfl rfl ?_
  refine v_cVi ok (RX2, TX2, 8) cf_2.1 [] (F := fun a => X2_here a h) (fun a v h1 _ hv => M_X2_here ok.2.2.2.2.2.2.1 (d := 2) (Nat.le_refl _) hv) (by omega) cw_X2_here q672 q674 qs7 dX2_within_1 [] rfl (Nat.le_of_ble_eq_true rfl) hf (fun v8 h9 hf => ?_)
  refine v_bipush ok 40 dX2_within_4 rfl ?_
  refine v_icmp_eq ok 19 dX2_within_6 rfl hf (fun hf => ?_) (fun hf => ?_)
  ·
    refine v_aload_n ok 0 dX2_within_19 rfl rfl ?_
    refine v_aload_n ok 0 dX2_within_20 rfl rfl ?_
    refine v_gI ok fl_X2_36 (fun _ _ _ => rfl) dX2_within_21 hf (fun v10 hf => ?_)
    refine v_cXv ok (RX2, TX2, 8) cf_2.1 [vi v10] (F := fun a => X2_opens a v10 h9) (fun a w h1 _ hv => M_X2_opens ok.2.2.2.2.2.2.1 (d := 2) (Nat.le_refl _) hv) (by omega) cw_X2_opens q1084 q1086 qs26 dX2_within_24 [] rfl (Nat.le_of_ble_eq_true rfl) hf (fun b h_ h3 h4 hf => VX.out ok hx h3 h4 (by cases hf; exact hk)) (fun _ h12 hf => ?_)
    refine v_aload_n ok 0 dX2_within_27 rfl rfl ?_
    refine v_dup ok dX2_within_28 rfl ?_
    refine v_gI ok fl_X2_36 (fun _ _ _ => rfl) dX2_within_29 hf (fun v13 hf => ?_)
    refine v_iconst ok 1 dX2_within_32 rfl ?_
    refine v_iadd ok dX2_within_33 ?_
    refine v_pI ok fl_X2_36 ⟨fun _ _ _ => rfl, rfl⟩ (FN.of cf_2.1 rfl) dX2_within_34 hf (fun h14 hf => ?_)
    refine v_aload_n ok 0 dX2_within_37 rfl rfl ?_
    refine v_cXr ok (RX2, TX2, 8) cf_2.1 [] (F := fun a => X2_sum pa a h14) (fun a w h1 _ hv => M_X2_sum ok.2.2.2.2.2.2.1 hpa (d := e + 11) (Nat.le_refl _) hv) (by omega) cw_X2_sum q1027 q1029 qs22 dX2_within_38 [] rfl (Nat.le_of_ble_eq_true rfl) hf (fun b h_ h3 h4 hf => VX.out ok hx h3 h4 (by cases hf; exact hk)) (fun v15 h16 hf => ?_)
    refine v_astore_n ok 2 dX2_within_41 rfl (by decide) ?_
    refine v_aload_n ok 2 dX2_within_42 rfl rfl ?_
    refine v_astore_n ok 3 dX2_within_43 rfl (by decide) ?_
    refine v_iload_n ok 1 dX2_within_44 rfl rfl ?_
    refine v_if_le ok 77 dX2_within_45 rfl hf (fun hf => ?_) (fun hf => ?_)
    ·
      exact W_X2_within_77 ok hr hpa hd hx hf hk ⟨rfl, rfl, trivial⟩
    ·
      refine v_aload_n ok 0 dX2_within_48 rfl rfl ?_
      refine v_bipush ok 44 dX2_within_49 rfl ?_
      refine v_cXv ok (RX2, TX2, 8) cf_2.1 [vi 44] (F := fun a => X2_must a 44 h16) (fun a w h1 _ hv => M_X2_must ok.2.2.2.2.2.2.1 (d := 3) (Nat.le_refl _) hv) (by omega) cw_X2_must q1088 q1090 qs27 dX2_within_51 [] rfl (Nat.le_of_ble_eq_true rfl) hf (fun b h_ h3 h4 hf => VX.out ok hx h3 h4 (by cases hf; exact hk)) (fun _ h18 hf => ?_)
      refine v_new ok cf_13 rfl q1092 q1093 q198 df_13 dX2_within_54 hf (fun v19 h20 hf => ?_)
      refine v_dup ok dX2_within_57 rfl ?_
      refine v_iload_n ok 1 dX2_within_58 rfl rfl ?_
      refine v_iconst ok 2 dX2_within_59 rfl ?_
      refine v_icmp_ne ok 67 dX2_within_60 rfl hf (fun hf => ?_) (fun hf => ?_)
      ·
        refine v_iconst ok 0 dX2_within_67 rfl ?_
        exact W_X2_within_68 ok hr hpa hd hx hf hk ⟨rfl, rfl, trivial⟩
      ·
        refine v_iconst ok 1 dX2_within_63 rfl ?_
        refine v_goto ok 68 dX2_within_64 rfl ?_
        exact W_X2_within_68 ok hr hpa hd hx hf hk ⟨rfl, rfl, trivial⟩
  ·
    refine v_aload_n ok 0 dX2_within_9 rfl rfl ?_
    refine v_iconst ok 1 dX2_within_10 rfl ?_
    refine v_aload_n ok 0 dX2_within_11 rfl rfl ?_
    refine v_gI ok fl_X2_36 (fun _ _ _ => rfl) dX2_within_12 hf (fun v21 hf => ?_)
    refine v_cVr ok (RX2, TX2, 8) cf_2.1 [vi 1, vi v21] (F := fun a => X2_wrong a 1 v21 h9) (fun a v h1 _ hv => M_X2_wrong ok.2.2.2.2.2.2.1 (d := 1) (Nat.le_refl _) hv) (by omega) cw_X2_wrong q684 q686 qs10 dX2_within_15 [] rfl (Nat.le_of_ble_eq_true rfl) hf (fun v22 h23 hf => ?_)
    exact v_athrow ok dX2_within_18 hf (fun a h3 h4 hf => VX.out ok hx h3 h4 (by cases hf; exact hk))
theorem M_X2_within {G : GT} {l : Launch} (hG : Glob G) {pa : PaT} {e : Nat} (hpa : DPA G l e pa) {d : Nat} (hd : e + 12 ≤ d) {a0 : Nat} {x1 : Int32} {h : AH} {w : Option Nat ⊕ Nat} {h' : AH} (hf : X2_within pa a0 x1 h = some (w, h')) : MMX G l yX2_within cX2_within 4 (Option.some (Jvm.ClassFile.FieldType.object "TurnedBoards$Value")) d [vr (some a0), vi x1] h (rx vr w) h' := by
  refine mmx_of hG (by decide) (Nat.le_of_ble_eq_true rfl) (fun X hX ok hr hx => ?_)
  subst hX
  exact W_X2_within ok hr hpa hd hx hf rfl ⟨rfl, rfl, trivial⟩
theorem W_X2_atom_159 {G : GT} {X : CX} {d : Nat} {h0 : AH} {Q : State → Prop} (ok : Ok G X RX2 cX2_atom 3 d h0) (hr : (cxm X).sig.returnType = (Option.some (Jvm.ClassFile.FieldType.object "TurnedBoards$Value"))) {pa : PaT} {e : Nat} (hpa : DPA G X.2.1 e pa) (hd : e + 13 ≤ d) (hx : ∀ x ∈ (cxc X).exceptionTable.toList, False) {s0 : Option Nat} {s1 : Int32} {h : AH} {z : ((Option Nat ⊕ Nat) × AH)} (hf : X2_atom_159 pa  s0 s1 h = some z) (hk : Q = QMX G X h0 (rx vr z.1) z.2) {lv : List (Nat × AV)} (hl : lle lv []) : V G X 3 h0 Q h 159 lv [vi s1, vr s0] := by
  refine V.sub hl ?_
  unfold X2_atom_159 at hf
  refine v_cXr ok (RX2, TX2, 8) cf_2.1 [vi s1] (F := fun a => X2_within pa a s1 h) (fun a w h1 _ hv => M_X2_within ok.2.2.2.2.2.2.1 hpa (d := e + 12) (Nat.le_refl _) hv) (by omega) cw_X2_within q1080 q1082 qs25 dX2_atom_159 [] rfl (Nat.le_of_ble_eq_true rfl) hf (fun b h_ h3 h4 hf => VX.out ok hx h3 h4 (by cases hf; exact hk)) (fun v1 h2 hf => ?_)
  exact v_aretX ok hr (by first | exact Or.inl ⟨_, rfl⟩ | exact Or.inr ⟨_, rfl⟩) (by cases hf; exact hk) dX2_atom_162
theorem W_X2_atom_143 {G : GT} {X : CX} {d : Nat} {h0 : AH} {Q : State → Prop} (ok : Ok G X RX2 cX2_atom 3 d h0) (hr : (cxm X).sig.returnType = (Option.some (Jvm.ClassFile.FieldType.object "TurnedBoards$Value"))) {pa : PaT} {e : Nat} (hpa : DPA G X.2.1 e pa) (hd : e + 13 ≤ d) (hx : ∀ x ∈ (cxc X).exceptionTable.toList, False) {a0 : Nat} {x1 : Option Nat} {h : AH} {z : ((Option Nat ⊕ Nat) × AH)} (hf : X2_atom_143 pa a0 x1 h = some z) (hk : Q = QMX G X h0 (rx vr z.1) z.2) {lv : List (Nat × AV)} (hl : lle lv [(0, vr (some a0)), (1, vr x1)]) : V G X 3 h0 Q h 143 lv [] := by
  refine V.sub hl ?_
  unfold X2_atom_143 at hf
  refine v_aload_n ok 0 dX2_atom_143 rfl rfl ?_
  refine v_aload_n ok 1 dX2_atom_144 rfl rfl ?_
  refine v_ldcwS ok (a0 := 42) (tx := "min") (List.mem_of_getElem? (i := 44) rfl) (by decide) dX2_atom_145 ?_
  refine v_cVi ok (RJ9, TJ9, 4) cf_24.1 [vr (some 42)] (F := fun a => J9_equals a (some 42) h) (fun a v h1 _ hv => M_J9_equals ok.2.2.2.2.2.2.1 (d := 2) (Nat.le_refl _) hv) (by omega) cw_J9_equals q838 q839 q840 dX2_atom_148 [vr (some a0)] rfl (Nat.le_of_ble_eq_true rfl) hf (fun v3 h4 hf => ?_)
  refine v_if_eq ok 158 dX2_atom_151 rfl hf (fun hf => ?_) (fun hf => ?_)
  ·
    refine v_iconst ok 2 dX2_atom_158 rfl ?_
    exact W_X2_atom_159 ok hr hpa hd hx hf hk trivial
  ·
    refine v_iconst ok 1 dX2_atom_154 rfl ?_
    refine v_goto ok 159 dX2_atom_155 rfl ?_
    exact W_X2_atom_159 ok hr hpa hd hx hf hk trivial
theorem W_X2_atom_101 {G : GT} {X : CX} {d : Nat} {h0 : AH} {Q : State → Prop} (ok : Ok G X RX2 cX2_atom 3 d h0) (hr : (cxm X).sig.returnType = (Option.some (Jvm.ClassFile.FieldType.object "TurnedBoards$Value"))) {pa : PaT} {e : Nat} (hpa : DPA G X.2.1 e pa) (hd : e + 13 ≤ d) (hx : ∀ x ∈ (cxc X).exceptionTable.toList, False) {a0 : Nat} {x1 : Option Nat} {s0 : Int32} {h : AH} {z : ((Option Nat ⊕ Nat) × AH)} (hf : X2_atom_101 pa a0 x1 s0 h = some z) (hk : Q = QMX G X h0 (rx vr z.1) z.2) {lv : List (Nat × AV)} (hl : lle lv [(0, vr (some a0)), (1, vr x1)]) : V G X 3 h0 Q h 101 lv [vi s0] := by
  refine V.sub hl ?_
  unfold X2_atom_101 at hf
  refine v_istore_n ok 2 dX2_atom_101 rfl (by decide) ?_
  refine v_iload_n ok 2 dX2_atom_102 rfl rfl ?_
  refine v_iconst ok (-1) dX2_atom_103 rfl ?_
  refine v_icmp_eq ok 113 dX2_atom_104 rfl hf (fun hf => ?_) (fun hf => ?_)
  ·
    refine v_aload_n ok 1 dX2_atom_113 rfl rfl ?_
    refine v_ldcwS ok (a0 := 42) (tx := "min") (List.mem_of_getElem? (i := 44) rfl) (by decide) dX2_atom_114 ?_
    refine v_cVi ok (RJ9, TJ9, 4) cf_24.1 [vr (some 42)] (F := fun a => J9_equals a (some 42) h) (fun a v h1 _ hv => M_J9_equals ok.2.2.2.2.2.2.1 (d := 2) (Nat.le_refl _) hv) (by omega) cw_J9_equals q838 q839 q840 dX2_atom_117 [] rfl (Nat.le_of_ble_eq_true rfl) hf (fun v5 h6 hf => ?_)
    refine v_if_ne ok 143 dX2_atom_120 rfl hf (fun hf => ?_) (fun hf => ?_)
    ·
      exact W_X2_atom_143 ok hr hpa hd hx hf hk ⟨rfl, rfl, trivial⟩
    ·
      refine v_aload_n ok 1 dX2_atom_123 rfl rfl ?_
      refine v_ldcwS ok (a0 := 40) (tx := "max") (List.mem_of_getElem? (i := 45) rfl) (by decide) dX2_atom_124 ?_
      refine v_cVi ok (RJ9, TJ9, 4) cf_24.1 [vr (some 40)] (F := fun a => J9_equals a (some 40) h6) (fun a v h1 _ hv => M_J9_equals ok.2.2.2.2.2.2.1 (d := 2) (Nat.le_refl _) hv) (by omega) cw_J9_equals q838 q839 q840 dX2_atom_127 [] rfl (Nat.le_of_ble_eq_true rfl) hf (fun v7 h8 hf => ?_)
      refine v_if_ne ok 143 dX2_atom_130 rfl hf (fun hf => ?_) (fun hf => ?_)
      ·
        exact W_X2_atom_143 ok hr hpa hd hx hf hk ⟨rfl, rfl, trivial⟩
      ·
        refine v_aload_n ok 0 dX2_atom_133 rfl rfl ?_
        refine v_iconst ok 1 dX2_atom_134 rfl ?_
        refine v_aload_n ok 0 dX2_atom_135 rfl rfl ?_
        refine v_gI ok fl_X2_61 (fun _ _ _ => rfl) dX2_atom_136 hf (fun v9 hf => ?_)
        refine v_cVr ok (RX2, TX2, 8) cf_2.1 [vi 1, vi v9] (F := fun a => X2_wrong a 1 v9 h8) (fun a v h1 _ hv => M_X2_wrong ok.2.2.2.2.2.2.1 (d := 1) (Nat.le_refl _) hv) (by omega) cw_X2_wrong q684 q686 qs10 dX2_atom_139 [] rfl (Nat.le_of_ble_eq_true rfl) hf (fun v10 h11 hf => ?_)
        exact v_athrow ok dX2_atom_142 hf (fun a h3 h4 hf => VX.out ok hx h3 h4 (by cases hf; exact hk))
  ·
    refine v_aload_n ok 0 dX2_atom_107 rfl rfl ?_
    refine v_iload_n ok 2 dX2_atom_108 rfl rfl ?_
    refine v_cXr ok (RX2, TX2, 8) cf_2.1 [vi s0] (F := fun a => X2_looked pa a s0 h) (fun a w h1 _ hv => M_X2_looked ok.2.2.2.2.2.2.1 hpa (d := e + 3) (Nat.le_refl _) hv) (by omega) cw_X2_looked q1135 q1137 qs28 dX2_atom_109 [] rfl (Nat.le_of_ble_eq_true rfl) hf (fun b h_ h3 h4 hf => VX.out ok hx h3 h4 (by cases hf; exact hk)) (fun v12 h13 hf => ?_)
    exact v_aretX ok hr (by first | exact Or.inl ⟨_, rfl⟩ | exact Or.inr ⟨_, rfl⟩) (by cases hf; exact hk) dX2_atom_112
theorem W_X2_atom_80 {G : GT} {X : CX} {d : Nat} {h0 : AH} {Q : State → Prop} (ok : Ok G X RX2 cX2_atom 3 d h0) (hr : (cxm X).sig.returnType = (Option.some (Jvm.ClassFile.FieldType.object "TurnedBoards$Value"))) {pa : PaT} {e : Nat} (hpa : DPA G X.2.1 e pa) (hd : e + 13 ≤ d) (hx : ∀ x ∈ (cxc X).exceptionTable.toList, False) {a0 : Nat} {x1 : Option Nat} {h : AH} {z : ((Option Nat ⊕ Nat) × AH)} (hf : X2_atom_80 pa a0 x1 h = some z) (hk : Q = QMX G X h0 (rx vr z.1) z.2) {lv : List (Nat × AV)} (hl : lle lv [(0, vr (some a0)), (1, vr x1)]) : V G X 3 h0 Q h 80 lv [] := by
  refine V.sub hl ?_
  unfold X2_atom_80 at hf
  refine v_aload_n ok 0 dX2_atom_80 rfl rfl ?_
  refine v_gI ok fl_X2_215 (fun _ _ _ => rfl) dX2_atom_81 hf (fun v14 hf => ?_)
  refine v_sipush ok 900 dX2_atom_84 rfl ?_
  refine v_icmp_ne ok 100 dX2_atom_87 rfl hf (fun hf => ?_) (fun hf => ?_)
  ·
    refine v_iconst ok (-1) dX2_atom_100 rfl ?_
    exact W_X2_atom_101 ok hr hpa hd hx hf hk ⟨rfl, rfl, trivial⟩
  ·
    refine v_aload_n ok 1 dX2_atom_90 rfl rfl ?_
    refine v_getsN ok (v := vr (hR h 120 7)) (List.mem_of_getElem? (i := 7) rfl) q1133 rfl dX2_atom_91 ?_
    refine v_cSNi ok [vr x1, vr (hR h 120 7)] (F := X0_find x1 (hR h 120 7) h) (fun v h1 hv => M_X0_find ok.2.2.2.2.2.2.1 (d := 3) (Nat.le_refl _) hv) (by omega) cw_X0_find q853 q854 dX2_atom_94 [] rfl (Nat.le_of_ble_eq_true rfl) hf (fun v15 h16 hf => ?_)
    refine v_goto ok 101 dX2_atom_97 rfl ?_
    exact W_X2_atom_101 ok hr hpa hd hx hf hk ⟨rfl, rfl, trivial⟩
theorem W_X2_atom {G : GT} {X : CX} {d : Nat} {h0 : AH} {Q : State → Prop} (ok : Ok G X RX2 cX2_atom 3 d h0) (hr : (cxm X).sig.returnType = (Option.some (Jvm.ClassFile.FieldType.object "TurnedBoards$Value"))) {pa : PaT} {e : Nat} (hpa : DPA G X.2.1 e pa) (hd : e + 13 ≤ d) (hx : ∀ x ∈ (cxc X).exceptionTable.toList, False) {a0 : Nat} {h : AH} {z : ((Option Nat ⊕ Nat) × AH)} (hf : X2_atom pa a0 h = some z) (hk : Q = QMX G X h0 (rx vr z.1) z.2) {lv : List (Nat × AV)} (hl : lle lv [(0, vr (some a0))]) : V G X 3 h0 Q h 0 lv [] := by
  refine V.sub hl ?_
  unfold X2_atom at hf
  refine v_aload_n ok 0 dX2_atom_0 rfl rfl ?_
  refine v_cVi ok (RX2, TX2, 8) cf_2.1 [] (F := fun a => X2_here a h) (fun a v h1 _ hv => M_X2_here ok.2.2.2.2.2.2.1 (d := 2) (Nat.le_refl _) hv) (by omega) cw_X2_here q672 q674 qs7 dX2_atom_1 [] rfl (Nat.le_of_ble_eq_true rfl) hf (fun v17 h18 hf => ?_)
  refine v_bipush ok 40 dX2_atom_4 rfl ?_
  refine v_icmp_ne ok 15 dX2_atom_6 rfl hf (fun hf => ?_) (fun hf => ?_)
  ·
    refine v_aload_n ok 0 dX2_atom_15 rfl rfl ?_
    refine v_cVi ok (RX2, TX2, 8) cf_2.1 [] (F := fun a => X2_here a h18) (fun a v h1 _ hv => M_X2_here ok.2.2.2.2.2.2.1 (d := 2) (Nat.le_refl _) hv) (by omega) cw_X2_here q672 q674 qs7 dX2_atom_16 [] rfl (Nat.le_of_ble_eq_true rfl) hf (fun v19 h20 hf => ?_)
    refine v_cSNi ok [vi v19] (F := X0_isDigit v19 h20) (fun v h1 hv => M_X0_isDigit ok.2.2.2.2.2.2.1 (d := 1) (Nat.le_refl _) hv) (by omega) cw_X0_isDigit q699 q700 dX2_atom_19 [] rfl (Nat.le_of_ble_eq_true rfl) hf (fun v21 h22 hf => ?_)
    refine v_if_eq ok 42 dX2_atom_22 rfl hf (fun hf => ?_) (fun hf => ?_)
    ·
      refine v_aload_n ok 0 dX2_atom_42 rfl rfl ?_
      refine v_cXr ok (RX2, TX2, 8) cf_2.1 [] (F := fun a => X2_word a h22) (fun a w h1 _ hv => M_X2_word ok.2.2.2.2.2.2.1 (d := 9) (Nat.le_refl _) hv) (by omega) cw_X2_word q688 q690 qs11 dX2_atom_43 [] rfl (Nat.le_of_ble_eq_true rfl) hf (fun b h_ h3 h4 hf => VX.out ok hx h3 h4 (by cases hf; exact hk)) (fun v23 h24 hf => ?_)
      refine v_astore_n ok 1 dX2_atom_46 rfl (by decide) ?_
      refine v_aload_n ok 1 dX2_atom_47 rfl rfl ?_
      refine v_getsN ok (v := vr (hR h24 120 6)) (List.mem_of_getElem? (i := 6) rfl) q1118 rfl dX2_atom_48 ?_
      refine v_cSNi ok [vr v23, vr (hR h24 120 6)] (F := X0_find v23 (hR h24 120 6) h24) (fun v h1 hv => M_X0_find ok.2.2.2.2.2.2.1 (d := 3) (Nat.le_refl _) hv) (by omega) cw_X0_find q853 q854 dX2_atom_51 [] rfl (Nat.le_of_ble_eq_true rfl) hf (fun v25 h26 hf => ?_)
      refine v_istore_n ok 2 dX2_atom_54 rfl (by decide) ?_
      refine v_iload_n ok 2 dX2_atom_55 rfl rfl ?_
      refine v_iconst ok (-1) dX2_atom_56 rfl ?_
      refine v_icmp_eq ok 80 dX2_atom_57 rfl hf (fun hf => ?_) (fun hf => ?_)
      ·
        exact W_X2_atom_80 ok hr hpa hd hx hf hk ⟨rfl, rfl, trivial⟩
      ·
        refine v_aload_n ok 0 dX2_atom_60 rfl rfl ?_
        refine v_gI ok fl_X2_215 (fun _ _ _ => rfl) dX2_atom_61 hf (fun v27 hf => ?_)
        refine v_iload_n ok 2 dX2_atom_64 rfl rfl ?_
        refine v_cSNi ok [vi v27, vi v25] (F := X0_has v27 v25 h26) (fun v h1 hv => M_X0_has ok.2.2.2.2.2.2.1 (d := 1) (Nat.le_refl _) hv) (by omega) cw_X0_has q1120 q1121 dX2_atom_65 [] rfl (Nat.le_of_ble_eq_true rfl) hf (fun v28 h29 hf => ?_)
        refine v_if_eq ok 80 dX2_atom_68 rfl hf (fun hf => ?_) (fun hf => ?_)
        ·
          exact W_X2_atom_80 ok hr hpa hd hx hf hk ⟨rfl, rfl, trivial⟩
        ·
          refine v_new ok cf_15 rfl q1123 q1124 q200 df_15 dX2_atom_71 hf (fun v30 h31 hf => ?_)
          refine v_dup ok dX2_atom_74 rfl ?_
          refine v_iload_n ok 2 dX2_atom_75 rfl rfl ?_
          refine v_cIv ok [vi v25] rfl (F := fun a => X15_init a v25 h31) (fun a h1 _ hv => M_X15_init ok.2.2.2.2.2.2.1 (d := 2) (Nat.le_refl _) hv) (by omega) cw_X15_init q1125 q1126 dX2_atom_76 [vr v30] rfl (Nat.le_of_ble_eq_true rfl) hf (fun h32 hf => ?_)
          exact v_aretX ok hr (by first | exact Or.inl ⟨_, rfl⟩ | exact Or.inr ⟨_, rfl⟩) (by cases hf; exact hk) dX2_atom_79
    ·
      refine v_new ok cf_14 rfl q1108 q1109 q199 df_14 dX2_atom_25 hf (fun v33 h34 hf => ?_)
      refine v_dup ok dX2_atom_28 rfl ?_
      refine v_aload_n ok 0 dX2_atom_29 rfl rfl ?_
      refine v_iconst ok 0 dX2_atom_30 rfl ?_
      refine v_sipush ok 9999 dX2_atom_31 rfl ?_
      refine v_cXi ok (RX2, TX2, 8) cf_2.1 [vi 0, vi 9999] (F := fun a => X2_number_2 a 0 9999 h34) (fun a w h1 _ hv => M_X2_number_2 ok.2.2.2.2.2.2.1 (d := 3) (Nat.le_refl _) hv) (by omega) cw_X2_number_2 q894 q896 qs17 dX2_atom_34 [vr v33, vr v33] rfl (Nat.le_of_ble_eq_true rfl) hf (fun b h_ h3 h4 hf => VX.out ok hx h3 h4 (by cases hf; exact hk)) (fun v35 h36 hf => ?_)
      refine v_i2l ok dX2_atom_37 ?_
      refine v_cIv ok [vl (Int32.toInt64 v35)] rfl (F := fun a => X14_init a (Int32.toInt64 v35) h36) (fun a h1 _ hv => M_X14_init ok.2.2.2.2.2.2.1 (d := 2) (Nat.le_refl _) hv) (by omega) cw_X14_init q1110 q1111 dX2_atom_38 [vr v33] rfl (Nat.le_of_ble_eq_true rfl) hf (fun h37 hf => ?_)
      exact v_aretX ok hr (by first | exact Or.inl ⟨_, rfl⟩ | exact Or.inr ⟨_, rfl⟩) (by cases hf; exact hk) dX2_atom_41
  ·
    refine v_aload_n ok 0 dX2_atom_9 rfl rfl ?_
    refine v_iconst ok 0 dX2_atom_10 rfl ?_
    refine v_cXr ok (RX2, TX2, 8) cf_2.1 [vi 0] (F := fun a => X2_within pa a 0 h18) (fun a w h1 _ hv => M_X2_within ok.2.2.2.2.2.2.1 hpa (d := e + 12) (Nat.le_refl _) hv) (by omega) cw_X2_within q1080 q1082 qs25 dX2_atom_11 [] rfl (Nat.le_of_ble_eq_true rfl) hf (fun b h_ h3 h4 hf => VX.out ok hx h3 h4 (by cases hf; exact hk)) (fun v38 h39 hf => ?_)
    exact v_aretX ok hr (by first | exact Or.inl ⟨_, rfl⟩ | exact Or.inr ⟨_, rfl⟩) (by cases hf; exact hk) dX2_atom_14
theorem M_X2_atom {G : GT} {l : Launch} (hG : Glob G) {pa : PaT} {e : Nat} (hpa : DPA G l e pa) {d : Nat} (hd : e + 13 ≤ d) {a0 : Nat} {h : AH} {w : Option Nat ⊕ Nat} {h' : AH} (hf : X2_atom pa a0 h = some (w, h')) : MMX G l yX2_atom cX2_atom 3 (Option.some (Jvm.ClassFile.FieldType.object "TurnedBoards$Value")) d [vr (some a0)] h (rx vr w) h' := by
  refine mmx_of hG (by decide) (Nat.le_of_ble_eq_true rfl) (fun X hX ok hr hx => ?_)
  subst hX
  exact W_X2_atom ok hr hpa hd hx hf rfl ⟨rfl, trivial⟩
theorem W_X2_fact_148 {G : GT} {X : CX} {d : Nat} {h0 : AH} {Q : State → Prop} (ok : Ok G X RX2 cX2_fact 3 d h0) (hr : (cxm X).sig.returnType = (Option.some (Jvm.ClassFile.FieldType.object "TurnedBoards$Test"))) {pa : PaT} {pf : PaT} {e : Nat} (hpa : DPA G X.2.1 e pa) (hpf : DPF G X.2.1 e pf) (hd : e + 13 ≤ d) (hx : ∀ x ∈ (cxc X).exceptionTable.toList, False) {a0 : Nat} {x1 : Option Nat} {x2 : Int32} {h : AH} {z : ((Option Nat ⊕ Nat) × AH)} (hf : X2_fact_148 pa pf a0 x1 x2 h = some z) (hk : Q = QMX G X h0 (rx vr z.1) z.2) {lv : List (Nat × AV)} (hl : lle lv [(0, vr (some a0)), (1, vr x1), (2, vi x2)]) : V G X 3 h0 Q h 148 lv [] := by
  refine V.sub hl ?_
  unfold X2_fact_148 at hf
  refine v_aload_n ok 0 dX2_fact_148 rfl rfl ?_
  refine v_dup ok dX2_fact_149 rfl ?_
  refine v_gI ok fl_X2_36 (fun _ _ _ => rfl) dX2_fact_150 hf (fun v1 hf => ?_)
  refine v_iconst ok 1 dX2_fact_153 rfl ?_
  refine v_iadd ok dX2_fact_154 ?_
  refine v_pI ok fl_X2_36 ⟨fun _ _ _ => rfl, rfl⟩ (FN.of cf_2.1 rfl) dX2_fact_155 hf (fun h2 hf => ?_)
  refine v_new ok cf_21 rfl q1269 q1270 q206 df_21 dX2_fact_158 hf (fun v3 h4 hf => ?_)
  refine v_dup ok dX2_fact_161 rfl ?_
  refine v_aload_n ok 1 dX2_fact_162 rfl rfl ?_
  refine v_iload_n ok 2 dX2_fact_163 rfl rfl ?_
  refine v_aload_n ok 0 dX2_fact_164 rfl rfl ?_
  refine v_cXr ok (RX2, TX2, 8) cf_2.1 [] (F := fun a => X2_sum pa a h4) (fun a w h1 _ hv => M_X2_sum ok.2.2.2.2.2.2.1 hpa (d := e + 11) (Nat.le_refl _) hv) (by omega) cw_X2_sum q1027 q1029 qs22 dX2_fact_165 [vi x2, vr x1, vr v3, vr v3] rfl (Nat.le_of_ble_eq_true rfl) hf (fun b h_ h3 h4 hf => VX.out ok hx h3 h4 (by cases hf; exact hk)) (fun v5 h6 hf => ?_)
  refine v_cIv ok [vr x1, vi x2, vr v5] rfl (F := fun a => X21_init a x1 x2 v5 h6) (fun a h1 _ hv => M_X21_init ok.2.2.2.2.2.2.1 (d := 2) (Nat.le_refl _) hv) (by omega) cw_X21_init q1271 q1272 dX2_fact_168 [vr v3] rfl (Nat.le_of_ble_eq_true rfl) hf (fun h7 hf => ?_)
  exact v_aretX ok hr (by first | exact Or.inl ⟨_, rfl⟩ | exact Or.inr ⟨_, rfl⟩) (by cases hf; exact hk) dX2_fact_171
theorem W_X2_fact {G : GT} {X : CX} {d : Nat} {h0 : AH} {Q : State → Prop} (ok : Ok G X RX2 cX2_fact 3 d h0) (hr : (cxm X).sig.returnType = (Option.some (Jvm.ClassFile.FieldType.object "TurnedBoards$Test"))) {pa : PaT} {pf : PaT} {e : Nat} (hpa : DPA G X.2.1 e pa) (hpf : DPF G X.2.1 e pf) (hd : e + 13 ≤ d) (hx : ∀ x ∈ (cxc X).exceptionTable.toList, False) {a0 : Nat} {h : AH} {z : ((Option Nat ⊕ Nat) × AH)} (hf : X2_fact pa pf a0 h = some z) (hk : Q = QMX G X h0 (rx vr z.1) z.2) {lv : List (Nat × AV)} (hl : lle lv [(0, vr (some a0))]) : V G X 3 h0 Q h 0 lv [] := by
  refine V.sub hl ?_
  unfold X2_fact at hf
  refine v_aload_n ok 0 dX2_fact_0 rfl rfl ?_
  refine v_cVi ok (RX2, TX2, 8) cf_2.1 [] (F := fun a => X2_here a h) (fun a v h1 _ hv => M_X2_here ok.2.2.2.2.2.2.1 (d := 2) (Nat.le_refl _) hv) (by omega) cw_X2_here q672 q674 qs7 dX2_fact_1 [] rfl (Nat.le_of_ble_eq_true rfl) hf (fun v8 h9 hf => ?_)
  refine v_bipush ok 91 dX2_fact_4 rfl ?_
  refine v_icmp_ne ok 50 dX2_fact_6 rfl hf (fun hf => ?_) (fun hf => ?_)
  ·
    refine v_aload_n ok 0 dX2_fact_50 rfl rfl ?_
    refine v_ldcwS ok (a0 := 50) (tx := "not") (List.mem_of_getElem? (i := 48) rfl) (by decide) dX2_fact_51 ?_
    refine v_cXi ok (RX2, TX2, 8) cf_2.1 [vr (some 50)] (F := fun a => X2_passes a (some 50) h9) (fun a w h1 _ hv => M_X2_passes ok.2.2.2.2.2.2.1 (d := 10) (Nat.le_refl _) hv) (by omega) cw_X2_passes q1247 q1249 qs33 dX2_fact_54 [] rfl (Nat.le_of_ble_eq_true rfl) hf (fun b h_ h3 h4 hf => VX.out ok hx h3 h4 (by cases hf; exact hk)) (fun v10 h11 hf => ?_)
    refine v_if_eq ok 92 dX2_fact_57 rfl hf (fun hf => ?_) (fun hf => ?_)
    ·
      refine v_aload_n ok 0 dX2_fact_92 rfl rfl ?_
      refine v_ldcwS ok (a0 := 2) (tx := "all") (List.mem_of_getElem? (i := 49) rfl) (by decide) dX2_fact_93 ?_
      refine v_cXi ok (RX2, TX2, 8) cf_2.1 [vr (some 2)] (F := fun a => X2_passes a (some 2) h11) (fun a w h1 _ hv => M_X2_passes ok.2.2.2.2.2.2.1 (d := 10) (Nat.le_refl _) hv) (by omega) cw_X2_passes q1247 q1249 qs33 dX2_fact_96 [] rfl (Nat.le_of_ble_eq_true rfl) hf (fun b h_ h3 h4 hf => VX.out ok hx h3 h4 (by cases hf; exact hk)) (fun v12 h13 hf => ?_)
      refine v_if_eq ok 110 dX2_fact_99 rfl hf (fun hf => ?_) (fun hf => ?_)
      ·
        refine v_aload_n ok 0 dX2_fact_110 rfl rfl ?_
        refine v_cXr ok (RX2, TX2, 8) cf_2.1 [] (F := fun a => X2_sum pa a h13) (fun a w h1 _ hv => M_X2_sum ok.2.2.2.2.2.2.1 hpa (d := e + 11) (Nat.le_refl _) hv) (by omega) cw_X2_sum q1027 q1029 qs22 dX2_fact_111 [] rfl (Nat.le_of_ble_eq_true rfl) hf (fun b h_ h3 h4 hf => VX.out ok hx h3 h4 (by cases hf; exact hk)) (fun v14 h15 hf => ?_)
        refine v_astore_n ok 1 dX2_fact_114 rfl (by decide) ?_
        refine v_aload_n ok 0 dX2_fact_115 rfl rfl ?_
        refine v_cVi ok (RX2, TX2, 8) cf_2.1 [] (F := fun a => X2_here a h15) (fun a v h1 _ hv => M_X2_here ok.2.2.2.2.2.2.1 (d := 2) (Nat.le_refl _) hv) (by omega) cw_X2_here q672 q674 qs7 dX2_fact_116 [] rfl (Nat.le_of_ble_eq_true rfl) hf (fun v16 h17 hf => ?_)
        refine v_istore_n ok 2 dX2_fact_119 rfl (by decide) ?_
        refine v_iload_n ok 2 dX2_fact_120 rfl rfl ?_
        refine v_bipush ok 60 dX2_fact_121 rfl ?_
        refine v_icmp_eq ok 148 dX2_fact_123 rfl hf (fun hf => ?_) (fun hf => ?_)
        ·
          exact W_X2_fact_148 ok hr hpa hpf hd hx hf hk ⟨rfl, rfl, rfl, trivial⟩
        ·
          refine v_iload_n ok 2 dX2_fact_126 rfl rfl ?_
          refine v_bipush ok 62 dX2_fact_127 rfl ?_
          refine v_icmp_eq ok 148 dX2_fact_129 rfl hf (fun hf => ?_) (fun hf => ?_)
          ·
            exact W_X2_fact_148 ok hr hpa hpf hd hx hf hk ⟨rfl, rfl, rfl, trivial⟩
          ·
            refine v_iload_n ok 2 dX2_fact_132 rfl rfl ?_
            refine v_bipush ok 61 dX2_fact_133 rfl ?_
            refine v_icmp_eq ok 148 dX2_fact_135 rfl hf (fun hf => ?_) (fun hf => ?_)
            ·
              exact W_X2_fact_148 ok hr hpa hpf hd hx hf hk ⟨rfl, rfl, rfl, trivial⟩
            ·
              refine v_aload_n ok 0 dX2_fact_138 rfl rfl ?_
              refine v_iconst ok 1 dX2_fact_139 rfl ?_
              refine v_aload_n ok 0 dX2_fact_140 rfl rfl ?_
              refine v_gI ok fl_X2_36 (fun _ _ _ => rfl) dX2_fact_141 hf (fun v18 hf => ?_)
              refine v_cVr ok (RX2, TX2, 8) cf_2.1 [vi 1, vi v18] (F := fun a => X2_wrong a 1 v18 h17) (fun a v h1 _ hv => M_X2_wrong ok.2.2.2.2.2.2.1 (d := 1) (Nat.le_refl _) hv) (by omega) cw_X2_wrong q684 q686 qs10 dX2_fact_144 [] rfl (Nat.le_of_ble_eq_true rfl) hf (fun v19 h20 hf => ?_)
              exact v_athrow ok dX2_fact_147 hf (fun a h3 h4 hf => VX.out ok hx h3 h4 (by cases hf; exact hk))
      ·
        refine v_new ok cf_20 rfl q1262 q1263 q205 df_20 dX2_fact_102 hf (fun v21 h22 hf => ?_)
        refine v_dup ok dX2_fact_105 rfl ?_
        refine v_cINv ok [] rfl (F := fun a => X20_init a h22) (fun a h1 _ hv => M_X20_init ok.2.2.2.2.2.2.1 (d := 2) (Nat.le_refl _) hv) (by omega) cw_X20_init q1264 q1265 dX2_fact_106 [vr v21] rfl (Nat.le_of_ble_eq_true rfl) hf (fun h23 hf => ?_)
        exact v_aretX ok hr (by first | exact Or.inl ⟨_, rfl⟩ | exact Or.inr ⟨_, rfl⟩) (by cases hf; exact hk) dX2_fact_109
    ·
      refine v_aload_n ok 0 dX2_fact_60 rfl rfl ?_
      refine v_aload_n ok 0 dX2_fact_61 rfl rfl ?_
      refine v_gI ok fl_X2_61 (fun _ _ _ => rfl) dX2_fact_62 hf (fun v24 hf => ?_)
      refine v_cXv ok (RX2, TX2, 8) cf_2.1 [vi v24] (F := fun a => X2_opens a v24 h11) (fun a w h1 _ hv => M_X2_opens ok.2.2.2.2.2.2.1 (d := 2) (Nat.le_refl _) hv) (by omega) cw_X2_opens q1084 q1086 qs26 dX2_fact_65 [] rfl (Nat.le_of_ble_eq_true rfl) hf (fun b h_ h3 h4 hf => VX.out ok hx h3 h4 (by cases hf; exact hk)) (fun _ h26 hf => ?_)
      refine v_new ok cf_19 rfl q1251 q1252 q204 df_19 dX2_fact_68 hf (fun v27 h28 hf => ?_)
      refine v_dup ok dX2_fact_71 rfl ?_
      refine v_aload_n ok 0 dX2_fact_72 rfl rfl ?_
      refine v_cXr ok (RX2, TX2, 8) cf_2.1 [] (F := fun a => pf a h28) (fun a w h1 _ hv => hpf _ _ _ _ hv) (by omega) cw_X2_fact q1242 q1244 qs32 dX2_fact_73 [vr v27, vr v27] rfl (Nat.le_of_ble_eq_true rfl) hf (fun b h_ h3 h4 hf => VX.out ok hx h3 h4 (by cases hf; exact hk)) (fun v29 h30 hf => ?_)
      refine v_cIv ok [vr v29] rfl (F := fun a => X19_init a v29 h30) (fun a h1 _ hv => M_X19_init ok.2.2.2.2.2.2.1 (d := 2) (Nat.le_refl _) hv) (by omega) cw_X19_init q1253 q1254 dX2_fact_76 [vr v27] rfl (Nat.le_of_ble_eq_true rfl) hf (fun h31 hf => ?_)
      refine v_astore_n ok 1 dX2_fact_79 rfl (by decide) ?_
      refine v_aload_n ok 0 dX2_fact_80 rfl rfl ?_
      refine v_dup ok dX2_fact_81 rfl ?_
      refine v_gI ok fl_X2_107 (fun _ _ _ => rfl) dX2_fact_82 hf (fun v32 hf => ?_)
      refine v_iconst ok 1 dX2_fact_85 rfl ?_
      refine v_isub ok dX2_fact_86 ?_
      refine v_pI ok fl_X2_107 ⟨fun _ _ _ => rfl, rfl⟩ (FN.of cf_2.1 rfl) dX2_fact_87 hf (fun h33 hf => ?_)
      refine v_aload_n ok 1 dX2_fact_90 rfl rfl ?_
      exact v_aretX ok hr (by first | exact Or.inl ⟨_, rfl⟩ | exact Or.inr ⟨_, rfl⟩) (by cases hf; exact hk) dX2_fact_91
  ·
    refine v_aload_n ok 0 dX2_fact_9 rfl rfl ?_
    refine v_aload_n ok 0 dX2_fact_10 rfl rfl ?_
    refine v_gI ok fl_X2_36 (fun _ _ _ => rfl) dX2_fact_11 hf (fun v34 hf => ?_)
    refine v_cXv ok (RX2, TX2, 8) cf_2.1 [vi v34] (F := fun a => X2_opens a v34 h9) (fun a w h1 _ hv => M_X2_opens ok.2.2.2.2.2.2.1 (d := 2) (Nat.le_refl _) hv) (by omega) cw_X2_opens q1084 q1086 qs26 dX2_fact_14 [] rfl (Nat.le_of_ble_eq_true rfl) hf (fun b h_ h3 h4 hf => VX.out ok hx h3 h4 (by cases hf; exact hk)) (fun _ h36 hf => ?_)
    refine v_aload_n ok 0 dX2_fact_17 rfl rfl ?_
    refine v_dup ok dX2_fact_18 rfl ?_
    refine v_gI ok fl_X2_36 (fun _ _ _ => rfl) dX2_fact_19 hf (fun v37 hf => ?_)
    refine v_iconst ok 1 dX2_fact_22 rfl ?_
    refine v_iadd ok dX2_fact_23 ?_
    refine v_pI ok fl_X2_36 ⟨fun _ _ _ => rfl, rfl⟩ (FN.of cf_2.1 rfl) dX2_fact_24 hf (fun h38 hf => ?_)
    refine v_aload_n ok 0 dX2_fact_27 rfl rfl ?_
    refine v_cXr ok (RX2, TX2, 8) cf_2.1 [] (F := fun a => X2_test pf a h38) (fun a w h1 _ hv => M_X2_test ok.2.2.2.2.2.2.1 hpf (d := e + 12) (Nat.le_refl _) hv) (by omega) cw_X2_test q1215 q1217 qs30 dX2_fact_28 [] rfl (Nat.le_of_ble_eq_true rfl) hf (fun b h_ h3 h4 hf => VX.out ok hx h3 h4 (by cases hf; exact hk)) (fun v39 h40 hf => ?_)
    refine v_astore_n ok 1 dX2_fact_31 rfl (by decide) ?_
    refine v_aload_n ok 0 dX2_fact_32 rfl rfl ?_
    refine v_bipush ok 93 dX2_fact_33 rfl ?_
    refine v_cXv ok (RX2, TX2, 8) cf_2.1 [vi 93] (F := fun a => X2_must a 93 h40) (fun a w h1 _ hv => M_X2_must ok.2.2.2.2.2.2.1 (d := 3) (Nat.le_refl _) hv) (by omega) cw_X2_must q1088 q1090 qs27 dX2_fact_35 [] rfl (Nat.le_of_ble_eq_true rfl) hf (fun b h_ h3 h4 hf => VX.out ok hx h3 h4 (by cases hf; exact hk)) (fun _ h42 hf => ?_)
    refine v_aload_n ok 0 dX2_fact_38 rfl rfl ?_
    refine v_dup ok dX2_fact_39 rfl ?_
    refine v_gI ok fl_X2_107 (fun _ _ _ => rfl) dX2_fact_40 hf (fun v43 hf => ?_)
    refine v_iconst ok 1 dX2_fact_43 rfl ?_
    refine v_isub ok dX2_fact_44 ?_
    refine v_pI ok fl_X2_107 ⟨fun _ _ _ => rfl, rfl⟩ (FN.of cf_2.1 rfl) dX2_fact_45 hf (fun h44 hf => ?_)
    refine v_aload_n ok 1 dX2_fact_48 rfl rfl ?_
    exact v_aretX ok hr (by first | exact Or.inl ⟨_, rfl⟩ | exact Or.inr ⟨_, rfl⟩) (by cases hf; exact hk) dX2_fact_49
theorem M_X2_fact {G : GT} {l : Launch} (hG : Glob G) {pa : PaT} {pf : PaT} {e : Nat} (hpa : DPA G l e pa) (hpf : DPF G l e pf) {d : Nat} (hd : e + 13 ≤ d) {a0 : Nat} {h : AH} {w : Option Nat ⊕ Nat} {h' : AH} (hf : X2_fact pa pf a0 h = some (w, h')) : MMX G l yX2_fact cX2_fact 3 (Option.some (Jvm.ClassFile.FieldType.object "TurnedBoards$Test")) d [vr (some a0)] h (rx vr w) h' := by
  refine mmx_of hG (by decide) (Nat.le_of_ble_eq_true rfl) (fun X hX ok hr hx => ?_)
  subst hX
  exact W_X2_fact ok hr hpa hpf hd hx hf rfl ⟨rfl, trivial⟩
