set_option maxRecDepth 100000
theorem cw_X0_hand : CW yX0_hand cX0_hand 4 (Option.some Jvm.ClassFile.FieldType.int) 2 := ⟨q1657, q168, ⟨by decide, by decide⟩, by decide +kernel, by decide⟩
theorem W_X0_hand_41 {G : GT} {X : CX} {d : Nat} {h0 : AH} {Q : State → Prop} (ok : Ok G X RX0 cX0_hand 4 d h0) (hr : (cxm X).sig.returnType = (Option.some Jvm.ClassFile.FieldType.int)) {va : VaT} {e : Nat} (hva : DVA G X.2.1 e va) (hd : e + 13 ≤ d) {a0 : Nat} {x1 : Int32} {x2 : Int32} {s0 : Int32} {h : AH} {z : (Int32 × AH)} (hf : X0_hand_41 va a0 x1 x2 s0 h = some z) (hk : Q = QM G X h0 (some (vi z.1)) z.2) {lv : List (Nat × AV)} (hl : lle lv [(0, vr (some a0)), (1, vi x1), (2, vi x2)]) : V G X 4 h0 Q h 41 lv [vi s0] := by
  refine V.sub hl ?_
  unfold X0_hand_41 at hf
  refine v_istore_n ok 3 dX0_hand_41 rfl (by decide) ?_
  refine v_iload_n ok 3 dX0_hand_42 rfl rfl ?_
  refine v_if_eq ok 79 dX0_hand_43 rfl hf (fun hf => ?_) (fun hf => ?_)
  ·
    refine v_iconst ok 0 dX0_hand_79 rfl ?_
    exact v_iret ok hr (by cases hf; exact hk) dX0_hand_80
  ·
    refine v_aload_n ok 0 dX0_hand_46 rfl rfl ?_
    refine v_gR ok fl_X0_79 (by first | exact Or.inl ⟨_, rfl⟩ | exact Or.inr ⟨_, rfl⟩) dX0_hand_47 hf (fun v1 hf => ?_)
    refine v_iload_n ok 1 dX0_hand_50 rfl rfl ?_
    refine v_iload_n ok 2 dX0_hand_51 rfl rfl ?_
    refine v_iconst ok 1 dX0_hand_52 rfl ?_
    refine v_cVr ok (RX6, TX6, 10) cf_6.1 [vi x1, vi x2, vi 1] (F := fun a => X6_by va a x1 x2 1 h) (fun a v h1 _ hv => M_X6_by ok.2.2.2.2.2.2.1 hva (d := e + 12) (Nat.le_refl _) hv) (by omega) cw_X6_by q1453 q1454 q1455 dX0_hand_53 [] rfl (Nat.le_of_ble_eq_true rfl) hf (fun v2 h3 hf => ?_)
    refine v_cVi ok (RX6, TX6, 10) cf_6.1 [] (F := fun a => X6_doubt a h3) (fun a v h1 _ hv => M_X6_doubt ok.2.2.2.2.2.2.1 (d := 1) (Nat.le_refl _) hv) (by omega) cw_X6_doubt q1502 q1503 q1504 dX0_hand_56 [] rfl (Nat.le_of_ble_eq_true rfl) hf (fun v4 h5 hf => ?_)
    refine v_aload_n ok 0 dX0_hand_59 rfl rfl ?_
    refine v_gR ok fl_X0_79 (by first | exact Or.inl ⟨_, rfl⟩ | exact Or.inr ⟨_, rfl⟩) dX0_hand_60 hf (fun v6 hf => ?_)
    refine v_iload_n ok 1 dX0_hand_63 rfl rfl ?_
    refine v_iload_n ok 2 dX0_hand_64 rfl rfl ?_
    refine v_iconst ok 0 dX0_hand_65 rfl ?_
    refine v_cVr ok (RX6, TX6, 10) cf_6.1 [vi x1, vi x2, vi 0] (F := fun a => X6_by va a x1 x2 0 h5) (fun a v h1 _ hv => M_X6_by ok.2.2.2.2.2.2.1 hva (d := e + 12) (Nat.le_refl _) hv) (by omega) cw_X6_by q1453 q1454 q1455 dX0_hand_66 [vi v4] rfl (Nat.le_of_ble_eq_true rfl) hf (fun v7 h8 hf => ?_)
    refine v_cVi ok (RX6, TX6, 10) cf_6.1 [] (F := fun a => X6_doubt a h8) (fun a v h1 _ hv => M_X6_doubt ok.2.2.2.2.2.2.1 (d := 1) (Nat.le_refl _) hv) (by omega) cw_X6_doubt q1502 q1503 q1504 dX0_hand_69 [vi v4] rfl (Nat.le_of_ble_eq_true rfl) hf (fun v9 h10 hf => ?_)
    refine v_icmp_ge ok 79 dX0_hand_72 rfl hf (fun hf => ?_) (fun hf => ?_)
    ·
      refine v_iconst ok 0 dX0_hand_79 rfl ?_
      exact v_iret ok hr (by cases hf; exact hk) dX0_hand_80
    ·
      refine v_iconst ok 1 dX0_hand_75 rfl ?_
      refine v_goto ok 80 dX0_hand_76 rfl ?_
      exact v_iret ok hr (by cases hf; exact hk) dX0_hand_80
theorem W_X0_hand_40 {G : GT} {X : CX} {d : Nat} {h0 : AH} {Q : State → Prop} (ok : Ok G X RX0 cX0_hand 4 d h0) (hr : (cxm X).sig.returnType = (Option.some Jvm.ClassFile.FieldType.int)) {va : VaT} {e : Nat} (hva : DVA G X.2.1 e va) (hd : e + 13 ≤ d) {a0 : Nat} {x1 : Int32} {x2 : Int32} {h : AH} {z : (Int32 × AH)} (hf : X0_hand_40 va a0 x1 x2 h = some z) (hk : Q = QM G X h0 (some (vi z.1)) z.2) {lv : List (Nat × AV)} (hl : lle lv [(0, vr (some a0)), (1, vi x1), (2, vi x2)]) : V G X 4 h0 Q h 40 lv [] := by
  refine V.sub hl ?_
  unfold X0_hand_40 at hf
  refine v_iconst ok 0 dX0_hand_40 rfl ?_
  exact W_X0_hand_41 ok hr hva hd hf hk ⟨rfl, rfl, rfl, trivial⟩
theorem W_X0_hand {G : GT} {X : CX} {d : Nat} {h0 : AH} {Q : State → Prop} (ok : Ok G X RX0 cX0_hand 4 d h0) (hr : (cxm X).sig.returnType = (Option.some Jvm.ClassFile.FieldType.int)) {va : VaT} {e : Nat} (hva : DVA G X.2.1 e va) (hd : e + 13 ≤ d) {a0 : Nat} {x1 : Int32} {x2 : Int32} {h : AH} {z : (Int32 × AH)} (hf : X0_hand va a0 x1 x2 h = some z) (hk : Q = QM G X h0 (some (vi z.1)) z.2) {lv : List (Nat × AV)} (hl : lle lv [(0, vr (some a0)), (1, vi x1), (2, vi x2)]) : V G X 4 h0 Q h 0 lv [] := by
  refine V.sub hl ?_
  unfold X0_hand at hf
  refine v_aload_n ok 0 dX0_hand_0 rfl rfl ?_
  refine v_iload_n ok 1 dX0_hand_1 rfl rfl ?_
  refine v_cVi ok (RX0, TX0, 18) cf_0.1 [vi x1] (F := fun a => X0_isWord a x1 h) (fun a v h1 _ hv => M_X0_isWord ok.2.2.2.2.2.2.1 (d := 3) (Nat.le_refl _) hv) (by omega) cw_X0_isWord q1370 q1372 qs39 dX0_hand_2 [] rfl (Nat.le_of_ble_eq_true rfl) hf (fun v11 h12 hf => ?_)
  refine v_if_eq ok 16 dX0_hand_5 rfl hf (fun hf => ?_) (fun hf => ?_)
  ·
    refine v_iconst ok (-1) dX0_hand_16 rfl ?_
    exact v_iret ok hr (by cases hf; exact hk) dX0_hand_17
  ·
    refine v_aload_n ok 0 dX0_hand_8 rfl rfl ?_
    refine v_iload_n ok 2 dX0_hand_9 rfl rfl ?_
    refine v_cVi ok (RX0, TX0, 18) cf_0.1 [vi x2] (F := fun a => X0_isWord a x2 h12) (fun a v h1 _ hv => M_X0_isWord ok.2.2.2.2.2.2.1 (d := 3) (Nat.le_refl _) hv) (by omega) cw_X0_isWord q1370 q1372 qs39 dX0_hand_10 [] rfl (Nat.le_of_ble_eq_true rfl) hf (fun v13 h14 hf => ?_)
    refine v_if_ne ok 18 dX0_hand_13 rfl hf (fun hf => ?_) (fun hf => ?_)
    ·
      refine v_aload_n ok 0 dX0_hand_18 rfl rfl ?_
      refine v_iload_n ok 1 dX0_hand_19 rfl rfl ?_
      refine v_iconst ok 1 dX0_hand_20 rfl ?_
      refine v_cVi ok (RX0, TX0, 18) cf_0.1 [vi x1, vi 1] (F := fun a => X0_canPaint a x1 1 h14) (fun a v h1 _ hv => M_X0_canPaint ok.2.2.2.2.2.2.1 (d := 8) (Nat.le_refl _) hv) (by omega) cw_X0_canPaint q1619 q1621 qs59 dX0_hand_21 [] rfl (Nat.le_of_ble_eq_true rfl) hf (fun v15 h16 hf => ?_)
      refine v_if_eq ok 40 dX0_hand_24 rfl hf (fun hf => ?_) (fun hf => ?_)
      ·
        exact W_X0_hand_40 ok hr hva hd hf hk ⟨rfl, rfl, rfl, trivial⟩
      ·
        refine v_aload_n ok 0 dX0_hand_27 rfl rfl ?_
        refine v_iload_n ok 2 dX0_hand_28 rfl rfl ?_
        refine v_iconst ok 1 dX0_hand_29 rfl ?_
        refine v_cVi ok (RX0, TX0, 18) cf_0.1 [vi x2, vi 1] (F := fun a => X0_canPaint a x2 1 h16) (fun a v h1 _ hv => M_X0_canPaint ok.2.2.2.2.2.2.1 (d := 8) (Nat.le_refl _) hv) (by omega) cw_X0_canPaint q1619 q1621 qs59 dX0_hand_30 [] rfl (Nat.le_of_ble_eq_true rfl) hf (fun v17 h18 hf => ?_)
        refine v_if_eq ok 40 dX0_hand_33 rfl hf (fun hf => ?_) (fun hf => ?_)
        ·
          exact W_X0_hand_40 ok hr hva hd hf hk ⟨rfl, rfl, rfl, trivial⟩
        ·
          refine v_iconst ok 1 dX0_hand_36 rfl ?_
          refine v_goto ok 41 dX0_hand_37 rfl ?_
          exact W_X0_hand_41 ok hr hva hd hf hk ⟨rfl, rfl, rfl, trivial⟩
    ·
      refine v_iconst ok (-1) dX0_hand_16 rfl ?_
      exact v_iret ok hr (by cases hf; exact hk) dX0_hand_17
theorem M_X0_hand {G : GT} {l : Launch} (hG : Glob G) {va : VaT} {e : Nat} (hva : DVA G l e va) {d : Nat} (hd : e + 13 ≤ d) {a0 : Nat} {x1 : Int32} {x2 : Int32} {h : AH} {v : Int32} {h' : AH} (hf : X0_hand va a0 x1 x2 h = some (v, h')) : MM G l yX0_hand cX0_hand 4 (Option.some Jvm.ClassFile.FieldType.int) d [vr (some a0), vi x1, vi x2] h (some (vi v)) h' := by
  refine mm_of hG (plainFor_of_name (by decide)) (Nat.le_of_ble_eq_true rfl) (fun X hX ok hr hnm => ?_)
  subst hX
  exact W_X0_hand ok hr hva hd hf rfl ⟨rfl, rfl, rfl, trivial⟩
theorem cw_X0_canHaveBeen : CW yX0_canHaveBeen cX0_canHaveBeen 4 (Option.some Jvm.ClassFile.FieldType.boolean) 2 := ⟨q1665, q168, ⟨by decide, by decide⟩, by decide +kernel, by decide⟩
def pkX0_canHaveBeen_51 (G : GT) (X : CX) (h0 : AH) (Q : State → Prop) (a0 : Nat) (x1 : Int32) (x2 : Int32) (o : ((Int32 × AH) ⊕ (Int32 × AH))) : Prop := match o with
  | .inl s => ∀ lv : List (Nat × AV), lle lv [(0, vr (some a0)), (1, vi x1), (2, vi x2), (3, vi s.1)] → V G X 4 h0 Q s.2 51 lv []
  | .inr z => Q = QM G X h0 (some (vi z.1)) z.2
theorem W_X0_canHaveBeen_51b {G : GT} {X : CX} {d : Nat} {h0 : AH} {Q : State → Prop} (ok : Ok G X RX0 cX0_canHaveBeen 4 d h0) (hr : (cxm X).sig.returnType = (Option.some Jvm.ClassFile.FieldType.boolean)) (hd : 9 ≤ d) {a0 : Nat} {x1 : Int32} {x2 : Int32} {x3 : Int32} {h : AH} {z : ((Int32 × AH) ⊕ (Int32 × AH))} (hf : X0_canHaveBeen_51b  a0 x1 x2 x3 h = some z) (hk : pkX0_canHaveBeen_51 G X h0 Q a0 x1 x2 z) {lv : List (Nat × AV)} (hl : lle lv [(0, vr (some a0)), (1, vi x1), (2, vi x2), (3, vi x3)]) : V G X 4 h0 Q h 51 lv [] := by
  refine V.sub hl ?_
  unfold X0_canHaveBeen_51b at hf
  refine v_iload_n ok 3 dX0_canHaveBeen_51 rfl rfl ?_
  refine v_aload_n ok 0 dX0_canHaveBeen_52 rfl rfl ?_
  refine v_gR ok fl_X0_69 (by first | exact Or.inl ⟨_, rfl⟩ | exact Or.inr ⟨_, rfl⟩) dX0_canHaveBeen_53 hf (fun v1 hf => ?_)
  refine v_iload_n ok 1 dX0_canHaveBeen_56 rfl rfl ?_
  refine v_cVi ok (RX5, TX5, 10) cf_5.1 [vi x1] (F := fun a => X5_places a x1 h) (fun a v h1 _ hv => M_X5_places ok.2.2.2.2.2.2.1 (d := 4) (Nat.le_refl _) hv) (by exact Nat.le_trans (by decide) hd) cw_X5_places q1384 q1305 q1306 dX0_canHaveBeen_57 [vi x3] rfl (Nat.le_of_ble_eq_true rfl) hf (fun v2 h3 hf => ?_)
  refine v_icmp_ge ok 106 dX0_canHaveBeen_60 rfl hf (fun hf => ?_) (fun hf => ?_)
  ·
    refine v_iconst ok 1 dX0_canHaveBeen_106 rfl ?_
    exact v_zretL ok hr (by decide) (by decide) (by cases hf; exact hk) dX0_canHaveBeen_107
  ·
    refine v_aload_n ok 0 dX0_canHaveBeen_63 rfl rfl ?_
    refine v_gR ok fl_X0_69 (by first | exact Or.inl ⟨_, rfl⟩ | exact Or.inr ⟨_, rfl⟩) dX0_canHaveBeen_64 hf (fun v4 hf => ?_)
    refine v_gRN ok fl_X0_248 (by first | exact Or.inl ⟨_, rfl⟩ | exact Or.inr ⟨_, rfl⟩) dX0_canHaveBeen_67 hf (fun v5 hf => ?_)
    refine v_iload_n ok 1 dX0_canHaveBeen_70 rfl rfl ?_
    refine v_aald6 ok rfl dX0_canHaveBeen_71 hf (fun v6 hf => ?_)
    refine v_iload_n ok 3 dX0_canHaveBeen_72 rfl rfl ?_
    refine v_iald ok rfl dX0_canHaveBeen_73 hf (fun v7 hf => ?_)
    refine v_aload_n ok 0 dX0_canHaveBeen_74 rfl rfl ?_
    refine v_gR ok fl_X0_31 (by first | exact Or.inl ⟨_, rfl⟩ | exact Or.inr ⟨_, rfl⟩) dX0_canHaveBeen_75 hf (fun v8 hf => ?_)
    refine v_aload_n ok 0 dX0_canHaveBeen_78 rfl rfl ?_
    refine v_gR ok fl_X0_69 (by first | exact Or.inl ⟨_, rfl⟩ | exact Or.inr ⟨_, rfl⟩) dX0_canHaveBeen_79 hf (fun v9 hf => ?_)
    refine v_gRN ok fl_X0_239 (by first | exact Or.inl ⟨_, rfl⟩ | exact Or.inr ⟨_, rfl⟩) dX0_canHaveBeen_82 hf (fun v10 hf => ?_)
    refine v_iload_n ok 1 dX0_canHaveBeen_85 rfl rfl ?_
    refine v_iald ok rfl dX0_canHaveBeen_86 hf (fun v11 hf => ?_)
    refine v_iload_n ok 2 dX0_canHaveBeen_87 rfl rfl ?_
    refine v_iload_n ok 3 dX0_canHaveBeen_88 rfl rfl ?_
    refine v_cVi ok (RX1, TX1, 9) cf_1.1 [vi v11, vi x2, vi x3] (F := fun a => X1_glyph a v11 x2 x3 h3) (fun a v h1 _ hv => M_X1_glyph ok.2.2.2.2.2.2.1 (d := 7) (Nat.le_refl _) hv) (by exact Nat.le_trans (by decide) hd) cw_X1_glyph q1624 q1311 q1312 dX0_canHaveBeen_89 [vi v7] rfl (Nat.le_of_ble_eq_true rfl) hf (fun v12 h13 hf => ?_)
    refine v_iconst ok (-1) dX0_canHaveBeen_92 rfl ?_
    refine v_ixor ok dX0_canHaveBeen_93 ?_
    refine v_iand ok dX0_canHaveBeen_94 ?_
    refine v_if_eq ok 100 dX0_canHaveBeen_95 rfl hf (fun hf => ?_) (fun hf => ?_)
    ·
      refine v_iinc ok x3 (x3 + 1) dX0_canHaveBeen_100 rfl rfl (by decide) ?_
      refine v_goto ok 51 dX0_canHaveBeen_103 rfl ?_
      cases hf; exact hk _ ⟨rfl, rfl, rfl, rfl, trivial⟩
    ·
      refine v_iconst ok 0 dX0_canHaveBeen_98 rfl ?_
      exact v_zretL ok hr (by decide) (by decide) (by cases hf; exact hk) dX0_canHaveBeen_99
theorem W_X0_canHaveBeen_51 {G : GT} {X : CX} {d : Nat} {h0 : AH} {Q : State → Prop} (ok : Ok G X RX0 cX0_canHaveBeen 4 d h0) (hr : (cxm X).sig.returnType = (Option.some Jvm.ClassFile.FieldType.boolean)) (hd : 9 ≤ d) {a0 : Nat} {x1 : Int32} {x2 : Int32} {x3 : Int32} {h : AH} {z : (Int32 × AH)} (hf : X0_canHaveBeen_51  a0 x1 x2 x3 h = some z) (hk : Q = QM G X h0 (some (vi z.1)) z.2) {lv : List (Nat × AV)} (hl : lle lv [(0, vr (some a0)), (1, vi x1), (2, vi x2), (3, vi x3)]) : V G X 4 h0 Q h 51 lv [] := by
  unfold X0_canHaveBeen_51 at hf
  exact loopC_walk (Wh := fun s : Int32 × AH => ∀ lv : List (Nat × AV), lle lv [(0, vr (some a0)), (1, vi x1), (2, vi x2), (3, vi s.1)] → V G X 4 h0 Q s.2 51 lv []) (PK := fun z => Q = QM G X h0 (some (vi z.1)) z.2) (fun s o hf hk lv hl => W_X0_canHaveBeen_51b ok hr hd hf (by cases o <;> exact hk) hl) _ z hf hk lv hl
theorem W_X0_canHaveBeen {G : GT} {X : CX} {d : Nat} {h0 : AH} {Q : State → Prop} (ok : Ok G X RX0 cX0_canHaveBeen 4 d h0) (hr : (cxm X).sig.returnType = (Option.some Jvm.ClassFile.FieldType.boolean)) (hd : 9 ≤ d) {a0 : Nat} {x1 : Int32} {x2 : Int32} {h : AH} {z : (Int32 × AH)} (hf : X0_canHaveBeen a0 x1 x2 h = some z) (hk : Q = QM G X h0 (some (vi z.1)) z.2) {lv : List (Nat × AV)} (hl : lle lv [(0, vr (some a0)), (1, vi x1), (2, vi x2)]) : V G X 4 h0 Q h 0 lv [] := by
  refine V.sub hl ?_
  unfold X0_canHaveBeen at hf
  refine v_aload_n ok 0 dX0_canHaveBeen_0 rfl rfl ?_
  refine v_gR ok fl_X0_31 (by first | exact Or.inl ⟨_, rfl⟩ | exact Or.inr ⟨_, rfl⟩) dX0_canHaveBeen_1 hf (fun v14 hf => ?_)
  refine v_gRN ok fl_X0_133 (by first | exact Or.inl ⟨_, rfl⟩ | exact Or.inr ⟨_, rfl⟩) dX0_canHaveBeen_4 hf (fun v15 hf => ?_)
  refine v_iload_n ok 2 dX0_canHaveBeen_7 rfl rfl ?_
  refine v_cFr ok (RJ2, TJ2, 3) cf_23.1 [vi x2] (F := fun a => J2_get a x2 h) (fun a v h1 _ hv => M_J2_get ok.2.2.2.2.2.2.1 (d := 3) (Nat.le_refl _) hv) (by exact Nat.le_trans (by decide) hd) cw_J2_get q1327 q907 cwf_J2_get dX0_canHaveBeen_8 [] rfl (Nat.le_of_ble_eq_true rfl) hf (fun v16 h17 hf => ?_)
  refine v_cast_ ok ck_TurnedBoards_Word q1374 dX0_canHaveBeen_13 hf (fun hf => ?_)
  refine v_cVi ok (RX9, TX9, 1) cf_9.1 [] (F := fun a => X9_size a h17) (fun a v h1 _ hv => M_X9_size ok.2.2.2.2.2.2.1 (d := 3) (Nat.le_refl _) hv) (by exact Nat.le_trans (by decide) hd) cw_X9_size q1507 q989 q990 dX0_canHaveBeen_16 [] rfl (Nat.le_of_ble_eq_true rfl) hf (fun v18 h19 hf => ?_)
  refine v_aload_n ok 0 dX0_canHaveBeen_19 rfl rfl ?_
  refine v_gR ok fl_X0_69 (by first | exact Or.inl ⟨_, rfl⟩ | exact Or.inr ⟨_, rfl⟩) dX0_canHaveBeen_20 hf (fun v20 hf => ?_)
  refine v_iload_n ok 1 dX0_canHaveBeen_23 rfl rfl ?_
  refine v_cVi ok (RX5, TX5, 10) cf_5.1 [vi x1] (F := fun a => X5_places a x1 h19) (fun a v h1 _ hv => M_X5_places ok.2.2.2.2.2.2.1 (d := 4) (Nat.le_refl _) hv) (by exact Nat.le_trans (by decide) hd) cw_X5_places q1384 q1305 q1306 dX0_canHaveBeen_24 [vi v18] rfl (Nat.le_of_ble_eq_true rfl) hf (fun v21 h22 hf => ?_)
  refine v_icmp_ne ok 47 dX0_canHaveBeen_27 rfl hf (fun hf => ?_) (fun hf => ?_)
  ·
    refine v_iconst ok 0 dX0_canHaveBeen_47 rfl ?_
    exact v_zretL ok hr (by decide) (by decide) (by cases hf; exact hk) dX0_canHaveBeen_48
  ·
    refine v_aload_n ok 0 dX0_canHaveBeen_30 rfl rfl ?_
    refine v_iload_n ok 2 dX0_canHaveBeen_31 rfl rfl ?_
    refine v_aload_n ok 0 dX0_canHaveBeen_32 rfl rfl ?_
    refine v_gR ok fl_X0_69 (by first | exact Or.inl ⟨_, rfl⟩ | exact Or.inr ⟨_, rfl⟩) dX0_canHaveBeen_33 hf (fun v23 hf => ?_)
    refine v_gRN ok fl_X0_239 (by first | exact Or.inl ⟨_, rfl⟩ | exact Or.inr ⟨_, rfl⟩) dX0_canHaveBeen_36 hf (fun v24 hf => ?_)
    refine v_iload_n ok 1 dX0_canHaveBeen_39 rfl rfl ?_
    refine v_iald ok rfl dX0_canHaveBeen_40 hf (fun v25 hf => ?_)
    refine v_cVi ok (RX0, TX0, 18) cf_0.1 [vi x2, vi v25] (F := fun a => X0_canPaint a x2 v25 h22) (fun a v h1 _ hv => M_X0_canPaint ok.2.2.2.2.2.2.1 (d := 8) (Nat.le_refl _) hv) (by exact Nat.le_trans (by decide) hd) cw_X0_canPaint q1619 q1621 qs59 dX0_canHaveBeen_41 [] rfl (Nat.le_of_ble_eq_true rfl) hf (fun v26 h27 hf => ?_)
    refine v_if_ne ok 49 dX0_canHaveBeen_44 rfl hf (fun hf => ?_) (fun hf => ?_)
    ·
      refine v_iconst ok 0 dX0_canHaveBeen_49 rfl ?_
      refine v_istore_n ok 3 dX0_canHaveBeen_50 rfl (by decide) ?_
      exact W_X0_canHaveBeen_51 ok hr hd hf hk ⟨rfl, rfl, rfl, rfl, trivial⟩
    ·
      refine v_iconst ok 0 dX0_canHaveBeen_47 rfl ?_
      exact v_zretL ok hr (by decide) (by decide) (by cases hf; exact hk) dX0_canHaveBeen_48
theorem M_X0_canHaveBeen {G : GT} {l : Launch} (hG : Glob G) {d : Nat} (hd : 9 ≤ d) {a0 : Nat} {x1 : Int32} {x2 : Int32} {h : AH} {v : Int32} {h' : AH} (hf : X0_canHaveBeen a0 x1 x2 h = some (v, h')) : MM G l yX0_canHaveBeen cX0_canHaveBeen 4 (Option.some Jvm.ClassFile.FieldType.boolean) d [vr (some a0), vi x1, vi x2] h (some (vi v)) h' := by
  refine mm_of hG (plainFor_of_name (by decide)) (Nat.le_of_ble_eq_true rfl) (fun X hX ok hr hnm => ?_)
  subst hX
  exact W_X0_canHaveBeen ok hr hd hf rfl ⟨rfl, rfl, rfl, trivial⟩
theorem cw_X0_been : CW yX0_been cX0_been 4 (Option.some Jvm.ClassFile.FieldType.int) 1 := ⟨q1661, q168, ⟨by decide, by decide⟩, by decide +kernel, by decide⟩
def pkX0_been_14 (G : GT) (X : CX) (h0 : AH) (Q : State → Prop) (a0 : Nat) (x1 : Int32) (o : ((Int32 × Int32 × AH) ⊕ (Int32 × AH))) : Prop := match o with
  | .inl s => ∀ lv : List (Nat × AV), lle lv [(0, vr (some a0)), (1, vi x1), (2, vi s.1), (3, vi s.2.1)] → V G X 4 h0 Q s.2.2 14 lv []
  | .inr z => Q = QM G X h0 (some (vi z.1)) z.2
theorem W_X0_been_39 {G : GT} {X : CX} {d : Nat} {h0 : AH} {Q : State → Prop} (ok : Ok G X RX0 cX0_been 4 d h0) (hr : (cxm X).sig.returnType = (Option.some Jvm.ClassFile.FieldType.int)) (hd : 10 ≤ d) {a0 : Nat} {x1 : Int32} {x3 : Int32} {s0 : Int32} {s1 : Int32} {h : AH} {z : ((Int32 × Int32 × AH) ⊕ (Int32 × AH))} (hf : X0_been_39 a0 x1 x3 s0 s1 h = some z) (hk : pkX0_been_14 G X h0 Q a0 x1 z) {lv : List (Nat × AV)} (hl : lle lv [(0, vr (some a0)), (1, vi x1), (3, vi x3)]) : V G X 4 h0 Q h 39 lv [vi s1, vi s0] := by
  refine V.sub hl ?_
  unfold X0_been_39 at hf
  refine v_ior ok dX0_been_39 ?_
  refine v_istore_n ok 2 dX0_been_40 rfl (by decide) ?_
  refine v_iinc ok x3 (x3 + 1) dX0_been_41 rfl rfl (by decide) ?_
  refine v_goto ok 14 dX0_been_44 rfl ?_
  cases hf; exact hk _ ⟨rfl, rfl, rfl, rfl, trivial⟩
theorem W_X0_been_14b {G : GT} {X : CX} {d : Nat} {h0 : AH} {Q : State → Prop} (ok : Ok G X RX0 cX0_been 4 d h0) (hr : (cxm X).sig.returnType = (Option.some Jvm.ClassFile.FieldType.int)) (hd : 10 ≤ d) {a0 : Nat} {x1 : Int32} {x2 : Int32} {x3 : Int32} {h : AH} {z : ((Int32 × Int32 × AH) ⊕ (Int32 × AH))} (hf : X0_been_14b  a0 x1 x2 x3 h = some z) (hk : pkX0_been_14 G X h0 Q a0 x1 z) {lv : List (Nat × AV)} (hl : lle lv [(0, vr (some a0)), (1, vi x1), (2, vi x2), (3, vi x3)]) : V G X 4 h0 Q h 14 lv [] := by
  refine V.sub hl ?_
  unfold X0_been_14b at hf
  refine v_iload_n ok 3 dX0_been_14 rfl rfl ?_
  refine v_aload_n ok 0 dX0_been_15 rfl rfl ?_
  refine v_cVi ok (RX0, TX0, 18) cf_0.1 [] (F := fun a => X0_words a h) (fun a v h1 _ hv => M_X0_words ok.2.2.2.2.2.2.1 (d := 2) (Nat.le_refl _) hv) (by exact Nat.le_trans (by decide) hd) cw_X0_words q1329 q1331 qs36 dX0_been_16 [vi x3] rfl (Nat.le_of_ble_eq_true rfl) hf (fun v1 h2 hf => ?_)
  refine v_icmp_ge ok 47 dX0_been_19 rfl hf (fun hf => ?_) (fun hf => ?_)
  ·
    refine v_iload_n ok 2 dX0_been_47 rfl rfl ?_
    exact v_iret ok hr (by cases hf; exact hk) dX0_been_48
  ·
    refine v_iload_n ok 2 dX0_been_22 rfl rfl ?_
    refine v_aload_n ok 0 dX0_been_23 rfl rfl ?_
    refine v_iload_n ok 1 dX0_been_24 rfl rfl ?_
    refine v_iload_n ok 3 dX0_been_25 rfl rfl ?_
    refine v_cVi ok (RX0, TX0, 18) cf_0.1 [vi x1, vi x3] (F := fun a => X0_canHaveBeen a x1 x3 h2) (fun a v h1 _ hv => M_X0_canHaveBeen ok.2.2.2.2.2.2.1 (d := 9) (Nat.le_refl _) hv) (by exact Nat.le_trans (by decide) hd) cw_X0_canHaveBeen q1662 q1664 qs62 dX0_been_26 [vi x2] rfl (Nat.le_of_ble_eq_true rfl) hf (fun v3 h4 hf => ?_)
    refine v_if_eq ok 38 dX0_been_29 rfl hf (fun hf => ?_) (fun hf => ?_)
    ·
      refine v_iconst ok 0 dX0_been_38 rfl ?_
      exact W_X0_been_39 ok hr hd hf hk ⟨rfl, rfl, rfl, trivial⟩
    ·
      refine v_iconst ok 1 dX0_been_32 rfl ?_
      refine v_iload_n ok 3 dX0_been_33 rfl rfl ?_
      refine v_ishl ok dX0_been_34 ?_
      refine v_goto ok 39 dX0_been_35 rfl ?_
      exact W_X0_been_39 ok hr hd hf hk ⟨rfl, rfl, rfl, trivial⟩
theorem W_X0_been_14 {G : GT} {X : CX} {d : Nat} {h0 : AH} {Q : State → Prop} (ok : Ok G X RX0 cX0_been 4 d h0) (hr : (cxm X).sig.returnType = (Option.some Jvm.ClassFile.FieldType.int)) (hd : 10 ≤ d) {a0 : Nat} {x1 : Int32} {x2 : Int32} {x3 : Int32} {h : AH} {z : (Int32 × AH)} (hf : X0_been_14  a0 x1 x2 x3 h = some z) (hk : Q = QM G X h0 (some (vi z.1)) z.2) {lv : List (Nat × AV)} (hl : lle lv [(0, vr (some a0)), (1, vi x1), (2, vi x2), (3, vi x3)]) : V G X 4 h0 Q h 14 lv [] := by
  unfold X0_been_14 at hf
  exact loopC_walk (Wh := fun s : Int32 × Int32 × AH => ∀ lv : List (Nat × AV), lle lv [(0, vr (some a0)), (1, vi x1), (2, vi s.1), (3, vi s.2.1)] → V G X 4 h0 Q s.2.2 14 lv []) (PK := fun z => Q = QM G X h0 (some (vi z.1)) z.2) (fun s o hf hk lv hl => W_X0_been_14b ok hr hd hf (by cases o <;> exact hk) hl) _ z hf hk lv hl
theorem W_X0_been {G : GT} {X : CX} {d : Nat} {h0 : AH} {Q : State → Prop} (ok : Ok G X RX0 cX0_been 4 d h0) (hr : (cxm X).sig.returnType = (Option.some Jvm.ClassFile.FieldType.int)) (hd : 10 ≤ d) {a0 : Nat} {x1 : Int32} {h : AH} {z : (Int32 × AH)} (hf : X0_been a0 x1 h = some z) (hk : Q = QM G X h0 (some (vi z.1)) z.2) {lv : List (Nat × AV)} (hl : lle lv [(0, vr (some a0)), (1, vi x1)]) : V G X 4 h0 Q h 0 lv [] := by
  refine V.sub hl ?_
  unfold X0_been at hf
  refine v_aload_n ok 0 dX0_been_0 rfl rfl ?_
  refine v_iload_n ok 1 dX0_been_1 rfl rfl ?_
  refine v_cVi ok (RX0, TX0, 18) cf_0.1 [vi x1] (F := fun a => X0_isBoard a x1 h) (fun a v h1 _ hv => M_X0_isBoard ok.2.2.2.2.2.2.1 (d := 3) (Nat.le_refl _) hv) (by exact Nat.le_trans (by decide) hd) cw_X0_isBoard q1380 q1382 qs40 dX0_been_2 [] rfl (Nat.le_of_ble_eq_true rfl) hf (fun v5 h6 hf => ?_)
  refine v_if_ne ok 10 dX0_been_5 rfl hf (fun hf => ?_) (fun hf => ?_)
  ·
    refine v_iconst ok 0 dX0_been_10 rfl ?_
    refine v_istore_n ok 2 dX0_been_11 rfl (by decide) ?_
    refine v_iconst ok 0 dX0_been_12 rfl ?_
    refine v_istore_n ok 3 dX0_been_13 rfl (by decide) ?_
    exact W_X0_been_14 ok hr hd hf hk ⟨rfl, rfl, rfl, rfl, trivial⟩
  ·
    refine v_iconst ok (-1) dX0_been_8 rfl ?_
    exact v_iret ok hr (by cases hf; exact hk) dX0_been_9
theorem M_X0_been {G : GT} {l : Launch} (hG : Glob G) {d : Nat} (hd : 10 ≤ d) {a0 : Nat} {x1 : Int32} {h : AH} {v : Int32} {h' : AH} (hf : X0_been a0 x1 h = some (v, h')) : MM G l yX0_been cX0_been 4 (Option.some Jvm.ClassFile.FieldType.int) d [vr (some a0), vi x1] h (some (vi v)) h' := by
  refine mm_of hG (plainFor_of_name (by decide)) (Nat.le_of_ble_eq_true rfl) (fun X hX ok hr hnm => ?_)
  subst hX
  exact W_X0_been ok hr hd hf rfl ⟨rfl, rfl, trivial⟩
theorem cw_X5_isAsPainted : CW yX5_isAsPainted cX5_isAsPainted 3 (Option.some Jvm.ClassFile.FieldType.boolean) 1 := ⟨q1673, q183, ⟨by decide, by decide⟩, by decide +kernel, by decide⟩
def pkX5_isAsPainted_2 (G : GT) (X : CX) (h0 : AH) (Q : State → Prop) (a0 : Nat) (x1 : Int32) (o : ((Int32 × AH) ⊕ (Int32 × AH))) : Prop := match o with
  | .inl s => ∀ lv : List (Nat × AV), lle lv [(0, vr (some a0)), (1, vi x1), (2, vi s.1)] → V G X 3 h0 Q s.2 2 lv []
  | .inr z => Q = QM G X h0 (some (vi z.1)) z.2
theorem W_X5_isAsPainted_2b {G : GT} {X : CX} {d : Nat} {h0 : AH} {Q : State → Prop} (ok : Ok G X RX5 cX5_isAsPainted 3 d h0) (hr : (cxm X).sig.returnType = (Option.some Jvm.ClassFile.FieldType.boolean)) {va : VaT} {e : Nat} (hva : DVA G X.2.1 e va) (hd : e + 7 ≤ d) {a0 : Nat} {x1 : Int32} {x2 : Int32} {h : AH} {z : ((Int32 × AH) ⊕ (Int32 × AH))} (hf : X5_isAsPainted_2b  va a0 x1 x2 h = some z) (hk : pkX5_isAsPainted_2 G X h0 Q a0 x1 z) {lv : List (Nat × AV)} (hl : lle lv [(0, vr (some a0)), (1, vi x1), (2, vi x2)]) : V G X 3 h0 Q h 2 lv [] := by
  refine V.sub hl ?_
  unfold X5_isAsPainted_2b at hf
  refine v_iload_n ok 2 dX5_isAsPainted_2 rfl rfl ?_
  refine v_aload_n ok 0 dX5_isAsPainted_3 rfl rfl ?_
  refine v_iload_n ok 1 dX5_isAsPainted_4 rfl rfl ?_
  refine v_cVi ok (RX5, TX5, 10) cf_5.1 [vi x1] (F := fun a => X5_places a x1 h) (fun a v h1 _ hv => M_X5_places ok.2.2.2.2.2.2.1 (d := 4) (Nat.le_refl _) hv) (by omega) cw_X5_places q1304 q1305 q1306 dX5_isAsPainted_5 [vi x2] rfl (Nat.le_of_ble_eq_true rfl) hf (fun v1 h2 hf => ?_)
  refine v_icmp_ge ok 57 dX5_isAsPainted_8 rfl hf (fun hf => ?_) (fun hf => ?_)
  ·
    refine v_iconst ok 1 dX5_isAsPainted_57 rfl ?_
    exact v_zretL ok hr (by decide) (by decide) (by cases hf; exact hk) dX5_isAsPainted_58
  ·
    refine v_aload_n ok 0 dX5_isAsPainted_11 rfl rfl ?_
    refine v_iload_n ok 1 dX5_isAsPainted_12 rfl rfl ?_
    refine v_iconst ok 0 dX5_isAsPainted_13 rfl ?_
    refine v_iload_n ok 2 dX5_isAsPainted_14 rfl rfl ?_
    refine v_cVi ok (RX5, TX5, 10) cf_5.1 [vi x1, vi 0, vi x2] (F := fun a => X5_says va a x1 0 x2 h2) (fun a v h1 _ hv => M_X5_says ok.2.2.2.2.2.2.1 hva (d := e + 6) (Nat.le_refl _) hv) (by omega) cw_X5_says q1560 q1561 q1562 dX5_isAsPainted_15 [] rfl (Nat.le_of_ble_eq_true rfl) hf (fun v3 h4 hf => ?_)
    refine v_aload_n ok 0 dX5_isAsPainted_18 rfl rfl ?_
    refine v_gR ok fl_X5_3 (by first | exact Or.inl ⟨_, rfl⟩ | exact Or.inr ⟨_, rfl⟩) dX5_isAsPainted_19 hf (fun v5 hf => ?_)
    refine v_gRN ok fl_X5_44 (by first | exact Or.inl ⟨_, rfl⟩ | exact Or.inr ⟨_, rfl⟩) dX5_isAsPainted_22 hf (fun v6 hf => ?_)
    refine v_gRN ok fl_X5_76 (by first | exact Or.inl ⟨_, rfl⟩ | exact Or.inr ⟨_, rfl⟩) dX5_isAsPainted_25 hf (fun v7 hf => ?_)
    refine v_aload_n ok 0 dX5_isAsPainted_28 rfl rfl ?_
    refine v_gR ok fl_X5_15 (by first | exact Or.inl ⟨_, rfl⟩ | exact Or.inr ⟨_, rfl⟩) dX5_isAsPainted_29 hf (fun v8 hf => ?_)
    refine v_iload_n ok 1 dX5_isAsPainted_32 rfl rfl ?_
    refine v_iald ok rfl dX5_isAsPainted_33 hf (fun v9 hf => ?_)
    refine v_cFr ok (RJ2, TJ2, 3) cf_23.1 [vi v9] (F := fun a => J2_get a v9 h4) (fun a v h1 _ hv => M_J2_get ok.2.2.2.2.2.2.1 (d := 3) (Nat.le_refl _) hv) (by omega) cw_J2_get q1298 q907 cwf_J2_get dX5_isAsPainted_34 [vi v3] rfl (Nat.le_of_ble_eq_true rfl) hf (fun v10 h11 hf => ?_)
    refine v_cast_ ok ck_TurnedBoards_Word q1308 dX5_isAsPainted_39 hf (fun hf => ?_)
    refine v_iload_n ok 2 dX5_isAsPainted_42 rfl rfl ?_
    refine v_cVi ok (RX9, TX9, 1) cf_9.1 [vi x2] (F := fun a => X9_at a x2 h11) (fun a v h1 _ hv => M_X9_at ok.2.2.2.2.2.2.1 (d := 6) (Nat.le_refl _) hv) (by omega) cw_X9_at q1674 q994 q995 dX5_isAsPainted_43 [vi v3] rfl (Nat.le_of_ble_eq_true rfl) hf (fun v12 h13 hf => ?_)
    refine v_icmp_eq ok 51 dX5_isAsPainted_46 rfl hf (fun hf => ?_) (fun hf => ?_)
    ·
      refine v_iinc ok x2 (x2 + 1) dX5_isAsPainted_51 rfl rfl (by decide) ?_
      refine v_goto ok 2 dX5_isAsPainted_54 rfl ?_
      cases hf; exact hk _ ⟨rfl, rfl, rfl, trivial⟩
    ·
      refine v_iconst ok 0 dX5_isAsPainted_49 rfl ?_
      exact v_zretL ok hr (by decide) (by decide) (by cases hf; exact hk) dX5_isAsPainted_50
theorem W_X5_isAsPainted_2 {G : GT} {X : CX} {d : Nat} {h0 : AH} {Q : State → Prop} (ok : Ok G X RX5 cX5_isAsPainted 3 d h0) (hr : (cxm X).sig.returnType = (Option.some Jvm.ClassFile.FieldType.boolean)) {va : VaT} {e : Nat} (hva : DVA G X.2.1 e va) (hd : e + 7 ≤ d) {a0 : Nat} {x1 : Int32} {x2 : Int32} {h : AH} {z : (Int32 × AH)} (hf : X5_isAsPainted_2  va a0 x1 x2 h = some z) (hk : Q = QM G X h0 (some (vi z.1)) z.2) {lv : List (Nat × AV)} (hl : lle lv [(0, vr (some a0)), (1, vi x1), (2, vi x2)]) : V G X 3 h0 Q h 2 lv [] := by
  unfold X5_isAsPainted_2 at hf
  exact loopC_walk (Wh := fun s : Int32 × AH => ∀ lv : List (Nat × AV), lle lv [(0, vr (some a0)), (1, vi x1), (2, vi s.1)] → V G X 3 h0 Q s.2 2 lv []) (PK := fun z => Q = QM G X h0 (some (vi z.1)) z.2) (fun s o hf hk lv hl => W_X5_isAsPainted_2b ok hr hva hd hf (by cases o <;> exact hk) hl) _ z hf hk lv hl
theorem W_X5_isAsPainted {G : GT} {X : CX} {d : Nat} {h0 : AH} {Q : State → Prop} (ok : Ok G X RX5 cX5_isAsPainted 3 d h0) (hr : (cxm X).sig.returnType = (Option.some Jvm.ClassFile.FieldType.boolean)) {va : VaT} {e : Nat} (hva : DVA G X.2.1 e va) (hd : e + 7 ≤ d) {a0 : Nat} {x1 : Int32} {h : AH} {z : (Int32 × AH)} (hf : X5_isAsPainted va a0 x1 h = some z) (hk : Q = QM G X h0 (some (vi z.1)) z.2) {lv : List (Nat × AV)} (hl : lle lv [(0, vr (some a0)), (1, vi x1)]) : V G X 3 h0 Q h 0 lv [] := by
  refine V.sub hl ?_
  unfold X5_isAsPainted at hf
  refine v_iconst ok 0 dX5_isAsPainted_0 rfl ?_
  refine v_istore_n ok 2 dX5_isAsPainted_1 rfl (by decide) ?_
  exact W_X5_isAsPainted_2 ok hr hva hd hf hk ⟨rfl, rfl, rfl, trivial⟩
theorem M_X5_isAsPainted {G : GT} {l : Launch} (hG : Glob G) {va : VaT} {e : Nat} (hva : DVA G l e va) {d : Nat} (hd : e + 7 ≤ d) {a0 : Nat} {x1 : Int32} {h : AH} {v : Int32} {h' : AH} (hf : X5_isAsPainted va a0 x1 h = some (v, h')) : MM G l yX5_isAsPainted cX5_isAsPainted 3 (Option.some Jvm.ClassFile.FieldType.boolean) d [vr (some a0), vi x1] h (some (vi v)) h' := by
  refine mm_of hG (plainFor_of_name (by decide)) (Nat.le_of_ble_eq_true rfl) (fun X hX ok hr hnm => ?_)
  subst hX
  exact W_X5_isAsPainted ok hr hva hd hf rfl ⟨rfl, rfl, trivial⟩
theorem cw_X0_lasts : CW yX0_lasts cX0_lasts 3 (Option.some Jvm.ClassFile.FieldType.int) 1 := ⟨q1669, q168, ⟨by decide, by decide⟩, by decide +kernel, by decide⟩
def pkX0_lasts_35 (G : GT) (X : CX) (h0 : AH) (Q : State → Prop) (a0 : Nat) (x1 : Int32) (o : ((Int32 × AH) ⊕ (Int32 × AH))) : Prop := match o with
  | .inl s => ∀ lv : List (Nat × AV), lle lv [(0, vr (some a0)), (1, vi x1), (2, vi s.1)] → V G X 3 h0 Q s.2 35 lv []
  | .inr z => Q = QM G X h0 (some (vi z.1)) z.2
theorem W_X0_lasts_35b {G : GT} {X : CX} {d : Nat} {h0 : AH} {Q : State → Prop} (ok : Ok G X RX0 cX0_lasts 3 d h0) (hr : (cxm X).sig.returnType = (Option.some Jvm.ClassFile.FieldType.int)) {va : VaT} {th : ThT} {e : Nat} (hva : DVA G X.2.1 e va) (hth : DTH G X.2.1 e th) (hd : e + 10 ≤ d) {a0 : Nat} {x1 : Int32} {x2 : Int32} {h : AH} {z : ((Int32 × AH) ⊕ (Int32 × AH))} (hf : X0_lasts_35b  va th a0 x1 x2 h = some z) (hk : pkX0_lasts_35 G X h0 Q a0 x1 z) {lv : List (Nat × AV)} (hl : lle lv [(0, vr (some a0)), (1, vi x1), (2, vi x2)]) : V G X 3 h0 Q h 35 lv [] := by
  refine V.sub hl ?_
  unfold X0_lasts_35b at hf
  refine v_aload_n ok 0 dX0_lasts_35 rfl rfl ?_
  refine v_iload_n ok 2 dX0_lasts_36 rfl rfl ?_
  refine v_iconst ok 1 dX0_lasts_37 rfl ?_
  refine v_iadd ok dX0_lasts_38 ?_
  refine v_iconst ok 1 dX0_lasts_39 rfl ?_
  refine v_bipush ok 60 dX0_lasts_40 rfl ?_
  refine v_cVi ok (RX0, TX0, 18) cf_0.1 [vi (x2 + 1), vi 1, vi 60] (F := fun a => X0_isAhead a (x2 + 1) 1 60 h) (fun a v h1 _ hv => M_X0_isAhead ok.2.2.2.2.2.2.1 (d := 2) (Nat.le_refl _) hv) (by omega) cw_X0_isAhead q1544 q1546 qs53 dX0_lasts_42 [] rfl (Nat.le_of_ble_eq_true rfl) hf (fun v1 h2 hf => ?_)
  refine v_if_eq ok 69 dX0_lasts_45 rfl hf (fun hf => ?_) (fun hf => ?_)
  ·
    refine v_iload_n ok 2 dX0_lasts_69 rfl rfl ?_
    exact v_iret ok hr (by cases hf; exact hk) dX0_lasts_70
  ·
    refine v_aload_n ok 0 dX0_lasts_48 rfl rfl ?_
    refine v_gR ok fl_X0_73 (by first | exact Or.inl ⟨_, rfl⟩ | exact Or.inr ⟨_, rfl⟩) dX0_lasts_49 hf (fun v3 hf => ?_)
    refine v_iconst ok 1 dX0_lasts_52 rfl ?_
    refine v_cVr ok (RX5, TX5, 10) cf_5.1 [vi 1] (F := fun a => X5_years va th a 1 h2) (fun a v h1 _ hv => M_X5_years ok.2.2.2.2.2.2.1 hva hth (d := e + 9) (Nat.le_refl _) hv) (by omega) cw_X5_years q1552 q1553 q1554 dX0_lasts_53 [] rfl (Nat.le_of_ble_eq_true rfl) hf (fun v4 h5 hf => ?_)
    refine v_iload_n ok 1 dX0_lasts_56 rfl rfl ?_
    refine v_cVi ok (RX5, TX5, 10) cf_5.1 [vi x1] (F := fun a => X5_isAsPainted va a x1 h5) (fun a v h1 _ hv => M_X5_isAsPainted ok.2.2.2.2.2.2.1 hva (d := e + 7) (Nat.le_refl _) hv) (by omega) cw_X5_isAsPainted q1670 q1671 q1672 dX0_lasts_57 [] rfl (Nat.le_of_ble_eq_true rfl) hf (fun v6 h7 hf => ?_)
    refine v_if_eq ok 69 dX0_lasts_60 rfl hf (fun hf => ?_) (fun hf => ?_)
    ·
      refine v_iload_n ok 2 dX0_lasts_69 rfl rfl ?_
      exact v_iret ok hr (by cases hf; exact hk) dX0_lasts_70
    ·
      refine v_iinc ok x2 (x2 + 1) dX0_lasts_63 rfl rfl (by decide) ?_
      refine v_goto ok 35 dX0_lasts_66 rfl ?_
      cases hf; exact hk _ ⟨rfl, rfl, rfl, trivial⟩
theorem W_X0_lasts_35 {G : GT} {X : CX} {d : Nat} {h0 : AH} {Q : State → Prop} (ok : Ok G X RX0 cX0_lasts 3 d h0) (hr : (cxm X).sig.returnType = (Option.some Jvm.ClassFile.FieldType.int)) {va : VaT} {th : ThT} {e : Nat} (hva : DVA G X.2.1 e va) (hth : DTH G X.2.1 e th) (hd : e + 10 ≤ d) {a0 : Nat} {x1 : Int32} {x2 : Int32} {h : AH} {z : (Int32 × AH)} (hf : X0_lasts_35  va th a0 x1 x2 h = some z) (hk : Q = QM G X h0 (some (vi z.1)) z.2) {lv : List (Nat × AV)} (hl : lle lv [(0, vr (some a0)), (1, vi x1), (2, vi x2)]) : V G X 3 h0 Q h 35 lv [] := by
  unfold X0_lasts_35 at hf
  exact loopC_walk (Wh := fun s : Int32 × AH => ∀ lv : List (Nat × AV), lle lv [(0, vr (some a0)), (1, vi x1), (2, vi s.1)] → V G X 3 h0 Q s.2 35 lv []) (PK := fun z => Q = QM G X h0 (some (vi z.1)) z.2) (fun s o hf hk lv hl => W_X0_lasts_35b ok hr hva hth hd hf (by cases o <;> exact hk) hl) _ z hf hk lv hl
theorem W_X0_lasts {G : GT} {X : CX} {d : Nat} {h0 : AH} {Q : State → Prop} (ok : Ok G X RX0 cX0_lasts 3 d h0) (hr : (cxm X).sig.returnType = (Option.some Jvm.ClassFile.FieldType.int)) {va : VaT} {th : ThT} {e : Nat} (hva : DVA G X.2.1 e va) (hth : DTH G X.2.1 e th) (hd : e + 10 ≤ d) {a0 : Nat} {x1 : Int32} {h : AH} {z : (Int32 × AH)} (hf : X0_lasts va th a0 x1 h = some z) (hk : Q = QM G X h0 (some (vi z.1)) z.2) {lv : List (Nat × AV)} (hl : lle lv [(0, vr (some a0)), (1, vi x1)]) : V G X 3 h0 Q h 0 lv [] := by
  refine V.sub hl ?_
  unfold X0_lasts at hf
  refine v_aload_n ok 0 dX0_lasts_0 rfl rfl ?_
  refine v_iload_n ok 1 dX0_lasts_1 rfl rfl ?_
  refine v_cVi ok (RX0, TX0, 18) cf_0.1 [vi x1] (F := fun a => X0_isBoard a x1 h) (fun a v h1 _ hv => M_X0_isBoard ok.2.2.2.2.2.2.1 (d := 3) (Nat.le_refl _) hv) (by omega) cw_X0_isBoard q1380 q1382 qs40 dX0_lasts_2 [] rfl (Nat.le_of_ble_eq_true rfl) hf (fun v8 h9 hf => ?_)
  refine v_if_eq ok 19 dX0_lasts_5 rfl hf (fun hf => ?_) (fun hf => ?_)
  ·
    refine v_iconst ok (-1) dX0_lasts_19 rfl ?_
    exact v_iret ok hr (by cases hf; exact hk) dX0_lasts_20
  ·
    refine v_aload_n ok 0 dX0_lasts_8 rfl rfl ?_
    refine v_gR ok fl_X0_69 (by first | exact Or.inl ⟨_, rfl⟩ | exact Or.inr ⟨_, rfl⟩) dX0_lasts_9 hf (fun v10 hf => ?_)
    refine v_iload_n ok 1 dX0_lasts_12 rfl rfl ?_
    refine v_cVi ok (RX5, TX5, 10) cf_5.1 [vi x1] (F := fun a => X5_isAsPainted va a x1 h9) (fun a v h1 _ hv => M_X5_isAsPainted ok.2.2.2.2.2.2.1 hva (d := e + 7) (Nat.le_refl _) hv) (by omega) cw_X5_isAsPainted q1670 q1671 q1672 dX0_lasts_13 [] rfl (Nat.le_of_ble_eq_true rfl) hf (fun v11 h12 hf => ?_)
    refine v_if_ne ok 21 dX0_lasts_16 rfl hf (fun hf => ?_) (fun hf => ?_)
    ·
      refine v_aload_n ok 0 dX0_lasts_21 rfl rfl ?_
      refine v_gR ok fl_X0_73 (by first | exact Or.inl ⟨_, rfl⟩ | exact Or.inr ⟨_, rfl⟩) dX0_lasts_22 hf (fun v13 hf => ?_)
      refine v_aload_n ok 0 dX0_lasts_25 rfl rfl ?_
      refine v_gR ok fl_X0_69 (by first | exact Or.inl ⟨_, rfl⟩ | exact Or.inr ⟨_, rfl⟩) dX0_lasts_26 hf (fun v14 hf => ?_)
      refine v_cVr ok (RX5, TX5, 10) cf_5.1 [vr v14] (F := fun a => X5_copy a v14 h12) (fun a v h1 _ hv => M_X5_copy ok.2.2.2.2.2.2.1 (d := 1) (Nat.le_refl _) hv) (by omega) cw_X5_copy q1548 q1549 q1550 dX0_lasts_29 [] rfl (Nat.le_of_ble_eq_true rfl) hf (fun v15 h16 hf => ?_)
      refine v_pop ok dX0_lasts_32 rfl ?_
      refine v_iconst ok 0 dX0_lasts_33 rfl ?_
      refine v_istore_n ok 2 dX0_lasts_34 rfl (by decide) ?_
      exact W_X0_lasts_35 ok hr hva hth hd hf hk ⟨rfl, rfl, rfl, trivial⟩
    ·
      refine v_iconst ok (-1) dX0_lasts_19 rfl ?_
      exact v_iret ok hr (by cases hf; exact hk) dX0_lasts_20
theorem M_X0_lasts {G : GT} {l : Launch} (hG : Glob G) {va : VaT} {th : ThT} {e : Nat} (hva : DVA G l e va) (hth : DTH G l e th) {d : Nat} (hd : e + 10 ≤ d) {a0 : Nat} {x1 : Int32} {h : AH} {v : Int32} {h' : AH} (hf : X0_lasts va th a0 x1 h = some (v, h')) : MM G l yX0_lasts cX0_lasts 3 (Option.some Jvm.ClassFile.FieldType.int) d [vr (some a0), vi x1] h (some (vi v)) h' := by
  refine mm_of hG (plainFor_of_name (by decide)) (Nat.le_of_ble_eq_true rfl) (fun X hX ok hr hnm => ?_)
  subst hX
  exact W_X0_lasts ok hr hva hth hd hf rfl ⟨rfl, rfl, trivial⟩
theorem cw_X0_mend : CW yX0_mend cX0_mend 8 (Option.some Jvm.ClassFile.FieldType.int) 3 := ⟨q1678, q168, ⟨by decide, by decide⟩, by decide +kernel, by decide⟩
def pkX0_mend_63 (G : GT) (X : CX) (h0 : AH) (Q : State → Prop) (a0 : Nat) (x1 : Int32) (x4 : Option Nat) (o : ((Int32 × Int32 × Int32 × AH) ⊕ (Int32 × AH))) : Prop := match o with
  | .inl s => ∀ lv : List (Nat × AV), lle lv [(0, vr (some a0)), (1, vi x1), (4, vr x4), (5, vi s.1), (6, vi s.2.1), (7, vi s.2.2.1)] → V G X 8 h0 Q s.2.2.2 63 lv []
  | .inr z => Q = QM G X h0 (some (vi z.1)) z.2
theorem W_X0_mend_140 {G : GT} {X : CX} {d : Nat} {h0 : AH} {Q : State → Prop} (ok : Ok G X RX0 cX0_mend 8 d h0) (hr : (cxm X).sig.returnType = (Option.some Jvm.ClassFile.FieldType.int)) {va : VaT} {e : Nat} (hva : DVA G X.2.1 e va) (hd : e + 6 ≤ d) {a0 : Nat} {x1 : Int32} {x4 : Option Nat} {x5 : Int32} {x6 : Int32} {h : AH} {z : (Int32 × AH)} (hf : X0_mend_140 va a0 x1 x4 x5 x6 h = some z) (hk : Q = QM G X h0 (some (vi z.1)) z.2) {lv : List (Nat × AV)} (hl : lle lv [(0, vr (some a0)), (1, vi x1), (4, vr x4), (5, vi x5), (6, vi x6)]) : V G X 8 h0 Q h 140 lv [] := by
  refine V.sub hl ?_
  unfold X0_mend_140 at hf
  refine v_aload_n ok 0 dX0_mend_140 rfl rfl ?_
  refine v_aload_n ok 0 dX0_mend_141 rfl rfl ?_
  refine v_gR ok fl_X0_69 (by first | exact Or.inl ⟨_, rfl⟩ | exact Or.inr ⟨_, rfl⟩) dX0_mend_142 hf (fun v1 hf => ?_)
  refine v_gRN ok fl_X0_239 (by first | exact Or.inl ⟨_, rfl⟩ | exact Or.inr ⟨_, rfl⟩) dX0_mend_145 hf (fun v2 hf => ?_)
  refine v_iload_n ok 1 dX0_mend_148 rfl rfl ?_
  refine v_iald ok rfl dX0_mend_149 hf (fun v3 hf => ?_)
  refine v_iload ok dX0_mend_150 rfl ?_
  refine v_cVi ok (RX0, TX0, 18) cf_0.1 [vi v3, vi x5] (F := fun a => X0_readAs va a v3 x5 h) (fun a v h1 _ hv => M_X0_readAs ok.2.2.2.2.2.2.1 hva (d := e + 5) (Nat.le_refl _) hv) (by omega) cw_X0_readAs q1536 q1538 qs52 dX0_mend_152 [] rfl (Nat.le_of_ble_eq_true rfl) hf (fun v4 h5 hf => ?_)
  refine v_aload ok dX0_mend_155 rfl ?_
  refine v_gIN ok fl_X0_215 (fun _ _ _ => rfl) dX0_mend_157 hf (fun v6 hf => ?_)
  refine v_icmp_ne ok 168 dX0_mend_160 rfl hf (fun hf => ?_) (fun hf => ?_)
  ·
    refine v_iconst ok (-1) dX0_mend_168 rfl ?_
    exact v_iret ok hr (by cases hf; exact hk) dX0_mend_169
  ·
    refine v_iload ok dX0_mend_163 rfl ?_
    refine v_goto ok 169 dX0_mend_165 rfl ?_
    exact v_iret ok hr (by cases hf; exact hk) dX0_mend_169
theorem W_X0_mend_63b {G : GT} {X : CX} {d : Nat} {h0 : AH} {Q : State → Prop} (ok : Ok G X RX0 cX0_mend 8 d h0) (hr : (cxm X).sig.returnType = (Option.some Jvm.ClassFile.FieldType.int)) {va : VaT} {e : Nat} (hva : DVA G X.2.1 e va) (hd : e + 6 ≤ d) {a0 : Nat} {x1 : Int32} {x4 : Option Nat} {x5 : Int32} {x6 : Int32} {x7 : Int32} {h : AH} {z : ((Int32 × Int32 × Int32 × AH) ⊕ (Int32 × AH))} (hf : X0_mend_63b  va a0 x1 x4 x5 x6 x7 h = some z) (hk : pkX0_mend_63 G X h0 Q a0 x1 x4 z) {lv : List (Nat × AV)} (hl : lle lv [(0, vr (some a0)), (1, vi x1), (4, vr x4), (5, vi x5), (6, vi x6), (7, vi x7)]) : V G X 8 h0 Q h 63 lv [] := by
  refine V.sub hl ?_
  unfold X0_mend_63b at hf
  refine v_iload ok dX0_mend_63 rfl ?_
  refine v_bipush ok 15 dX0_mend_65 rfl ?_
  refine v_icmp_ge ok 140 dX0_mend_67 rfl hf (fun hf => ?_) (fun hf => ?_)
  ·
    obtain ⟨o, ho, hz⟩ := ob hf
    cases hz; exact W_X0_mend_140 ok hr hva hd ho hk ⟨rfl, rfl, rfl, rfl, rfl, trivial⟩
  ·
    refine v_aload_n ok 0 dX0_mend_70 rfl rfl ?_
    refine v_aload_n ok 0 dX0_mend_71 rfl rfl ?_
    refine v_gR ok fl_X0_69 (by first | exact Or.inl ⟨_, rfl⟩ | exact Or.inr ⟨_, rfl⟩) dX0_mend_72 hf (fun v7 hf => ?_)
    refine v_gRN ok fl_X0_239 (by first | exact Or.inl ⟨_, rfl⟩ | exact Or.inr ⟨_, rfl⟩) dX0_mend_75 hf (fun v8 hf => ?_)
    refine v_iload_n ok 1 dX0_mend_78 rfl rfl ?_
    refine v_iald ok rfl dX0_mend_79 hf (fun v9 hf => ?_)
    refine v_iload ok dX0_mend_80 rfl ?_
    refine v_cVi ok (RX0, TX0, 18) cf_0.1 [vi v9, vi x5] (F := fun a => X0_readAs va a v9 x5 h) (fun a v h1 _ hv => M_X0_readAs ok.2.2.2.2.2.2.1 hva (d := e + 5) (Nat.le_refl _) hv) (by omega) cw_X0_readAs q1536 q1538 qs52 dX0_mend_82 [] rfl (Nat.le_of_ble_eq_true rfl) hf (fun v10 h11 hf => ?_)
    refine v_aload ok dX0_mend_85 rfl ?_
    refine v_gIN ok fl_X0_215 (fun _ _ _ => rfl) dX0_mend_87 hf (fun v12 hf => ?_)
    refine v_icmp_ne ok 96 dX0_mend_90 rfl hf (fun hf => ?_) (fun hf => ?_)
    ·
      refine v_iload ok dX0_mend_96 rfl ?_
      refine v_iload ok dX0_mend_98 rfl ?_
      refine v_cSi ok [vi x5, vi x7] (F := X0_has x5 x7 h11) (fun v h1 hv => M_X0_has ok.2.2.2.2.2.2.1 (d := 1) (Nat.le_refl _) hv) (by omega) cw_X0_has q1679 q1121 dX0_mend_100 [] rfl (Nat.le_of_ble_eq_true rfl) hf (fun v13 h14 hf => ?_)
      refine v_if_ne ok 134 dX0_mend_103 rfl hf (fun hf => ?_) (fun hf => ?_)
      ·
        refine v_iinc ok x7 (x7 + 1) dX0_mend_134 rfl rfl (by decide) ?_
        refine v_goto ok 63 dX0_mend_137 rfl ?_
        cases hf; exact hk _ ⟨rfl, rfl, rfl, rfl, rfl, rfl, trivial⟩
      ·
        refine v_aload ok dX0_mend_106 rfl ?_
        refine v_gIN ok fl_X0_177 (fun _ _ _ => rfl) dX0_mend_108 hf (fun v15 hf => ?_)
        refine v_iload ok dX0_mend_111 rfl ?_
        refine v_cSi ok [vi v15, vi x7] (F := X0_has v15 x7 h14) (fun v h1 hv => M_X0_has ok.2.2.2.2.2.2.1 (d := 1) (Nat.le_refl _) hv) (by omega) cw_X0_has q1679 q1121 dX0_mend_113 [] rfl (Nat.le_of_ble_eq_true rfl) hf (fun v16 h17 hf => ?_)
        refine v_if_ne ok 122 dX0_mend_116 rfl hf (fun hf => ?_) (fun hf => ?_)
        ·
          refine v_iload ok dX0_mend_122 rfl ?_
          refine v_iconst ok 1 dX0_mend_124 rfl ?_
          refine v_iload ok dX0_mend_125 rfl ?_
          refine v_ishl ok dX0_mend_127 ?_
          refine v_ior ok dX0_mend_128 ?_
          refine v_istore ok dX0_mend_129 (by decide) ?_
          refine v_iinc ok x6 (x6 + 1) dX0_mend_131 rfl rfl (by decide) ?_
          refine v_iinc ok x7 (x7 + 1) dX0_mend_134 rfl rfl (by decide) ?_
          refine v_goto ok 63 dX0_mend_137 rfl ?_
          cases hf; exact hk _ ⟨rfl, rfl, rfl, rfl, rfl, rfl, trivial⟩
        ·
          refine v_goto ok 134 dX0_mend_119 rfl ?_
          refine v_iinc ok x7 (x7 + 1) dX0_mend_134 rfl rfl (by decide) ?_
          refine v_goto ok 63 dX0_mend_137 rfl ?_
          cases hf; exact hk _ ⟨rfl, rfl, rfl, rfl, rfl, rfl, trivial⟩
    ·
      refine v_iload ok dX0_mend_93 rfl ?_
      exact v_iret ok hr (by cases hf; exact hk) dX0_mend_95
theorem W_X0_mend_63 {G : GT} {X : CX} {d : Nat} {h0 : AH} {Q : State → Prop} (ok : Ok G X RX0 cX0_mend 8 d h0) (hr : (cxm X).sig.returnType = (Option.some Jvm.ClassFile.FieldType.int)) {va : VaT} {e : Nat} (hva : DVA G X.2.1 e va) (hd : e + 6 ≤ d) {a0 : Nat} {x1 : Int32} {x4 : Option Nat} {x5 : Int32} {x6 : Int32} {x7 : Int32} {h : AH} {z : (Int32 × AH)} (hf : X0_mend_63  va a0 x1 x4 x5 x6 x7 h = some z) (hk : Q = QM G X h0 (some (vi z.1)) z.2) {lv : List (Nat × AV)} (hl : lle lv [(0, vr (some a0)), (1, vi x1), (4, vr x4), (5, vi x5), (6, vi x6), (7, vi x7)]) : V G X 8 h0 Q h 63 lv [] := by
  unfold X0_mend_63 at hf
  exact loopC_walk (Wh := fun s : Int32 × Int32 × Int32 × AH => ∀ lv : List (Nat × AV), lle lv [(0, vr (some a0)), (1, vi x1), (4, vr x4), (5, vi s.1), (6, vi s.2.1), (7, vi s.2.2.1)] → V G X 8 h0 Q s.2.2.2 63 lv []) (PK := fun z => Q = QM G X h0 (some (vi z.1)) z.2) (fun s o hf hk lv hl => W_X0_mend_63b ok hr hva hd hf (by cases o <;> exact hk) hl) _ z hf hk lv hl
theorem W_X0_mend {G : GT} {X : CX} {d : Nat} {h0 : AH} {Q : State → Prop} (ok : Ok G X RX0 cX0_mend 8 d h0) (hr : (cxm X).sig.returnType = (Option.some Jvm.ClassFile.FieldType.int)) {va : VaT} {e : Nat} (hva : DVA G X.2.1 e va) (hd : e + 6 ≤ d) {a0 : Nat} {x1 : Int32} {x2 : Int32} {x3 : Int32} {h : AH} {z : (Int32 × AH)} (hf : X0_mend va a0 x1 x2 x3 h = some z) (hk : Q = QM G X h0 (some (vi z.1)) z.2) {lv : List (Nat × AV)} (hl : lle lv [(0, vr (some a0)), (1, vi x1), (2, vi x2), (3, vi x3)]) : V G X 8 h0 Q h 0 lv [] := by
  refine V.sub hl ?_
  unfold X0_mend at hf
  refine v_aload_n ok 0 dX0_mend_0 rfl rfl ?_
  refine v_iload_n ok 1 dX0_mend_1 rfl rfl ?_
  refine v_iload_n ok 2 dX0_mend_2 rfl rfl ?_
  refine v_cVi ok (RX0, TX0, 18) cf_0.1 [vi x1, vi x2] (F := fun a => X0_isPlace a x1 x2 h) (fun a v h1 _ hv => M_X0_isPlace ok.2.2.2.2.2.2.1 (d := 5) (Nat.le_refl _) hv) (by omega) cw_X0_isPlace q1389 q1391 qs41 dX0_mend_3 [] rfl (Nat.le_of_ble_eq_true rfl) hf (fun v18 h19 hf => ?_)
  refine v_if_eq ok 26 dX0_mend_6 rfl hf (fun hf => ?_) (fun hf => ?_)
  ·
    refine v_iconst ok (-1) dX0_mend_26 rfl ?_
    exact v_iret ok hr (by cases hf; exact hk) dX0_mend_27
  ·
    refine v_aload_n ok 0 dX0_mend_9 rfl rfl ?_
    refine v_aload_n ok 0 dX0_mend_10 rfl rfl ?_
    refine v_gR ok fl_X0_69 (by first | exact Or.inl ⟨_, rfl⟩ | exact Or.inr ⟨_, rfl⟩) dX0_mend_11 hf (fun v20 hf => ?_)
    refine v_gRN ok fl_X0_239 (by first | exact Or.inl ⟨_, rfl⟩ | exact Or.inr ⟨_, rfl⟩) dX0_mend_14 hf (fun v21 hf => ?_)
    refine v_iload_n ok 1 dX0_mend_17 rfl rfl ?_
    refine v_iald ok rfl dX0_mend_18 hf (fun v22 hf => ?_)
    refine v_iload_n ok 3 dX0_mend_19 rfl rfl ?_
    refine v_cVi ok (RX0, TX0, 18) cf_0.1 [vi v22, vi x3] (F := fun a => X0_isLetterOf a v22 x3 h19) (fun a v h1 _ hv => M_X0_isLetterOf ok.2.2.2.2.2.2.1 (d := 5) (Nat.le_refl _) hv) (by omega) cw_X0_isLetterOf q1348 q1350 qs37 dX0_mend_20 [] rfl (Nat.le_of_ble_eq_true rfl) hf (fun v23 h24 hf => ?_)
    refine v_if_ne ok 28 dX0_mend_23 rfl hf (fun hf => ?_) (fun hf => ?_)
    ·
      refine v_aload_n ok 0 dX0_mend_28 rfl rfl ?_
      refine v_aload_n ok 0 dX0_mend_29 rfl rfl ?_
      refine v_gR ok fl_X0_69 (by first | exact Or.inl ⟨_, rfl⟩ | exact Or.inr ⟨_, rfl⟩) dX0_mend_30 hf (fun v25 hf => ?_)
      refine v_gRN ok fl_X0_239 (by first | exact Or.inl ⟨_, rfl⟩ | exact Or.inr ⟨_, rfl⟩) dX0_mend_33 hf (fun v26 hf => ?_)
      refine v_iload_n ok 1 dX0_mend_36 rfl rfl ?_
      refine v_iald ok rfl dX0_mend_37 hf (fun v27 hf => ?_)
      refine v_iload_n ok 3 dX0_mend_38 rfl rfl ?_
      refine v_cVr ok (RX0, TX0, 18) cf_0.1 [vi v27, vi x3] (F := fun a => X0_letterOf a v27 x3 h24) (fun a v h1 _ hv => M_X0_letterOf ok.2.2.2.2.2.2.1 (d := 4) (Nat.le_refl _) hv) (by omega) cw_X0_letterOf q1356 q1358 qs38 dX0_mend_39 [] rfl (Nat.le_of_ble_eq_true rfl) hf (fun v28 h29 hf => ?_)
      refine v_astore ok dX0_mend_42 (by decide) ?_
      refine v_aload_n ok 0 dX0_mend_44 rfl rfl ?_
      refine v_gR ok fl_X0_69 (by first | exact Or.inl ⟨_, rfl⟩ | exact Or.inr ⟨_, rfl⟩) dX0_mend_45 hf (fun v30 hf => ?_)
      refine v_gRN ok fl_X0_248 (by first | exact Or.inl ⟨_, rfl⟩ | exact Or.inr ⟨_, rfl⟩) dX0_mend_48 hf (fun v31 hf => ?_)
      refine v_iload_n ok 1 dX0_mend_51 rfl rfl ?_
      refine v_aald6 ok rfl dX0_mend_52 hf (fun v32 hf => ?_)
      refine v_iload_n ok 2 dX0_mend_53 rfl rfl ?_
      refine v_iald ok rfl dX0_mend_54 hf (fun v33 hf => ?_)
      refine v_istore ok dX0_mend_55 (by decide) ?_
      refine v_iconst ok 0 dX0_mend_57 rfl ?_
      refine v_istore ok dX0_mend_58 (by decide) ?_
      refine v_iconst ok 0 dX0_mend_60 rfl ?_
      refine v_istore ok dX0_mend_61 (by decide) ?_
      exact W_X0_mend_63 ok hr hva hd hf hk ⟨rfl, rfl, rfl, rfl, rfl, rfl, trivial⟩
    ·
      refine v_iconst ok (-1) dX0_mend_26 rfl ?_
      exact v_iret ok hr (by cases hf; exact hk) dX0_mend_27
theorem M_X0_mend {G : GT} {l : Launch} (hG : Glob G) {va : VaT} {e : Nat} (hva : DVA G l e va) {d : Nat} (hd : e + 6 ≤ d) {a0 : Nat} {x1 : Int32} {x2 : Int32} {x3 : Int32} {h : AH} {v : Int32} {h' : AH} (hf : X0_mend va a0 x1 x2 x3 h = some (v, h')) : MM G l yX0_mend cX0_mend 8 (Option.some Jvm.ClassFile.FieldType.int) d [vr (some a0), vi x1, vi x2, vi x3] h (some (vi v)) h' := by
  refine mm_of hG (plainFor_of_name (by decide)) (Nat.le_of_ble_eq_true rfl) (fun X hX ok hr hnm => ?_)
  subst hX
  exact W_X0_mend ok hr hva hd hf rfl ⟨rfl, rfl, rfl, rfl, trivial⟩
theorem cw_X0_undo : CW yX0_undo cX0_undo 1 (Option.some Jvm.ClassFile.FieldType.boolean) 0 := ⟨q1683, q168, ⟨by decide, by decide⟩, by decide +kernel, by decide⟩
theorem W_X0_undo {G : GT} {X : CX} {d : Nat} {h0 : AH} {Q : State → Prop} (ok : Ok G X RX0 cX0_undo 1 d h0) (hr : (cxm X).sig.returnType = (Option.some Jvm.ClassFile.FieldType.boolean)) (hd : 2 ≤ d) {a0 : Nat} {h : AH} {z : (Int32 × AH)} (hf : X0_undo a0 h = some z) (hk : Q = QM G X h0 (some (vi z.1)) z.2) {lv : List (Nat × AV)} (hl : lle lv [(0, vr (some a0))]) : V G X 1 h0 Q h 0 lv [] := by
  refine V.sub hl ?_
  unfold X0_undo at hf
  refine v_aload_n ok 0 dX0_undo_0 rfl rfl ?_
  refine v_gI ok fl_X0_127 (fun _ _ _ => rfl) dX0_undo_1 hf (fun v1 hf => ?_)
  refine v_if_ne ok 21 dX0_undo_4 rfl hf (fun hf => ?_) (fun hf => ?_)
  ·
    refine v_aload_n ok 0 dX0_undo_21 rfl rfl ?_
    refine v_dup ok dX0_undo_22 rfl ?_
    refine v_gI ok fl_X0_127 (fun _ _ _ => rfl) dX0_undo_23 hf (fun v2 hf => ?_)
    refine v_iconst ok 1 dX0_undo_26 rfl ?_
    refine v_isub ok dX0_undo_27 ?_
    refine v_pI ok fl_X0_127 ⟨fun _ _ _ => rfl, rfl⟩ (FN.of cf_0.1 rfl) dX0_undo_28 hf (fun h3 hf => ?_)
    refine v_aload_n ok 0 dX0_undo_31 rfl rfl ?_
    refine v_gR ok fl_X0_69 (by first | exact Or.inl ⟨_, rfl⟩ | exact Or.inr ⟨_, rfl⟩) dX0_undo_32 hf (fun v4 hf => ?_)
    refine v_aload_n ok 0 dX0_undo_35 rfl rfl ?_
    refine v_gR ok fl_X0_83 (by first | exact Or.inl ⟨_, rfl⟩ | exact Or.inr ⟨_, rfl⟩) dX0_undo_36 hf (fun v5 hf => ?_)
    refine v_aload_n ok 0 dX0_undo_39 rfl rfl ?_
    refine v_gI ok fl_X0_127 (fun _ _ _ => rfl) dX0_undo_40 hf (fun v6 hf => ?_)
    refine v_aald7 ok rfl dX0_undo_43 hf (fun v7 hf => ?_)
    refine v_cVr ok (RX5, TX5, 10) cf_5.1 [vr v7] (F := fun a => X5_copy a v7 h3) (fun a v h1 _ hv => M_X5_copy ok.2.2.2.2.2.2.1 (d := 1) (Nat.le_refl _) hv) (by exact Nat.le_trans (by decide) hd) cw_X5_copy q1548 q1549 q1550 dX0_undo_44 [] rfl (Nat.le_of_ble_eq_true rfl) hf (fun v8 h9 hf => ?_)
    refine v_pop ok dX0_undo_47 rfl ?_
    refine v_iconst ok 1 dX0_undo_48 rfl ?_
    exact v_zretL ok hr (by decide) (by decide) (by cases hf; exact hk) dX0_undo_49
  ·
    refine v_aload_n ok 0 dX0_undo_7 rfl rfl ?_
    refine v_iconst ok 4 dX0_undo_8 rfl ?_
    refine v_cVi ok (RX0, TX0, 18) cf_0.1 [vi 4] (F := fun a => X0_refuses a 4 h) (fun a v h1 _ hv => M_X0_refuses ok.2.2.2.2.2.2.1 (d := 1) (Nat.le_refl _) hv) (by exact Nat.le_trans (by decide) hd) cw_X0_refuses q645 q647 qs4 dX0_undo_9 [] rfl (Nat.le_of_ble_eq_true rfl) hf (fun v10 h11 hf => ?_)
    refine v_if_lt ok 19 dX0_undo_12 rfl hf (fun hf => ?_) (fun hf => ?_)
    ·
      refine v_iconst ok 0 dX0_undo_19 rfl ?_
      exact v_zretL ok hr (by decide) (by decide) (by cases hf; exact hk) dX0_undo_20
    ·
      refine v_iconst ok 1 dX0_undo_15 rfl ?_
      refine v_goto ok 20 dX0_undo_16 rfl ?_
      exact v_zretL ok hr (by decide) (by decide) (by cases hf; exact hk) dX0_undo_20
theorem M_X0_undo {G : GT} {l : Launch} (hG : Glob G) {d : Nat} (hd : 2 ≤ d) {a0 : Nat} {h : AH} {v : Int32} {h' : AH} (hf : X0_undo a0 h = some (v, h')) : MM G l yX0_undo cX0_undo 1 (Option.some Jvm.ClassFile.FieldType.boolean) d [vr (some a0)] h (some (vi v)) h' := by
  refine mm_of hG (plainFor_of_name (by decide)) (Nat.le_of_ble_eq_true rfl) (fun X hX ok hr hnm => ?_)
  subst hX
  exact W_X0_undo ok hr hd hf rfl ⟨rfl, trivial⟩
theorem cw_X0_keeps : CW yX0_keeps cX0_keeps 3 none 0 := ⟨q1691, q168, ⟨by decide, by decide⟩, by decide +kernel, by decide⟩
def pkX0_keeps_18 (G : GT) (X : CX) (h0 : AH) (Q : State → Prop) (a0 : Nat) (x1 : Option Nat) (o : ((Int32 × AH) ⊕ (AH))) : Prop := match o with
  | .inl s => ∀ lv : List (Nat × AV), lle lv [(0, vr (some a0)), (1, vr x1), (2, vi s.1)] → V G X 3 h0 Q s.2 18 lv []
  | .inr z => Q = QM G X h0 none z
theorem W_X0_keeps_62 {G : GT} {X : CX} {d : Nat} {h0 : AH} {Q : State → Prop} (ok : Ok G X RX0 cX0_keeps 3 d h0) (hr : (cxm X).sig.returnType = none) (hd : 2 ≤ d) {a0 : Nat} {h : AH} {z : (AH)} (hf : X0_keeps_62 a0 h = some z) (hk : Q = QM G X h0 none z) {lv : List (Nat × AV)} (hl : lle lv [(0, vr (some a0))]) : V G X 3 h0 Q h 62 lv [] := by
  refine V.sub hl ?_
  unfold X0_keeps_62 at hf
  refine v_aload_n ok 0 dX0_keeps_62 rfl rfl ?_
  refine v_gR ok fl_X0_83 (by first | exact Or.inl ⟨_, rfl⟩ | exact Or.inr ⟨_, rfl⟩) dX0_keeps_63 hf (fun v1 hf => ?_)
  refine v_aload_n ok 0 dX0_keeps_66 rfl rfl ?_
  refine v_gI ok fl_X0_127 (fun _ _ _ => rfl) dX0_keeps_67 hf (fun v2 hf => ?_)
  refine v_aald7 ok rfl dX0_keeps_70 hf (fun v3 hf => ?_)
  refine v_aload_n ok 0 dX0_keeps_71 rfl rfl ?_
  refine v_gR ok fl_X0_69 (by first | exact Or.inl ⟨_, rfl⟩ | exact Or.inr ⟨_, rfl⟩) dX0_keeps_72 hf (fun v4 hf => ?_)
  refine v_cVr ok (RX5, TX5, 10) cf_5.1 [vr v4] (F := fun a => X5_copy a v4 h) (fun a v h1 _ hv => M_X5_copy ok.2.2.2.2.2.2.1 (d := 1) (Nat.le_refl _) hv) (by exact Nat.le_trans (by decide) hd) cw_X5_copy q1548 q1549 q1550 dX0_keeps_75 [] rfl (Nat.le_of_ble_eq_true rfl) hf (fun v5 h6 hf => ?_)
  refine v_pop ok dX0_keeps_78 rfl ?_
  refine v_aload_n ok 0 dX0_keeps_79 rfl rfl ?_
  refine v_dup ok dX0_keeps_80 rfl ?_
  refine v_gI ok fl_X0_127 (fun _ _ _ => rfl) dX0_keeps_81 hf (fun v7 hf => ?_)
  refine v_iconst ok 1 dX0_keeps_84 rfl ?_
  refine v_iadd ok dX0_keeps_85 ?_
  refine v_pI ok fl_X0_127 ⟨fun _ _ _ => rfl, rfl⟩ (FN.of cf_0.1 rfl) dX0_keeps_86 hf (fun h8 hf => ?_)
  exact v_vret ok hr (by cases hf; exact hk) dX0_keeps_89
theorem W_X0_keeps_44 {G : GT} {X : CX} {d : Nat} {h0 : AH} {Q : State → Prop} (ok : Ok G X RX0 cX0_keeps 3 d h0) (hr : (cxm X).sig.returnType = none) (hd : 2 ≤ d) {a0 : Nat} {x1 : Option Nat} {h : AH} {z : (AH)} (hf : X0_keeps_44 a0 x1 h = some z) (hk : Q = QM G X h0 none z) {lv : List (Nat × AV)} (hl : lle lv [(0, vr (some a0)), (1, vr x1)]) : V G X 3 h0 Q h 44 lv [] := by
  refine V.sub hl ?_
  unfold X0_keeps_44 at hf
  refine v_aload_n ok 0 dX0_keeps_44 rfl rfl ?_
  refine v_gR ok fl_X0_83 (by first | exact Or.inl ⟨_, rfl⟩ | exact Or.inr ⟨_, rfl⟩) dX0_keeps_45 hf (fun v9 hf => ?_)
  refine v_bipush ok 19 dX0_keeps_48 rfl ?_
  refine v_aload_n ok 1 dX0_keeps_50 rfl rfl ?_
  refine v_aast ok (t := 107) (by decide) (by decide) ck_TurnedBoards_State dX0_keeps_51 hf (fun h10 hf => ?_)
  refine v_aload_n ok 0 dX0_keeps_52 rfl rfl ?_
  refine v_dup ok dX0_keeps_53 rfl ?_
  refine v_gI ok fl_X0_127 (fun _ _ _ => rfl) dX0_keeps_54 hf (fun v11 hf => ?_)
  refine v_iconst ok 1 dX0_keeps_57 rfl ?_
  refine v_isub ok dX0_keeps_58 ?_
  refine v_pI ok fl_X0_127 ⟨fun _ _ _ => rfl, rfl⟩ (FN.of cf_0.1 rfl) dX0_keeps_59 hf (fun h12 hf => ?_)
  exact W_X0_keeps_62 ok hr hd hf hk ⟨rfl, trivial⟩
theorem W_X0_keeps_18b {G : GT} {X : CX} {d : Nat} {h0 : AH} {Q : State → Prop} (ok : Ok G X RX0 cX0_keeps 3 d h0) (hr : (cxm X).sig.returnType = none) (hd : 2 ≤ d) {a0 : Nat} {x1 : Option Nat} {x2 : Int32} {h : AH} {z : ((Int32 × AH) ⊕ (AH))} (hf : X0_keeps_18b  a0 x1 x2 h = some z) (hk : pkX0_keeps_18 G X h0 Q a0 x1 z) {lv : List (Nat × AV)} (hl : lle lv [(0, vr (some a0)), (1, vr x1), (2, vi x2)]) : V G X 3 h0 Q h 18 lv [] := by
  refine V.sub hl ?_
  unfold X0_keeps_18b at hf
  refine v_iload_n ok 2 dX0_keeps_18 rfl rfl ?_
  refine v_bipush ok 20 dX0_keeps_19 rfl ?_
  refine v_icmp_ge ok 44 dX0_keeps_21 rfl hf (fun hf => ?_) (fun hf => ?_)
  ·
    obtain ⟨o, ho, hz⟩ := ob hf
    cases hz; exact W_X0_keeps_44 ok hr hd ho hk ⟨rfl, rfl, trivial⟩
  ·
    refine v_aload_n ok 0 dX0_keeps_24 rfl rfl ?_
    refine v_gR ok fl_X0_83 (by first | exact Or.inl ⟨_, rfl⟩ | exact Or.inr ⟨_, rfl⟩) dX0_keeps_25 hf (fun v13 hf => ?_)
    refine v_iload_n ok 2 dX0_keeps_28 rfl rfl ?_
    refine v_iconst ok 1 dX0_keeps_29 rfl ?_
    refine v_isub ok dX0_keeps_30 ?_
    refine v_aload_n ok 0 dX0_keeps_31 rfl rfl ?_
    refine v_gR ok fl_X0_83 (by first | exact Or.inl ⟨_, rfl⟩ | exact Or.inr ⟨_, rfl⟩) dX0_keeps_32 hf (fun v14 hf => ?_)
    refine v_iload_n ok 2 dX0_keeps_35 rfl rfl ?_
    refine v_aald7 ok rfl dX0_keeps_36 hf (fun v15 hf => ?_)
    refine v_aast ok (t := 107) (by decide) (by decide) ck_TurnedBoards_State dX0_keeps_37 hf (fun h16 hf => ?_)
    refine v_iinc ok x2 (x2 + 1) dX0_keeps_38 rfl rfl (by decide) ?_
    refine v_goto ok 18 dX0_keeps_41 rfl ?_
    cases hf; exact hk _ ⟨rfl, rfl, rfl, trivial⟩
theorem W_X0_keeps_18 {G : GT} {X : CX} {d : Nat} {h0 : AH} {Q : State → Prop} (ok : Ok G X RX0 cX0_keeps 3 d h0) (hr : (cxm X).sig.returnType = none) (hd : 2 ≤ d) {a0 : Nat} {x1 : Option Nat} {x2 : Int32} {h : AH} {z : (AH)} (hf : X0_keeps_18  a0 x1 x2 h = some z) (hk : Q = QM G X h0 none z) {lv : List (Nat × AV)} (hl : lle lv [(0, vr (some a0)), (1, vr x1), (2, vi x2)]) : V G X 3 h0 Q h 18 lv [] := by
  unfold X0_keeps_18 at hf
  exact loopC_walk (Wh := fun s : Int32 × AH => ∀ lv : List (Nat × AV), lle lv [(0, vr (some a0)), (1, vr x1), (2, vi s.1)] → V G X 3 h0 Q s.2 18 lv []) (PK := fun z => Q = QM G X h0 none z) (fun s o hf hk lv hl => W_X0_keeps_18b ok hr hd hf (by cases o <;> exact hk) hl) _ z hf hk lv hl
theorem W_X0_keeps {G : GT} {X : CX} {d : Nat} {h0 : AH} {Q : State → Prop} (ok : Ok G X RX0 cX0_keeps 3 d h0) (hr : (cxm X).sig.returnType = none) (hd : 2 ≤ d) {a0 : Nat} {h : AH} {z : (AH)} (hf : X0_keeps a0 h = some z) (hk : Q = QM G X h0 none z) {lv : List (Nat × AV)} (hl : lle lv [(0, vr (some a0))]) : V G X 3 h0 Q h 0 lv [] := by
  refine V.sub hl ?_
  unfold X0_keeps at hf
  refine v_aload_n ok 0 dX0_keeps_0 rfl rfl ?_
  refine v_gI ok fl_X0_127 (fun _ _ _ => rfl) dX0_keeps_1 hf (fun v17 hf => ?_)
  refine v_bipush ok 20 dX0_keeps_4 rfl ?_
  refine v_icmp_ne ok 62 dX0_keeps_6 rfl hf (fun hf => ?_) (fun hf => ?_)
  ·
    exact W_X0_keeps_62 ok hr hd hf hk ⟨rfl, trivial⟩
  ·
    refine v_aload_n ok 0 dX0_keeps_9 rfl rfl ?_
    refine v_gR ok fl_X0_83 (by first | exact Or.inl ⟨_, rfl⟩ | exact Or.inr ⟨_, rfl⟩) dX0_keeps_10 hf (fun v18 hf => ?_)
    refine v_iconst ok 0 dX0_keeps_13 rfl ?_
    refine v_aald7 ok rfl dX0_keeps_14 hf (fun v19 hf => ?_)
    refine v_astore_n ok 1 dX0_keeps_15 rfl (by decide) ?_
    refine v_iconst ok 1 dX0_keeps_16 rfl ?_
    refine v_istore_n ok 2 dX0_keeps_17 rfl (by decide) ?_
    exact W_X0_keeps_18 ok hr hd hf hk ⟨rfl, rfl, rfl, trivial⟩
theorem M_X0_keeps {G : GT} {l : Launch} (hG : Glob G) {d : Nat} (hd : 2 ≤ d) {a0 : Nat} {h : AH} {h' : AH} (hf : X0_keeps a0 h = some h') : MM G l yX0_keeps cX0_keeps 3 none d [vr (some a0)] h none h' := by
  refine mm_of hG (plainFor_of_name (by decide)) (Nat.le_of_ble_eq_true rfl) (fun X hX ok hr hnm => ?_)
  subst hX
  exact W_X0_keeps ok hr hd hf rfl ⟨rfl, trivial⟩
theorem cw_X0_years : CW yX0_years cX0_years 2 (Option.some Jvm.ClassFile.FieldType.int) 1 := ⟨q1687, q168, ⟨by decide, by decide⟩, by decide +kernel, by decide⟩
theorem W_X0_years {G : GT} {X : CX} {d : Nat} {h0 : AH} {Q : State → Prop} (ok : Ok G X RX0 cX0_years 2 d h0) (hr : (cxm X).sig.returnType = (Option.some Jvm.ClassFile.FieldType.int)) {va : VaT} {th : ThT} {e : Nat} (hva : DVA G X.2.1 e va) (hth : DTH G X.2.1 e th) (hd : e + 10 ≤ d) {a0 : Nat} {x1 : Int32} {h : AH} {z : (Int32 × AH)} (hf : X0_years va th a0 x1 h = some z) (hk : Q = QM G X h0 (some (vi z.1)) z.2) {lv : List (Nat × AV)} (hl : lle lv [(0, vr (some a0)), (1, vi x1)]) : V G X 2 h0 Q h 0 lv [] := by
  refine V.sub hl ?_
  unfold X0_years at hf
  refine v_aload_n ok 0 dX0_years_0 rfl rfl ?_
  refine v_iload_n ok 1 dX0_years_1 rfl rfl ?_
  refine v_iconst ok 1 dX0_years_2 rfl ?_
  refine v_bipush ok 100 dX0_years_3 rfl ?_
  refine v_cVi ok (RX0, TX0, 18) cf_0.1 [vi x1, vi 1, vi 100] (F := fun a => X0_isAhead a x1 1 100 h) (fun a v h1 _ hv => M_X0_isAhead ok.2.2.2.2.2.2.1 (d := 2) (Nat.le_refl _) hv) (by omega) cw_X0_isAhead q1544 q1546 qs53 dX0_years_5 [] rfl (Nat.le_of_ble_eq_true rfl) hf (fun v1 h2 hf => ?_)
  refine v_if_ne ok 17 dX0_years_8 rfl hf (fun hf => ?_) (fun hf => ?_)
  ·
    refine v_aload_n ok 0 dX0_years_17 rfl rfl ?_
    refine v_cVv ok (RX0, TX0, 18) cf_0.1 [] (F := fun a => X0_keeps a h2) (fun a h1 _ hv => M_X0_keeps ok.2.2.2.2.2.2.1 (d := 2) (Nat.le_refl _) hv) (by omega) cw_X0_keeps q1688 q1690 qs63 dX0_years_18 [] rfl (Nat.le_of_ble_eq_true rfl) hf (fun h3 hf => ?_)
    refine v_aload_n ok 0 dX0_years_21 rfl rfl ?_
    refine v_gR ok fl_X0_69 (by first | exact Or.inl ⟨_, rfl⟩ | exact Or.inr ⟨_, rfl⟩) dX0_years_22 hf (fun v4 hf => ?_)
    refine v_iconst ok 0 dX0_years_25 rfl ?_
    refine v_pIN ok fl_X0_319 ⟨fun _ _ _ => rfl, rfl⟩ (FNN.of cf_5.1 rfl) dX0_years_26 hf (fun h5 hf => ?_)
    refine v_aload_n ok 0 dX0_years_29 rfl rfl ?_
    refine v_gR ok fl_X0_69 (by first | exact Or.inl ⟨_, rfl⟩ | exact Or.inr ⟨_, rfl⟩) dX0_years_30 hf (fun v6 hf => ?_)
    refine v_iload_n ok 1 dX0_years_33 rfl rfl ?_
    refine v_cVr ok (RX5, TX5, 10) cf_5.1 [vi x1] (F := fun a => X5_years va th a x1 h5) (fun a v h1 _ hv => M_X5_years ok.2.2.2.2.2.2.1 hva hth (d := e + 9) (Nat.le_refl _) hv) (by omega) cw_X5_years q1552 q1553 q1554 dX0_years_34 [] rfl (Nat.le_of_ble_eq_true rfl) hf (fun v7 h8 hf => ?_)
    refine v_pop ok dX0_years_37 rfl ?_
    refine v_aload_n ok 0 dX0_years_38 rfl rfl ?_
    refine v_gR ok fl_X0_69 (by first | exact Or.inl ⟨_, rfl⟩ | exact Or.inr ⟨_, rfl⟩) dX0_years_39 hf (fun v9 hf => ?_)
    refine v_gIN ok fl_X0_319 (fun _ _ _ => rfl) dX0_years_42 hf (fun v10 hf => ?_)
    exact v_iret ok hr (by cases hf; exact hk) dX0_years_45
  ·
    refine v_aload_n ok 0 dX0_years_11 rfl rfl ?_
    refine v_iconst ok 3 dX0_years_12 rfl ?_
    refine v_cVi ok (RX0, TX0, 18) cf_0.1 [vi 3] (F := fun a => X0_refuses a 3 h2) (fun a v h1 _ hv => M_X0_refuses ok.2.2.2.2.2.2.1 (d := 1) (Nat.le_refl _) hv) (by omega) cw_X0_refuses q645 q647 qs4 dX0_years_13 [] rfl (Nat.le_of_ble_eq_true rfl) hf (fun v11 h12 hf => ?_)
    exact v_iret ok hr (by cases hf; exact hk) dX0_years_16
theorem M_X0_years {G : GT} {l : Launch} (hG : Glob G) {va : VaT} {th : ThT} {e : Nat} (hva : DVA G l e va) (hth : DTH G l e th) {d : Nat} (hd : e + 10 ≤ d) {a0 : Nat} {x1 : Int32} {h : AH} {v : Int32} {h' : AH} (hf : X0_years va th a0 x1 h = some (v, h')) : MM G l yX0_years cX0_years 2 (Option.some Jvm.ClassFile.FieldType.int) d [vr (some a0), vi x1] h (some (vi v)) h' := by
  refine mm_of hG (plainFor_of_name (by decide)) (Nat.le_of_ble_eq_true rfl) (fun X hX ok hr hnm => ?_)
  subst hX
  exact W_X0_years ok hr hva hth hd hf rfl ⟨rfl, rfl, trivial⟩
theorem cw_X0_chance : CW yX0_chance cX0_chance 3 (Option.some Jvm.ClassFile.FieldType.int) 1 := ⟨q1695, q168, ⟨by decide, by decide⟩, by decide +kernel, by decide⟩
def pkX0_chance_31 (G : GT) (X : CX) (h0 : AH) (Q : State → Prop) (a0 : Nat) (x1 : Int32) (o : ((Int32 × AH) ⊕ (Int32 × AH))) : Prop := match o with
  | .inl s => ∀ lv : List (Nat × AV), lle lv [(0, vr (some a0)), (1, vi x1), (2, vi s.1)] → V G X 3 h0 Q s.2 31 lv []
  | .inr z => Q = QM G X h0 (some (vi z.1)) z.2
theorem W_X0_chance_68 {G : GT} {X : CX} {d : Nat} {h0 : AH} {Q : State → Prop} (ok : Ok G X RX0 cX0_chance 3 d h0) (hr : (cxm X).sig.returnType = (Option.some Jvm.ClassFile.FieldType.int)) {va : VaT} {th : ThT} {e : Nat} (hva : DVA G X.2.1 e va) (hth : DTH G X.2.1 e th) (hd : e + 9 ≤ d) {a0 : Nat} {x1 : Int32} {x2 : Int32} {s0 : Option Nat} {s1 : Int32} {h : AH} {z : ((Int32 × AH) ⊕ (Int32 × AH))} (hf : X0_chance_68 va th a0 x1 x2 s0 s1 h = some z) (hk : pkX0_chance_31 G X h0 Q a0 x1 z) {lv : List (Nat × AV)} (hl : lle lv [(0, vr (some a0)), (1, vi x1), (2, vi x2)]) : V G X 3 h0 Q h 68 lv [vi s1, vr s0] := by
  refine V.sub hl ?_
  unfold X0_chance_68 at hf
  refine v_cVv ok (RX5, TX5, 10) cf_5.1 [vi s1] (F := fun a => X5_passes va th a s1 h) (fun a h1 _ hv => M_X5_passes ok.2.2.2.2.2.2.1 hva hth (d := e + 8) (Nat.le_refl _) hv) (by omega) cw_X5_passes q1697 q1557 q1558 dX0_chance_68 [] rfl (Nat.le_of_ble_eq_true rfl) hf (fun h1 hf => ?_)
  refine v_iinc ok x2 (x2 + 1) dX0_chance_71 rfl rfl (by decide) ?_
  refine v_goto ok 31 dX0_chance_74 rfl ?_
  cases hf; exact hk _ ⟨rfl, rfl, rfl, trivial⟩
theorem W_X0_chance_67 {G : GT} {X : CX} {d : Nat} {h0 : AH} {Q : State → Prop} (ok : Ok G X RX0 cX0_chance 3 d h0) (hr : (cxm X).sig.returnType = (Option.some Jvm.ClassFile.FieldType.int)) {va : VaT} {th : ThT} {e : Nat} (hva : DVA G X.2.1 e va) (hth : DTH G X.2.1 e th) (hd : e + 9 ≤ d) {a0 : Nat} {x1 : Int32} {x2 : Int32} {s0 : Option Nat} {h : AH} {z : ((Int32 × AH) ⊕ (Int32 × AH))} (hf : X0_chance_67 va th a0 x1 x2 s0 h = some z) (hk : pkX0_chance_31 G X h0 Q a0 x1 z) {lv : List (Nat × AV)} (hl : lle lv [(0, vr (some a0)), (1, vi x1), (2, vi x2)]) : V G X 3 h0 Q h 67 lv [vr s0] := by
  refine V.sub hl ?_
  unfold X0_chance_67 at hf
  refine v_iconst ok 0 dX0_chance_67 rfl ?_
  exact W_X0_chance_68 ok hr hva hth hd hf hk ⟨rfl, rfl, rfl, trivial⟩
theorem W_X0_chance_77 {G : GT} {X : CX} {d : Nat} {h0 : AH} {Q : State → Prop} (ok : Ok G X RX0 cX0_chance 3 d h0) (hr : (cxm X).sig.returnType = (Option.some Jvm.ClassFile.FieldType.int)) {va : VaT} {th : ThT} {e : Nat} (hva : DVA G X.2.1 e va) (hth : DTH G X.2.1 e th) (hd : e + 9 ≤ d) {a0 : Nat} {h : AH} {z : (Int32 × AH)} (hf : X0_chance_77 va th a0 h = some z) (hk : Q = QM G X h0 (some (vi z.1)) z.2) {lv : List (Nat × AV)} (hl : lle lv [(0, vr (some a0))]) : V G X 3 h0 Q h 77 lv [] := by
  refine V.sub hl ?_
  unfold X0_chance_77 at hf
  refine v_aload_n ok 0 dX0_chance_77 rfl rfl ?_
  refine v_gR ok fl_X0_69 (by first | exact Or.inl ⟨_, rfl⟩ | exact Or.inr ⟨_, rfl⟩) dX0_chance_78 hf (fun v2 hf => ?_)
  refine v_gIN ok fl_X0_330 (fun _ _ _ => rfl) dX0_chance_81 hf (fun v3 hf => ?_)
  exact v_iret ok hr (by cases hf; exact hk) dX0_chance_84
theorem W_X0_chance_31b {G : GT} {X : CX} {d : Nat} {h0 : AH} {Q : State → Prop} (ok : Ok G X RX0 cX0_chance 3 d h0) (hr : (cxm X).sig.returnType = (Option.some Jvm.ClassFile.FieldType.int)) {va : VaT} {th : ThT} {e : Nat} (hva : DVA G X.2.1 e va) (hth : DTH G X.2.1 e th) (hd : e + 9 ≤ d) {a0 : Nat} {x1 : Int32} {x2 : Int32} {h : AH} {z : ((Int32 × AH) ⊕ (Int32 × AH))} (hf : X0_chance_31b  va th a0 x1 x2 h = some z) (hk : pkX0_chance_31 G X h0 Q a0 x1 z) {lv : List (Nat × AV)} (hl : lle lv [(0, vr (some a0)), (1, vi x1), (2, vi x2)]) : V G X 3 h0 Q h 31 lv [] := by
  refine V.sub hl ?_
  unfold X0_chance_31b at hf
  refine v_iload_n ok 2 dX0_chance_31 rfl rfl ?_
  refine v_iload_n ok 1 dX0_chance_32 rfl rfl ?_
  refine v_icmp_ge ok 77 dX0_chance_33 rfl hf (fun hf => ?_) (fun hf => ?_)
  ·
    obtain ⟨o, ho, hz⟩ := ob hf
    cases hz; exact W_X0_chance_77 ok hr hva hth hd ho hk ⟨rfl, trivial⟩
  ·
    refine v_aload_n ok 0 dX0_chance_36 rfl rfl ?_
    refine v_gR ok fl_X0_69 (by first | exact Or.inl ⟨_, rfl⟩ | exact Or.inr ⟨_, rfl⟩) dX0_chance_37 hf (fun v4 hf => ?_)
    refine v_aload_n ok 0 dX0_chance_40 rfl rfl ?_
    refine v_bipush ok 100 dX0_chance_41 rfl ?_
    refine v_cVi ok (RX0, TX0, 18) cf_0.1 [vi 100] (F := fun a => X0_draw a 100 h) (fun a v h1 _ hv => M_X0_draw ok.2.2.2.2.2.2.1 (d := 1) (Nat.le_refl _) hv) (by omega) cw_X0_draw q1696 q1572 qs55 dX0_chance_43 [vr v4] rfl (Nat.le_of_ble_eq_true rfl) hf (fun v5 h6 hf => ?_)
    refine v_aload_n ok 0 dX0_chance_46 rfl rfl ?_
    refine v_gR ok fl_X0_31 (by first | exact Or.inl ⟨_, rfl⟩ | exact Or.inr ⟨_, rfl⟩) dX0_chance_47 hf (fun v7 hf => ?_)
    refine v_gIN ok fl_X0_336 (fun _ _ _ => rfl) dX0_chance_50 hf (fun v8 hf => ?_)
    refine v_icmp_ge ok 67 dX0_chance_53 rfl hf (fun hf => ?_) (fun hf => ?_)
    ·
      exact W_X0_chance_67 ok hr hva hth hd hf hk ⟨rfl, rfl, rfl, trivial⟩
    ·
      refine v_aload_n ok 0 dX0_chance_56 rfl rfl ?_
      refine v_cVi ok (RX0, TX0, 18) cf_0.1 [] (F := fun a => X0_boards a h6) (fun a v h1 _ hv => M_X0_boards ok.2.2.2.2.2.2.1 (d := 2) (Nat.le_refl _) hv) (by omega) cw_X0_boards q1333 q1293 qs34 dX0_chance_57 [vr v4] rfl (Nat.le_of_ble_eq_true rfl) hf (fun v9 h10 hf => ?_)
      refine v_if_le ok 67 dX0_chance_60 rfl hf (fun hf => ?_) (fun hf => ?_)
      ·
        exact W_X0_chance_67 ok hr hva hth hd hf hk ⟨rfl, rfl, rfl, trivial⟩
      ·
        refine v_iconst ok 1 dX0_chance_63 rfl ?_
        refine v_goto ok 68 dX0_chance_64 rfl ?_
        exact W_X0_chance_68 ok hr hva hth hd hf hk ⟨rfl, rfl, rfl, trivial⟩
theorem W_X0_chance_31 {G : GT} {X : CX} {d : Nat} {h0 : AH} {Q : State → Prop} (ok : Ok G X RX0 cX0_chance 3 d h0) (hr : (cxm X).sig.returnType = (Option.some Jvm.ClassFile.FieldType.int)) {va : VaT} {th : ThT} {e : Nat} (hva : DVA G X.2.1 e va) (hth : DTH G X.2.1 e th) (hd : e + 9 ≤ d) {a0 : Nat} {x1 : Int32} {x2 : Int32} {h : AH} {z : (Int32 × AH)} (hf : X0_chance_31  va th a0 x1 x2 h = some z) (hk : Q = QM G X h0 (some (vi z.1)) z.2) {lv : List (Nat × AV)} (hl : lle lv [(0, vr (some a0)), (1, vi x1), (2, vi x2)]) : V G X 3 h0 Q h 31 lv [] := by
  unfold X0_chance_31 at hf
  exact loopC_walk (Wh := fun s : Int32 × AH => ∀ lv : List (Nat × AV), lle lv [(0, vr (some a0)), (1, vi x1), (2, vi s.1)] → V G X 3 h0 Q s.2 31 lv []) (PK := fun z => Q = QM G X h0 (some (vi z.1)) z.2) (fun s o hf hk lv hl => W_X0_chance_31b ok hr hva hth hd hf (by cases o <;> exact hk) hl) _ z hf hk lv hl
theorem W_X0_chance {G : GT} {X : CX} {d : Nat} {h0 : AH} {Q : State → Prop} (ok : Ok G X RX0 cX0_chance 3 d h0) (hr : (cxm X).sig.returnType = (Option.some Jvm.ClassFile.FieldType.int)) {va : VaT} {th : ThT} {e : Nat} (hva : DVA G X.2.1 e va) (hth : DTH G X.2.1 e th) (hd : e + 9 ≤ d) {a0 : Nat} {x1 : Int32} {h : AH} {z : (Int32 × AH)} (hf : X0_chance va th a0 x1 h = some z) (hk : Q = QM G X h0 (some (vi z.1)) z.2) {lv : List (Nat × AV)} (hl : lle lv [(0, vr (some a0)), (1, vi x1)]) : V G X 3 h0 Q h 0 lv [] := by
  refine V.sub hl ?_
  unfold X0_chance at hf
  refine v_aload_n ok 0 dX0_chance_0 rfl rfl ?_
  refine v_iload_n ok 1 dX0_chance_1 rfl rfl ?_
  refine v_iconst ok 1 dX0_chance_2 rfl ?_
  refine v_bipush ok 100 dX0_chance_3 rfl ?_
  refine v_cVi ok (RX0, TX0, 18) cf_0.1 [vi x1, vi 1, vi 100] (F := fun a => X0_isAhead a x1 1 100 h) (fun a v h1 _ hv => M_X0_isAhead ok.2.2.2.2.2.2.1 (d := 2) (Nat.le_refl _) hv) (by omega) cw_X0_isAhead q1544 q1546 qs53 dX0_chance_5 [] rfl (Nat.le_of_ble_eq_true rfl) hf (fun v11 h12 hf => ?_)
  refine v_if_ne ok 17 dX0_chance_8 rfl hf (fun hf => ?_) (fun hf => ?_)
  ·
    refine v_aload_n ok 0 dX0_chance_17 rfl rfl ?_
    refine v_cVv ok (RX0, TX0, 18) cf_0.1 [] (F := fun a => X0_keeps a h12) (fun a h1 _ hv => M_X0_keeps ok.2.2.2.2.2.2.1 (d := 2) (Nat.le_refl _) hv) (by omega) cw_X0_keeps q1688 q1690 qs63 dX0_chance_18 [] rfl (Nat.le_of_ble_eq_true rfl) hf (fun h13 hf => ?_)
    refine v_aload_n ok 0 dX0_chance_21 rfl rfl ?_
    refine v_gR ok fl_X0_69 (by first | exact Or.inl ⟨_, rfl⟩ | exact Or.inr ⟨_, rfl⟩) dX0_chance_22 hf (fun v14 hf => ?_)
    refine v_iconst ok 0 dX0_chance_25 rfl ?_
    refine v_pIN ok fl_X0_330 ⟨fun _ _ _ => rfl, rfl⟩ (FNN.of cf_5.1 rfl) dX0_chance_26 hf (fun h15 hf => ?_)
    refine v_iconst ok 0 dX0_chance_29 rfl ?_
    refine v_istore_n ok 2 dX0_chance_30 rfl (by decide) ?_
    exact W_X0_chance_31 ok hr hva hth hd hf hk ⟨rfl, rfl, rfl, trivial⟩
  ·
    refine v_aload_n ok 0 dX0_chance_11 rfl rfl ?_
    refine v_iconst ok 3 dX0_chance_12 rfl ?_
    refine v_cVi ok (RX0, TX0, 18) cf_0.1 [vi 3] (F := fun a => X0_refuses a 3 h12) (fun a v h1 _ hv => M_X0_refuses ok.2.2.2.2.2.2.1 (d := 1) (Nat.le_refl _) hv) (by omega) cw_X0_refuses q645 q647 qs4 dX0_chance_13 [] rfl (Nat.le_of_ble_eq_true rfl) hf (fun v16 h17 hf => ?_)
    exact v_iret ok hr (by cases hf; exact hk) dX0_chance_16
theorem M_X0_chance {G : GT} {l : Launch} (hG : Glob G) {va : VaT} {th : ThT} {e : Nat} (hva : DVA G l e va) (hth : DTH G l e th) {d : Nat} (hd : e + 9 ≤ d) {a0 : Nat} {x1 : Int32} {h : AH} {v : Int32} {h' : AH} (hf : X0_chance va th a0 x1 h = some (v, h')) : MM G l yX0_chance cX0_chance 3 (Option.some Jvm.ClassFile.FieldType.int) d [vr (some a0), vi x1] h (some (vi v)) h' := by
  refine mm_of hG (plainFor_of_name (by decide)) (Nat.le_of_ble_eq_true rfl) (fun X hX ok hr hnm => ?_)
  subst hX
  exact W_X0_chance ok hr hva hth hd hf rfl ⟨rfl, rfl, trivial⟩
theorem cw_X0_stroke : CW yX0_stroke cX0_stroke 5 (Option.some Jvm.ClassFile.FieldType.boolean) 4 := ⟨q1701, q168, ⟨by decide, by decide⟩, by decide +kernel, by decide⟩
theorem W_X0_stroke_58 {G : GT} {X : CX} {d : Nat} {h0 : AH} {Q : State → Prop} (ok : Ok G X RX0 cX0_stroke 5 d h0) (hr : (cxm X).sig.returnType = (Option.some Jvm.ClassFile.FieldType.boolean)) (hd : 6 ≤ d) {a0 : Nat} {h : AH} {z : (Int32 × AH)} (hf : X0_stroke_58 a0 h = some z) (hk : Q = QM G X h0 (some (vi z.1)) z.2) {lv : List (Nat × AV)} (hl : lle lv [(0, vr (some a0))]) : V G X 5 h0 Q h 58 lv [] := by
  refine V.sub hl ?_
  unfold X0_stroke_58 at hf
  refine v_aload_n ok 0 dX0_stroke_58 rfl rfl ?_
  refine v_iconst ok 2 dX0_stroke_59 rfl ?_
  refine v_cVi ok (RX0, TX0, 18) cf_0.1 [vi 2] (F := fun a => X0_refuses a 2 h) (fun a v h1 _ hv => M_X0_refuses ok.2.2.2.2.2.2.1 (d := 1) (Nat.le_refl _) hv) (by exact Nat.le_trans (by decide) hd) cw_X0_refuses q645 q647 qs4 dX0_stroke_60 [] rfl (Nat.le_of_ble_eq_true rfl) hf (fun v1 h2 hf => ?_)
  refine v_if_lt ok 70 dX0_stroke_63 rfl hf (fun hf => ?_) (fun hf => ?_)
  ·
    refine v_iconst ok 0 dX0_stroke_70 rfl ?_
    exact v_zretL ok hr (by decide) (by decide) (by cases hf; exact hk) dX0_stroke_71
  ·
    refine v_iconst ok 1 dX0_stroke_66 rfl ?_
    refine v_goto ok 71 dX0_stroke_67 rfl ?_
    exact v_zretL ok hr (by decide) (by decide) (by cases hf; exact hk) dX0_stroke_71
theorem W_X0_stroke_55 {G : GT} {X : CX} {d : Nat} {h0 : AH} {Q : State → Prop} (ok : Ok G X RX0 cX0_stroke 5 d h0) (hr : (cxm X).sig.returnType = (Option.some Jvm.ClassFile.FieldType.boolean)) (hd : 6 ≤ d) {a0 : Nat} {x1 : Int32} {x2 : Int32} {x3 : Int32} {s0 : Int32} {s1 : Int32} {h : AH} {z : (Int32 × AH)} (hf : X0_stroke_55 a0 x1 x2 x3 s0 s1 h = some z) (hk : Q = QM G X h0 (some (vi z.1)) z.2) {lv : List (Nat × AV)} (hl : lle lv [(0, vr (some a0)), (1, vi x1), (2, vi x2), (3, vi x3)]) : V G X 5 h0 Q h 55 lv [vi s1, vi s0] := by
  refine V.sub hl ?_
  unfold X0_stroke_55 at hf
  refine v_icmp_ne ok 72 dX0_stroke_55 rfl hf (fun hf => ?_) (fun hf => ?_)
  ·
    refine v_aload_n ok 0 dX0_stroke_72 rfl rfl ?_
    refine v_cVv ok (RX0, TX0, 18) cf_0.1 [] (F := fun a => X0_keeps a h) (fun a h1 _ hv => M_X0_keeps ok.2.2.2.2.2.2.1 (d := 2) (Nat.le_refl _) hv) (by exact Nat.le_trans (by decide) hd) cw_X0_keeps q1688 q1690 qs63 dX0_stroke_73 [] rfl (Nat.le_of_ble_eq_true rfl) hf (fun h3 hf => ?_)
    refine v_aload_n ok 0 dX0_stroke_76 rfl rfl ?_
    refine v_gR ok fl_X0_69 (by first | exact Or.inl ⟨_, rfl⟩ | exact Or.inr ⟨_, rfl⟩) dX0_stroke_77 hf (fun v4 hf => ?_)
    refine v_gRN ok fl_X0_248 (by first | exact Or.inl ⟨_, rfl⟩ | exact Or.inr ⟨_, rfl⟩) dX0_stroke_80 hf (fun v5 hf => ?_)
    refine v_iload_n ok 1 dX0_stroke_83 rfl rfl ?_
    refine v_aald6 ok rfl dX0_stroke_84 hf (fun v6 hf => ?_)
    refine v_iload_n ok 2 dX0_stroke_85 rfl rfl ?_
    refine v_dup2 ok dX0_stroke_86 rfl rfl ?_
    refine v_iald ok rfl dX0_stroke_87 hf (fun v7 hf => ?_)
    refine v_iconst ok 1 dX0_stroke_88 rfl ?_
    refine v_iload_n ok 3 dX0_stroke_89 rfl rfl ?_
    refine v_ishl ok dX0_stroke_90 ?_
    refine v_ixor ok dX0_stroke_91 ?_
    refine v_iast ok rfl dX0_stroke_92 hf (fun h8 hf => ?_)
    refine v_iconst ok 1 dX0_stroke_93 rfl ?_
    exact v_zretL ok hr (by decide) (by decide) (by cases hf; exact hk) dX0_stroke_94
  ·
    exact W_X0_stroke_58 ok hr hd hf hk ⟨rfl, trivial⟩
theorem W_X0_stroke {G : GT} {X : CX} {d : Nat} {h0 : AH} {Q : State → Prop} (ok : Ok G X RX0 cX0_stroke 5 d h0) (hr : (cxm X).sig.returnType = (Option.some Jvm.ClassFile.FieldType.boolean)) (hd : 6 ≤ d) {a0 : Nat} {x1 : Int32} {x2 : Int32} {x3 : Int32} {x4 : Int32} {h : AH} {z : (Int32 × AH)} (hf : X0_stroke a0 x1 x2 x3 x4 h = some z) (hk : Q = QM G X h0 (some (vi z.1)) z.2) {lv : List (Nat × AV)} (hl : lle lv [(0, vr (some a0)), (1, vi x1), (2, vi x2), (3, vi x3), (4, vi x4)]) : V G X 5 h0 Q h 0 lv [] := by
  refine V.sub hl ?_
  unfold X0_stroke at hf
  refine v_aload_n ok 0 dX0_stroke_0 rfl rfl ?_
  refine v_iload_n ok 1 dX0_stroke_1 rfl rfl ?_
  refine v_iload_n ok 2 dX0_stroke_2 rfl rfl ?_
  refine v_cVi ok (RX0, TX0, 18) cf_0.1 [vi x1, vi x2] (F := fun a => X0_isPlace a x1 x2 h) (fun a v h1 _ hv => M_X0_isPlace ok.2.2.2.2.2.2.1 (d := 5) (Nat.le_refl _) hv) (by exact Nat.le_trans (by decide) hd) cw_X0_isPlace q1389 q1391 qs41 dX0_stroke_3 [] rfl (Nat.le_of_ble_eq_true rfl) hf (fun v9 h10 hf => ?_)
  refine v_if_eq ok 58 dX0_stroke_6 rfl hf (fun hf => ?_) (fun hf => ?_)
  ·
    exact W_X0_stroke_58 ok hr hd hf hk ⟨rfl, trivial⟩
  ·
    refine v_iload_n ok 3 dX0_stroke_9 rfl rfl ?_
    refine v_iconst ok 0 dX0_stroke_10 rfl ?_
    refine v_bipush ok 14 dX0_stroke_11 rfl ?_
    refine v_cSi ok [vi x3, vi 0, vi 14] (F := X0_is x3 0 14 h10) (fun v h1 hv => M_X0_is ok.2.2.2.2.2.2.1 (d := 1) (Nat.le_refl _) hv) (by exact Nat.le_trans (by decide) hd) cw_X0_is q1355 q899 dX0_stroke_13 [] rfl (Nat.le_of_ble_eq_true rfl) hf (fun v11 h12 hf => ?_)
    refine v_if_eq ok 58 dX0_stroke_16 rfl hf (fun hf => ?_) (fun hf => ?_)
    ·
      exact W_X0_stroke_58 ok hr hd hf hk ⟨rfl, trivial⟩
    ·
      refine v_iload ok dX0_stroke_19 rfl ?_
      refine v_iconst ok 0 dX0_stroke_21 rfl ?_
      refine v_iconst ok 1 dX0_stroke_22 rfl ?_
      refine v_cSi ok [vi x4, vi 0, vi 1] (F := X0_is x4 0 1 h12) (fun v h1 hv => M_X0_is ok.2.2.2.2.2.2.1 (d := 1) (Nat.le_refl _) hv) (by exact Nat.le_trans (by decide) hd) cw_X0_is q1355 q899 dX0_stroke_23 [] rfl (Nat.le_of_ble_eq_true rfl) hf (fun v13 h14 hf => ?_)
      refine v_if_eq ok 58 dX0_stroke_26 rfl hf (fun hf => ?_) (fun hf => ?_)
      ·
        exact W_X0_stroke_58 ok hr hd hf hk ⟨rfl, trivial⟩
      ·
        refine v_aload_n ok 0 dX0_stroke_29 rfl rfl ?_
        refine v_gR ok fl_X0_69 (by first | exact Or.inl ⟨_, rfl⟩ | exact Or.inr ⟨_, rfl⟩) dX0_stroke_30 hf (fun v15 hf => ?_)
        refine v_gRN ok fl_X0_248 (by first | exact Or.inl ⟨_, rfl⟩ | exact Or.inr ⟨_, rfl⟩) dX0_stroke_33 hf (fun v16 hf => ?_)
        refine v_iload_n ok 1 dX0_stroke_36 rfl rfl ?_
        refine v_aald6 ok rfl dX0_stroke_37 hf (fun v17 hf => ?_)
        refine v_iload_n ok 2 dX0_stroke_38 rfl rfl ?_
        refine v_iald ok rfl dX0_stroke_39 hf (fun v18 hf => ?_)
        refine v_iload_n ok 3 dX0_stroke_40 rfl rfl ?_
        refine v_cSi ok [vi v18, vi x3] (F := X0_has v18 x3 h14) (fun v h1 hv => M_X0_has ok.2.2.2.2.2.2.1 (d := 1) (Nat.le_refl _) hv) (by exact Nat.le_trans (by decide) hd) cw_X0_has q1679 q1121 dX0_stroke_41 [] rfl (Nat.le_of_ble_eq_true rfl) hf (fun v19 h20 hf => ?_)
        refine v_iload ok dX0_stroke_44 rfl ?_
        refine v_iconst ok 1 dX0_stroke_46 rfl ?_
        refine v_icmp_ne ok 54 dX0_stroke_47 rfl hf (fun hf => ?_) (fun hf => ?_)
        ·
          refine v_iconst ok 0 dX0_stroke_54 rfl ?_
          exact W_X0_stroke_55 ok hr hd hf hk ⟨rfl, rfl, rfl, rfl, trivial⟩
        ·
          refine v_iconst ok 1 dX0_stroke_50 rfl ?_
          refine v_goto ok 55 dX0_stroke_51 rfl ?_
          exact W_X0_stroke_55 ok hr hd hf hk ⟨rfl, rfl, rfl, rfl, trivial⟩
theorem M_X0_stroke {G : GT} {l : Launch} (hG : Glob G) {d : Nat} (hd : 6 ≤ d) {a0 : Nat} {x1 : Int32} {x2 : Int32} {x3 : Int32} {x4 : Int32} {h : AH} {v : Int32} {h' : AH} (hf : X0_stroke a0 x1 x2 x3 x4 h = some (v, h')) : MM G l yX0_stroke cX0_stroke 5 (Option.some Jvm.ClassFile.FieldType.boolean) d [vr (some a0), vi x1, vi x2, vi x3, vi x4] h (some (vi v)) h' := by
  refine mm_of hG (plainFor_of_name (by decide)) (Nat.le_of_ble_eq_true rfl) (fun X hX ok hr hnm => ?_)
  subst hX
  exact W_X0_stroke ok hr hd hf rfl ⟨rfl, rfl, rfl, rfl, rfl, trivial⟩
theorem cw_X0_paint : CW yX0_paint cX0_paint 4 (Option.some Jvm.ClassFile.FieldType.boolean) 3 := ⟨q1705, q168, ⟨by decide, by decide⟩, by decide +kernel, by decide⟩
theorem W_X0_paint_17 {G : GT} {X : CX} {d : Nat} {h0 : AH} {Q : State → Prop} (ok : Ok G X RX0 cX0_paint 4 d h0) (hr : (cxm X).sig.returnType = (Option.some Jvm.ClassFile.FieldType.boolean)) (hd : 9 ≤ d) {a0 : Nat} {h : AH} {z : (Int32 × AH)} (hf : X0_paint_17 a0 h = some z) (hk : Q = QM G X h0 (some (vi z.1)) z.2) {lv : List (Nat × AV)} (hl : lle lv [(0, vr (some a0))]) : V G X 4 h0 Q h 17 lv [] := by
  refine V.sub hl ?_
  unfold X0_paint_17 at hf
  refine v_aload_n ok 0 dX0_paint_17 rfl rfl ?_
  refine v_iconst ok 2 dX0_paint_18 rfl ?_
  refine v_cVi ok (RX0, TX0, 18) cf_0.1 [vi 2] (F := fun a => X0_refuses a 2 h) (fun a v h1 _ hv => M_X0_refuses ok.2.2.2.2.2.2.1 (d := 1) (Nat.le_refl _) hv) (by exact Nat.le_trans (by decide) hd) cw_X0_refuses q645 q647 qs4 dX0_paint_19 [] rfl (Nat.le_of_ble_eq_true rfl) hf (fun v1 h2 hf => ?_)
  refine v_if_lt ok 29 dX0_paint_22 rfl hf (fun hf => ?_) (fun hf => ?_)
  ·
    refine v_iconst ok 0 dX0_paint_29 rfl ?_
    exact v_zretL ok hr (by decide) (by decide) (by cases hf; exact hk) dX0_paint_30
  ·
    refine v_iconst ok 1 dX0_paint_25 rfl ?_
    refine v_goto ok 30 dX0_paint_26 rfl ?_
    exact v_zretL ok hr (by decide) (by decide) (by cases hf; exact hk) dX0_paint_30
theorem W_X0_paint {G : GT} {X : CX} {d : Nat} {h0 : AH} {Q : State → Prop} (ok : Ok G X RX0 cX0_paint 4 d h0) (hr : (cxm X).sig.returnType = (Option.some Jvm.ClassFile.FieldType.boolean)) (hd : 9 ≤ d) {a0 : Nat} {x1 : Int32} {x2 : Int32} {x3 : Int32} {h : AH} {z : (Int32 × AH)} (hf : X0_paint a0 x1 x2 x3 h = some z) (hk : Q = QM G X h0 (some (vi z.1)) z.2) {lv : List (Nat × AV)} (hl : lle lv [(0, vr (some a0)), (1, vi x1), (2, vi x2), (3, vi x3)]) : V G X 4 h0 Q h 0 lv [] := by
  refine V.sub hl ?_
  unfold X0_paint at hf
  refine v_aload_n ok 0 dX0_paint_0 rfl rfl ?_
  refine v_iload_n ok 1 dX0_paint_1 rfl rfl ?_
  refine v_cVi ok (RX0, TX0, 18) cf_0.1 [vi x1] (F := fun a => X0_isBoard a x1 h) (fun a v h1 _ hv => M_X0_isBoard ok.2.2.2.2.2.2.1 (d := 3) (Nat.le_refl _) hv) (by exact Nat.le_trans (by decide) hd) cw_X0_isBoard q1380 q1382 qs40 dX0_paint_2 [] rfl (Nat.le_of_ble_eq_true rfl) hf (fun v3 h4 hf => ?_)
  refine v_if_eq ok 17 dX0_paint_5 rfl hf (fun hf => ?_) (fun hf => ?_)
  ·
    exact W_X0_paint_17 ok hr hd hf hk ⟨rfl, trivial⟩
  ·
    refine v_aload_n ok 0 dX0_paint_8 rfl rfl ?_
    refine v_iload_n ok 2 dX0_paint_9 rfl rfl ?_
    refine v_iload_n ok 3 dX0_paint_10 rfl rfl ?_
    refine v_cVi ok (RX0, TX0, 18) cf_0.1 [vi x2, vi x3] (F := fun a => X0_canPaint a x2 x3 h4) (fun a v h1 _ hv => M_X0_canPaint ok.2.2.2.2.2.2.1 (d := 8) (Nat.le_refl _) hv) (by exact Nat.le_trans (by decide) hd) cw_X0_canPaint q1619 q1621 qs59 dX0_paint_11 [] rfl (Nat.le_of_ble_eq_true rfl) hf (fun v5 h6 hf => ?_)
    refine v_if_ne ok 31 dX0_paint_14 rfl hf (fun hf => ?_) (fun hf => ?_)
    ·
      refine v_aload_n ok 0 dX0_paint_31 rfl rfl ?_
      refine v_cVv ok (RX0, TX0, 18) cf_0.1 [] (F := fun a => X0_keeps a h6) (fun a h1 _ hv => M_X0_keeps ok.2.2.2.2.2.2.1 (d := 2) (Nat.le_refl _) hv) (by exact Nat.le_trans (by decide) hd) cw_X0_keeps q1688 q1690 qs63 dX0_paint_32 [] rfl (Nat.le_of_ble_eq_true rfl) hf (fun h7 hf => ?_)
      refine v_aload_n ok 0 dX0_paint_35 rfl rfl ?_
      refine v_gR ok fl_X0_69 (by first | exact Or.inl ⟨_, rfl⟩ | exact Or.inr ⟨_, rfl⟩) dX0_paint_36 hf (fun v8 hf => ?_)
      refine v_iload_n ok 1 dX0_paint_39 rfl rfl ?_
      refine v_iload_n ok 2 dX0_paint_40 rfl rfl ?_
      refine v_iload_n ok 3 dX0_paint_41 rfl rfl ?_
      refine v_cVv ok (RX5, TX5, 10) cf_5.1 [vi x1, vi x2, vi x3] (F := fun a => X5_paints a x1 x2 x3 h7) (fun a h1 _ hv => M_X5_paints ok.2.2.2.2.2.2.1 (d := 8) (Nat.le_refl _) hv) (by exact Nat.le_trans (by decide) hd) cw_X5_paints q1706 q1301 q1302 dX0_paint_42 [] rfl (Nat.le_of_ble_eq_true rfl) hf (fun h9 hf => ?_)
      refine v_iconst ok 1 dX0_paint_45 rfl ?_
      exact v_zretL ok hr (by decide) (by decide) (by cases hf; exact hk) dX0_paint_46
    ·
      exact W_X0_paint_17 ok hr hd hf hk ⟨rfl, trivial⟩
theorem M_X0_paint {G : GT} {l : Launch} (hG : Glob G) {d : Nat} (hd : 9 ≤ d) {a0 : Nat} {x1 : Int32} {x2 : Int32} {x3 : Int32} {h : AH} {v : Int32} {h' : AH} (hf : X0_paint a0 x1 x2 x3 h = some (v, h')) : MM G l yX0_paint cX0_paint 4 (Option.some Jvm.ClassFile.FieldType.boolean) d [vr (some a0), vi x1, vi x2, vi x3] h (some (vi v)) h' := by
  refine mm_of hG (plainFor_of_name (by decide)) (Nat.le_of_ble_eq_true rfl) (fun X hX ok hr hnm => ?_)
  subst hX
  exact W_X0_paint ok hr hd hf rfl ⟨rfl, rfl, rfl, rfl, trivial⟩
theorem cw_X0_seed : CW yX0_seed cX0_seed 2 (Option.some Jvm.ClassFile.FieldType.boolean) 1 := ⟨q1710, q168, ⟨by decide, by decide⟩, by decide +kernel, by decide⟩
theorem W_X0_seed {G : GT} {X : CX} {d : Nat} {h0 : AH} {Q : State → Prop} (ok : Ok G X RX0 cX0_seed 2 d h0) (hr : (cxm X).sig.returnType = (Option.some Jvm.ClassFile.FieldType.boolean)) (hd : 2 ≤ d) {a0 : Nat} {x1 : Int32} {h : AH} {z : (Int32 × AH)} (hf : X0_seed a0 x1 h = some z) (hk : Q = QM G X h0 (some (vi z.1)) z.2) {lv : List (Nat × AV)} (hl : lle lv [(0, vr (some a0)), (1, vi x1)]) : V G X 2 h0 Q h 0 lv [] := by
  refine V.sub hl ?_
  unfold X0_seed at hf
  refine v_iload_n ok 1 dX0_seed_0 rfl rfl ?_
  refine v_if_ge ok 18 dX0_seed_1 rfl hf (fun hf => ?_) (fun hf => ?_)
  ·
    refine v_aload_n ok 0 dX0_seed_18 rfl rfl ?_
    refine v_iload_n ok 1 dX0_seed_19 rfl rfl ?_
    refine v_i2l ok dX0_seed_20 ?_
    refine v_pL ok fl_X0_87 rfl (FN.of cf_0.1 rfl) dX0_seed_21 hf (fun h1 hf => ?_)
    refine v_iconst ok 1 dX0_seed_24 rfl ?_
    exact v_zretL ok hr (by decide) (by decide) (by cases hf; exact hk) dX0_seed_25
  ·
    refine v_aload_n ok 0 dX0_seed_4 rfl rfl ?_
    refine v_iconst ok 5 dX0_seed_5 rfl ?_
    refine v_cVi ok (RX0, TX0, 18) cf_0.1 [vi 5] (F := fun a => X0_refuses a 5 h) (fun a v h1 _ hv => M_X0_refuses ok.2.2.2.2.2.2.1 (d := 1) (Nat.le_refl _) hv) (by exact Nat.le_trans (by decide) hd) cw_X0_refuses q645 q647 qs4 dX0_seed_6 [] rfl (Nat.le_of_ble_eq_true rfl) hf (fun v2 h3 hf => ?_)
    refine v_if_lt ok 16 dX0_seed_9 rfl hf (fun hf => ?_) (fun hf => ?_)
    ·
      refine v_iconst ok 0 dX0_seed_16 rfl ?_
      exact v_zretL ok hr (by decide) (by decide) (by cases hf; exact hk) dX0_seed_17
    ·
      refine v_iconst ok 1 dX0_seed_12 rfl ?_
      refine v_goto ok 17 dX0_seed_13 rfl ?_
      exact v_zretL ok hr (by decide) (by decide) (by cases hf; exact hk) dX0_seed_17
theorem M_X0_seed {G : GT} {l : Launch} (hG : Glob G) {d : Nat} (hd : 2 ≤ d) {a0 : Nat} {x1 : Int32} {h : AH} {v : Int32} {h' : AH} (hf : X0_seed a0 x1 h = some (v, h')) : MM G l yX0_seed cX0_seed 2 (Option.some Jvm.ClassFile.FieldType.boolean) d [vr (some a0), vi x1] h (some (vi v)) h' := by
  refine mm_of hG (plainFor_of_name (by decide)) (Nat.le_of_ble_eq_true rfl) (fun X hX ok hr hnm => ?_)
  subst hX
  exact W_X0_seed ok hr hd hf rfl ⟨rfl, rfl, trivial⟩
theorem cw_X0_inkOf : CW yX0_inkOf cX0_inkOf 4 (Option.some Jvm.ClassFile.FieldType.int) 1 := ⟨q1747, q168, ⟨by decide, by decide⟩, by decide +kernel, by decide⟩
def pkX0_inkOf_4 (G : GT) (X : CX) (h0 : AH) (Q : State → Prop) (a0 : Nat) (x1 : Int32) (o : ((Int32 × Int32 × AH) ⊕ (Int32 × AH))) : Prop := match o with
  | .inl s => ∀ lv : List (Nat × AV), lle lv [(0, vr (some a0)), (1, vi x1), (2, vi s.1), (3, vi s.2.1)] → V G X 4 h0 Q s.2.2 4 lv []
  | .inr z => Q = QM G X h0 (some (vi z.1)) z.2
theorem W_X0_inkOf_4b {G : GT} {X : CX} {d : Nat} {h0 : AH} {Q : State → Prop} (ok : Ok G X RX0 cX0_inkOf 4 d h0) (hr : (cxm X).sig.returnType = (Option.some Jvm.ClassFile.FieldType.int)) (hd : 8 ≤ d) {a0 : Nat} {x1 : Int32} {x2 : Int32} {x3 : Int32} {h : AH} {z : ((Int32 × Int32 × AH) ⊕ (Int32 × AH))} (hf : X0_inkOf_4b  a0 x1 x2 x3 h = some z) (hk : pkX0_inkOf_4 G X h0 Q a0 x1 z) {lv : List (Nat × AV)} (hl : lle lv [(0, vr (some a0)), (1, vi x1), (2, vi x2), (3, vi x3)]) : V G X 4 h0 Q h 4 lv [] := by
  refine V.sub hl ?_
  unfold X0_inkOf_4b at hf
  refine v_iload_n ok 3 dX0_inkOf_4 rfl rfl ?_
  refine v_aload_n ok 0 dX0_inkOf_5 rfl rfl ?_
  refine v_gR ok fl_X0_31 (by first | exact Or.inl ⟨_, rfl⟩ | exact Or.inr ⟨_, rfl⟩) dX0_inkOf_6 hf (fun v1 hf => ?_)
  refine v_gRN ok fl_X0_133 (by first | exact Or.inl ⟨_, rfl⟩ | exact Or.inr ⟨_, rfl⟩) dX0_inkOf_9 hf (fun v2 hf => ?_)
  refine v_iload_n ok 1 dX0_inkOf_12 rfl rfl ?_
  refine v_cFr ok (RJ2, TJ2, 3) cf_23.1 [vi x1] (F := fun a => J2_get a x1 h) (fun a v h1 _ hv => M_J2_get ok.2.2.2.2.2.2.1 (d := 3) (Nat.le_refl _) hv) (by exact Nat.le_trans (by decide) hd) cw_J2_get q1327 q907 cwf_J2_get dX0_inkOf_13 [vi x3] rfl (Nat.le_of_ble_eq_true rfl) hf (fun v3 h4 hf => ?_)
  refine v_cast_ ok ck_TurnedBoards_Word q1374 dX0_inkOf_18 hf (fun hf => ?_)
  refine v_cVi ok (RX9, TX9, 1) cf_9.1 [] (F := fun a => X9_size a h4) (fun a v h1 _ hv => M_X9_size ok.2.2.2.2.2.2.1 (d := 3) (Nat.le_refl _) hv) (by exact Nat.le_trans (by decide) hd) cw_X9_size q1507 q989 q990 dX0_inkOf_21 [vi x3] rfl (Nat.le_of_ble_eq_true rfl) hf (fun v5 h6 hf => ?_)
  refine v_icmp_ge ok 49 dX0_inkOf_24 rfl hf (fun hf => ?_) (fun hf => ?_)
  ·
    refine v_iload_n ok 2 dX0_inkOf_49 rfl rfl ?_
    exact v_iret ok hr (by cases hf; exact hk) dX0_inkOf_50
  ·
    refine v_iload_n ok 2 dX0_inkOf_27 rfl rfl ?_
    refine v_aload_n ok 0 dX0_inkOf_28 rfl rfl ?_
    refine v_gR ok fl_X0_31 (by first | exact Or.inl ⟨_, rfl⟩ | exact Or.inr ⟨_, rfl⟩) dX0_inkOf_29 hf (fun v7 hf => ?_)
    refine v_iconst ok 0 dX0_inkOf_32 rfl ?_
    refine v_iload_n ok 1 dX0_inkOf_33 rfl rfl ?_
    refine v_iload_n ok 3 dX0_inkOf_34 rfl rfl ?_
    refine v_cVi ok (RX1, TX1, 9) cf_1.1 [vi 0, vi x1, vi x3] (F := fun a => X1_glyph a 0 x1 x3 h6) (fun a v h1 _ hv => M_X1_glyph ok.2.2.2.2.2.2.1 (d := 7) (Nat.le_refl _) hv) (by exact Nat.le_trans (by decide) hd) cw_X1_glyph q1624 q1311 q1312 dX0_inkOf_35 [vi x2] rfl (Nat.le_of_ble_eq_true rfl) hf (fun v8 h9 hf => ?_)
    refine v_cSi ok [vi v8] (F := J16_bitCount v8 h9) (fun v h1 hv => M_J16_bitCount ok.2.2.2.2.2.2.1 (d := 1) (Nat.le_refl _) hv) (by exact Nat.le_trans (by decide) hd) cw_J16_bitCount q1415 q1339 dX0_inkOf_38 [vi x2] rfl (Nat.le_of_ble_eq_true rfl) hf (fun v10 h11 hf => ?_)
    refine v_iadd ok dX0_inkOf_41 ?_
    refine v_istore_n ok 2 dX0_inkOf_42 rfl (by decide) ?_
    refine v_iinc ok x3 (x3 + 1) dX0_inkOf_43 rfl rfl (by decide) ?_
    refine v_goto ok 4 dX0_inkOf_46 rfl ?_
    cases hf; exact hk _ ⟨rfl, rfl, rfl, rfl, trivial⟩
theorem W_X0_inkOf_4 {G : GT} {X : CX} {d : Nat} {h0 : AH} {Q : State → Prop} (ok : Ok G X RX0 cX0_inkOf 4 d h0) (hr : (cxm X).sig.returnType = (Option.some Jvm.ClassFile.FieldType.int)) (hd : 8 ≤ d) {a0 : Nat} {x1 : Int32} {x2 : Int32} {x3 : Int32} {h : AH} {z : (Int32 × AH)} (hf : X0_inkOf_4  a0 x1 x2 x3 h = some z) (hk : Q = QM G X h0 (some (vi z.1)) z.2) {lv : List (Nat × AV)} (hl : lle lv [(0, vr (some a0)), (1, vi x1), (2, vi x2), (3, vi x3)]) : V G X 4 h0 Q h 4 lv [] := by
  unfold X0_inkOf_4 at hf
  exact loopC_walk (Wh := fun s : Int32 × Int32 × AH => ∀ lv : List (Nat × AV), lle lv [(0, vr (some a0)), (1, vi x1), (2, vi s.1), (3, vi s.2.1)] → V G X 4 h0 Q s.2.2 4 lv []) (PK := fun z => Q = QM G X h0 (some (vi z.1)) z.2) (fun s o hf hk lv hl => W_X0_inkOf_4b ok hr hd hf (by cases o <;> exact hk) hl) _ z hf hk lv hl
theorem W_X0_inkOf {G : GT} {X : CX} {d : Nat} {h0 : AH} {Q : State → Prop} (ok : Ok G X RX0 cX0_inkOf 4 d h0) (hr : (cxm X).sig.returnType = (Option.some Jvm.ClassFile.FieldType.int)) (hd : 8 ≤ d) {a0 : Nat} {x1 : Int32} {h : AH} {z : (Int32 × AH)} (hf : X0_inkOf a0 x1 h = some z) (hk : Q = QM G X h0 (some (vi z.1)) z.2) {lv : List (Nat × AV)} (hl : lle lv [(0, vr (some a0)), (1, vi x1)]) : V G X 4 h0 Q h 0 lv [] := by
  refine V.sub hl ?_
  unfold X0_inkOf at hf
  refine v_iconst ok 0 dX0_inkOf_0 rfl ?_
  refine v_istore_n ok 2 dX0_inkOf_1 rfl (by decide) ?_
  refine v_iconst ok 0 dX0_inkOf_2 rfl ?_
  refine v_istore_n ok 3 dX0_inkOf_3 rfl (by decide) ?_
  exact W_X0_inkOf_4 ok hr hd hf hk ⟨rfl, rfl, rfl, rfl, trivial⟩
theorem M_X0_inkOf {G : GT} {l : Launch} (hG : Glob G) {d : Nat} (hd : 8 ≤ d) {a0 : Nat} {x1 : Int32} {h : AH} {v : Int32} {h' : AH} (hf : X0_inkOf a0 x1 h = some (v, h')) : MM G l yX0_inkOf cX0_inkOf 4 (Option.some Jvm.ClassFile.FieldType.int) d [vr (some a0), vi x1] h (some (vi v)) h' := by
  refine mm_of hG (plainFor_of_name (by decide)) (Nat.le_of_ble_eq_true rfl) (fun X hX ok hr hnm => ?_)
  subst hX
  exact W_X0_inkOf ok hr hd hf rfl ⟨rfl, rfl, trivial⟩
theorem cw_X22_answer : CW yX22_answer cX22_answer 1 (Option.some Jvm.ClassFile.FieldType.long) 0 := ⟨q1759, q208, ⟨by decide, by decide⟩, by decide +kernel, by decide⟩
theorem W_X22_answer_15 {G : GT} {X : CX} {d : Nat} {h0 : AH} {Q : State → Prop} (ok : Ok G X RX22 cX22_answer 1 d h0) (hr : (cxm X).sig.returnType = (Option.some Jvm.ClassFile.FieldType.long)) (hd : 1 ≤ d) {a0 : Nat} {h : AH} {z : (Int64 × AH)} (hf : X22_answer_15 a0 h = some z) (hk : Q = QM G X h0 (some (vl z.1)) z.2) {lv : List (Nat × AV)} (hl : lle lv [(0, vr (some a0))]) : V G X 1 h0 Q h 15 lv [] := by
  refine V.sub hl ?_
  unfold X22_answer_15 at hf
  refine v_aload_n ok 0 dX22_answer_15 rfl rfl ?_
  refine v_gL ok fl_X22_11 rfl dX22_answer_16 hf (fun v1 hf => ?_)
  refine v_goto ok 23 dX22_answer_19 rfl ?_
  exact v_lret ok hr (by cases hf; exact hk) dX22_answer_23
theorem W_X22_answer {G : GT} {X : CX} {d : Nat} {h0 : AH} {Q : State → Prop} (ok : Ok G X RX22 cX22_answer 1 d h0) (hr : (cxm X).sig.returnType = (Option.some Jvm.ClassFile.FieldType.long)) (hd : 1 ≤ d) {a0 : Nat} {h : AH} {z : (Int64 × AH)} (hf : X22_answer a0 h = some z) (hk : Q = QM G X h0 (some (vl z.1)) z.2) {lv : List (Nat × AV)} (hl : lle lv [(0, vr (some a0))]) : V G X 1 h0 Q h 0 lv [] := by
  refine V.sub hl ?_
  unfold X22_answer at hf
  refine v_aload_n ok 0 dX22_answer_0 rfl rfl ?_
  refine v_gI ok fl_X22_41 (fun _ _ _ => rfl) dX22_answer_1 hf (fun v2 hf => ?_)
  refine v_if_ne ok 15 dX22_answer_4 rfl hf (fun hf => ?_) (fun hf => ?_)
  ·
    exact W_X22_answer_15 ok hr hd hf hk ⟨rfl, trivial⟩
  ·
    refine v_aload_n ok 0 dX22_answer_7 rfl rfl ?_
    refine v_gI ok fl_X22_17 (fun _ _ _ => rfl) dX22_answer_8 hf (fun v3 hf => ?_)
    refine v_iconst ok 2 dX22_answer_11 rfl ?_
    refine v_icmp_ge ok 22 dX22_answer_12 rfl hf (fun hf => ?_) (fun hf => ?_)
    ·
      refine v_lconst ok 0 dX22_answer_22 rfl ?_
      exact v_lret ok hr (by cases hf; exact hk) dX22_answer_23
    ·
      exact W_X22_answer_15 ok hr hd hf hk ⟨rfl, trivial⟩
theorem M_X22_answer {G : GT} {l : Launch} (hG : Glob G) {d : Nat} (hd : 1 ≤ d) {a0 : Nat} {h : AH} {v : Int64} {h' : AH} (hf : X22_answer a0 h = some (v, h')) : MM G l yX22_answer cX22_answer 1 (Option.some Jvm.ClassFile.FieldType.long) d [vr (some a0)] h (some (vl v)) h' := by
  refine mm_of hG (plainFor_of_name (by decide)) (Nat.le_of_ble_eq_true rfl) (fun X hX ok hr hnm => ?_)
  subst hX
  exact W_X22_answer ok hr hd hf rfl ⟨rfl, trivial⟩
theorem cw_X22_meets : CW yX22_meets cX22_meets 5 none 2 := ⟨q1751, q208, ⟨by decide, by decide⟩, by decide +kernel, by decide⟩
theorem W_X22_meets_65 {G : GT} {X : CX} {d : Nat} {h0 : AH} {Q : State → Prop} (ok : Ok G X RX22 cX22_meets 5 d h0) (hr : (cxm X).sig.returnType = none) {va : VaT} {th : ThT} {e : Nat} (hva : DVA G X.2.1 e va) (hth : DTH G X.2.1 e th) (hd : e + 2 ≤ d) {a0 : Nat} {s0 : Option Nat} {s1 : Int64} {h : AH} {z : (AH)} (hf : X22_meets_65 va th a0 s0 s1 h = some z) (hk : Q = QM G X h0 none z) {lv : List (Nat × AV)} (hl : lle lv [(0, vr (some a0))]) : V G X 5 h0 Q h 65 lv [vl s1, vr s0] := by
  refine V.sub hl ?_
  unfold X22_meets_65 at hf
  refine v_pL ok fl_X22_11 rfl (FN.of cf_22.1 rfl) dX22_meets_65 hf (fun h1 hf => ?_)
  refine v_aload_n ok 0 dX22_meets_68 rfl rfl ?_
  refine v_iconst ok 1 dX22_meets_69 rfl ?_
  refine v_pZ ok fl_X22_41 ⟨fun _ _ _ => rfl, by first | exact Or.inl rfl | exact Or.inr rfl⟩ (FN.of cf_22.1 rfl) dX22_meets_70 hf (fun h2 hf => ?_)
  exact v_vret ok hr (by cases hf; exact hk) dX22_meets_73
theorem W_X22_meets_63 {G : GT} {X : CX} {d : Nat} {h0 : AH} {Q : State → Prop} (ok : Ok G X RX22 cX22_meets 5 d h0) (hr : (cxm X).sig.returnType = none) {va : VaT} {th : ThT} {e : Nat} (hva : DVA G X.2.1 e va) (hth : DTH G X.2.1 e th) (hd : e + 2 ≤ d) {a0 : Nat} {x1 : Int32} {s0 : Option Nat} {h : AH} {z : (AH)} (hf : X22_meets_63 va th a0 x1 s0 h = some z) (hk : Q = QM G X h0 none z) {lv : List (Nat × AV)} (hl : lle lv [(0, vr (some a0)), (1, vi x1)]) : V G X 5 h0 Q h 63 lv [vr s0] := by
  refine V.sub hl ?_
  unfold X22_meets_63 at hf
  refine v_iload_n ok 1 dX22_meets_63 rfl rfl ?_
  refine v_i2l ok dX22_meets_64 ?_
  exact W_X22_meets_65 ok hr hva hth hd hf hk ⟨rfl, trivial⟩
theorem W_X22_meets_139 {G : GT} {X : CX} {d : Nat} {h0 : AH} {Q : State → Prop} (ok : Ok G X RX22 cX22_meets 5 d h0) (hr : (cxm X).sig.returnType = none) {va : VaT} {th : ThT} {e : Nat} (hva : DVA G X.2.1 e va) (hth : DTH G X.2.1 e th) (hd : e + 2 ≤ d) {a0 : Nat} {s0 : Option Nat} {s1 : Int64} {h : AH} {z : (AH)} (hf : X22_meets_139 va th a0 s0 s1 h = some z) (hk : Q = QM G X h0 none z) {lv : List (Nat × AV)} (hl : lle lv [(0, vr (some a0))]) : V G X 5 h0 Q h 139 lv [vl s1, vr s0] := by
  refine V.sub hl ?_
  unfold X22_meets_139 at hf
  refine v_pL ok fl_X22_11 rfl (FN.of cf_22.1 rfl) dX22_meets_139 hf (fun h3 hf => ?_)
  refine v_aload_n ok 0 dX22_meets_142 rfl rfl ?_
  refine v_iconst ok 1 dX22_meets_143 rfl ?_
  refine v_pZ ok fl_X22_41 ⟨fun _ _ _ => rfl, by first | exact Or.inl rfl | exact Or.inr rfl⟩ (FN.of cf_22.1 rfl) dX22_meets_144 hf (fun h4 hf => ?_)
  exact v_vret ok hr (by cases hf; exact hk) dX22_meets_147
theorem W_X22_meets {G : GT} {X : CX} {d : Nat} {h0 : AH} {Q : State → Prop} (ok : Ok G X RX22 cX22_meets 5 d h0) (hr : (cxm X).sig.returnType = none) {va : VaT} {th : ThT} {e : Nat} (hva : DVA G X.2.1 e va) (hth : DTH G X.2.1 e th) (hd : e + 2 ≤ d) {a0 : Nat} {x1 : Int32} {x2 : Option Nat} {h : AH} {z : (AH)} (hf : X22_meets va th a0 x1 x2 h = some z) (hk : Q = QM G X h0 none z) {lv : List (Nat × AV)} (hl : lle lv [(0, vr (some a0)), (1, vi x1), (2, vr x2)]) : V G X 5 h0 Q h 0 lv [] := by
  refine V.sub hl ?_
  unfold X22_meets at hf
  refine v_aload_n ok 0 dX22_meets_0 rfl rfl ?_
  refine v_gI ok fl_X22_17 (fun _ _ _ => rfl) dX22_meets_1 hf (fun v5 hf => ?_)
  refine v_iconst ok 3 dX22_meets_4 rfl ?_
  refine v_icmp_ge ok 74 dX22_meets_5 rfl hf (fun hf => ?_) (fun hf => ?_)
  ·
    refine v_aload_n ok 0 dX22_meets_74 rfl rfl ?_
    refine v_gR ok fl_X22_25 (by first | exact Or.inl ⟨_, rfl⟩ | exact Or.inr ⟨_, rfl⟩) dX22_meets_75 hf (fun v6 hf => ?_)
    refine v_aload_n ok 2 dX22_meets_78 rfl rfl ?_
    refine v_dva ok hva (by omega) q1754 dX22_meets_79 (Nat.le_of_ble_eq_true rfl) hf (fun v7 h8 hf => ?_)
    refine v_lstore_n ok 3 dX22_meets_82 rfl (by decide) ?_
    refine v_aload_n ok 0 dX22_meets_83 rfl rfl ?_
    refine v_aload_n ok 0 dX22_meets_84 rfl rfl ?_
    refine v_gI ok fl_X22_41 (fun _ _ _ => rfl) dX22_meets_85 hf (fun v9 hf => ?_)
    refine v_if_ne ok 95 dX22_meets_88 rfl hf (fun hf => ?_) (fun hf => ?_)
    ·
      refine v_aload_n ok 0 dX22_meets_95 rfl rfl ?_
      refine v_gI ok fl_X22_17 (fun _ _ _ => rfl) dX22_meets_96 hf (fun v10 hf => ?_)
      refine v_iconst ok 3 dX22_meets_99 rfl ?_
      refine v_icmp_ne ok 112 dX22_meets_100 rfl hf (fun hf => ?_) (fun hf => ?_)
      ·
        refine v_aload_n ok 0 dX22_meets_112 rfl rfl ?_
        refine v_gI ok fl_X22_17 (fun _ _ _ => rfl) dX22_meets_113 hf (fun v11 hf => ?_)
        refine v_iconst ok 4 dX22_meets_116 rfl ?_
        refine v_icmp_ne ok 131 dX22_meets_117 rfl hf (fun hf => ?_) (fun hf => ?_)
        ·
          refine v_aload_n ok 0 dX22_meets_131 rfl rfl ?_
          refine v_gL ok fl_X22_11 rfl dX22_meets_132 hf (fun v12 hf => ?_)
          refine v_lload_n ok 3 dX22_meets_135 rfl rfl ?_
          refine v_cSl ok [vl v12, vl v7] (F := J4_min_2 v12 v7 h8) (fun v h1 hv => M_J4_min_2 ok.2.2.2.2.2.2.1 (d := 1) (Nat.le_refl _) hv) (by omega) cw_J4_min_2 q1755 q1429 dX22_meets_136 [vr (some a0)] rfl (Nat.le_of_ble_eq_true rfl) hf (fun v13 h14 hf => ?_)
          exact W_X22_meets_139 ok hr hva hth hd hf hk ⟨rfl, trivial⟩
        ·
          refine v_aload_n ok 0 dX22_meets_120 rfl rfl ?_
          refine v_gL ok fl_X22_11 rfl dX22_meets_121 hf (fun v15 hf => ?_)
          refine v_lload_n ok 3 dX22_meets_124 rfl rfl ?_
          refine v_cSl ok [vl v15, vl v7] (F := J4_max_2 v15 v7 h8) (fun v h1 hv => M_J4_max_2 ok.2.2.2.2.2.2.1 (d := 1) (Nat.le_refl _) hv) (by omega) cw_J4_max_2 q1753 q1432 dX22_meets_125 [vr (some a0)] rfl (Nat.le_of_ble_eq_true rfl) hf (fun v16 h17 hf => ?_)
          refine v_goto ok 139 dX22_meets_128 rfl ?_
          exact W_X22_meets_139 ok hr hva hth hd hf hk ⟨rfl, trivial⟩
      ·
        refine v_aload_n ok 0 dX22_meets_103 rfl rfl ?_
        refine v_gL ok fl_X22_11 rfl dX22_meets_104 hf (fun v18 hf => ?_)
        refine v_lload_n ok 3 dX22_meets_107 rfl rfl ?_
        refine v_ladd ok dX22_meets_108 ?_
        refine v_goto ok 139 dX22_meets_109 rfl ?_
        exact W_X22_meets_139 ok hr hva hth hd hf hk ⟨rfl, trivial⟩
    ·
      refine v_lload_n ok 3 dX22_meets_91 rfl rfl ?_
      refine v_goto ok 139 dX22_meets_92 rfl ?_
      exact W_X22_meets_139 ok hr hva hth hd hf hk ⟨rfl, trivial⟩
  ·
    refine v_aload_n ok 0 dX22_meets_8 rfl rfl ?_
    refine v_gR ok fl_X22_21 (by first | exact Or.inl ⟨_, rfl⟩ | exact Or.inr ⟨_, rfl⟩) dX22_meets_9 hf (fun v19 hf => ?_)
    refine v_aload_n ok 2 dX22_meets_12 rfl rfl ?_
    refine v_dth ok hth (by omega) q1752 dX22_meets_13 (Nat.le_of_ble_eq_true rfl) hf (fun v20 h21 hf => ?_)
    refine v_if_ne ok 20 dX22_meets_16 rfl hf (fun hf => ?_) (fun hf => ?_)
    ·
      refine v_aload_n ok 0 dX22_meets_20 rfl rfl ?_
      refine v_aload_n ok 0 dX22_meets_21 rfl rfl ?_
      refine v_gI ok fl_X22_17 (fun _ _ _ => rfl) dX22_meets_22 hf (fun v22 hf => ?_)
      refine v_iconst ok 2 dX22_meets_25 rfl ?_
      refine v_icmp_ne ok 42 dX22_meets_26 rfl hf (fun hf => ?_) (fun hf => ?_)
      ·
        refine v_aload_n ok 0 dX22_meets_42 rfl rfl ?_
        refine v_gI ok fl_X22_17 (fun _ _ _ => rfl) dX22_meets_43 hf (fun v23 hf => ?_)
        refine v_if_ne ok 63 dX22_meets_46 rfl hf (fun hf => ?_) (fun hf => ?_)
        ·
          exact W_X22_meets_63 ok hr hva hth hd hf hk ⟨rfl, rfl, trivial⟩
        ·
          refine v_aload_n ok 0 dX22_meets_49 rfl rfl ?_
          refine v_gI ok fl_X22_41 (fun _ _ _ => rfl) dX22_meets_50 hf (fun v24 hf => ?_)
          refine v_if_eq ok 63 dX22_meets_53 rfl hf (fun hf => ?_) (fun hf => ?_)
          ·
            exact W_X22_meets_63 ok hr hva hth hd hf hk ⟨rfl, rfl, trivial⟩
          ·
            refine v_aload_n ok 0 dX22_meets_56 rfl rfl ?_
            refine v_gL ok fl_X22_11 rfl dX22_meets_57 hf (fun v25 hf => ?_)
            refine v_goto ok 65 dX22_meets_60 rfl ?_
            exact W_X22_meets_65 ok hr hva hth hd hf hk ⟨rfl, trivial⟩
      ·
        refine v_lconst ok 0 dX22_meets_29 rfl ?_
        refine v_aload_n ok 0 dX22_meets_30 rfl rfl ?_
        refine v_gL ok fl_X22_11 rfl dX22_meets_31 hf (fun v26 hf => ?_)
        refine v_cSl ok [vl 0, vl v26] (F := J4_max_2 0 v26 h21) (fun v h1 hv => M_J4_max_2 ok.2.2.2.2.2.2.1 (d := 1) (Nat.le_refl _) hv) (by omega) cw_J4_max_2 q1753 q1432 dX22_meets_34 [vr (some a0)] rfl (Nat.le_of_ble_eq_true rfl) hf (fun v27 h28 hf => ?_)
        refine v_lconst ok 1 dX22_meets_37 rfl ?_
        refine v_ladd ok dX22_meets_38 ?_
        refine v_goto ok 65 dX22_meets_39 rfl ?_
        exact W_X22_meets_65 ok hr hva hth hd hf hk ⟨rfl, trivial⟩
    ·
      exact v_vret ok hr (by cases hf; exact hk) dX22_meets_19
theorem M_X22_meets {G : GT} {l : Launch} (hG : Glob G) {va : VaT} {th : ThT} {e : Nat} (hva : DVA G l e va) (hth : DTH G l e th) {d : Nat} (hd : e + 2 ≤ d) {a0 : Nat} {x1 : Int32} {x2 : Option Nat} {h : AH} {h' : AH} (hf : X22_meets va th a0 x1 x2 h = some h') : MM G l yX22_meets cX22_meets 5 none d [vr (some a0), vi x1, vr x2] h none h' := by
  refine mm_of hG (plainFor_of_name (by decide)) (Nat.le_of_ble_eq_true rfl) (fun X hX ok hr hnm => ?_)
  subst hX
  exact W_X22_meets ok hr hva hth hd hf rfl ⟨rfl, rfl, rfl, trivial⟩
theorem cw_X22_init : CW yX22_init cX22_init 4 none 3 := ⟨q1725, q208, ⟨by decide, by decide⟩, by decide +kernel, by decide⟩
theorem W_X22_init {G : GT} {X : CX} {d : Nat} {h0 : AH} {Q : State → Prop} (ok : Ok G X RX22 cX22_init 4 d h0) (hr : (cxm X).sig.returnType = none) (hd : 1 ≤ d) (hnm : (cxm X).name = "<init>") {a0 : Nat} {x1 : Int32} {x2 : Option Nat} {x3 : Option Nat} {h : AH} {z : (AH)} (hf : X22_init a0 x1 x2 x3 h = some z) (hk : Q = QM G X h0 none z) {lv : List (Nat × AV)} (hl : lle lv [(0, vr (some a0)), (1, vi x1), (2, vr x2), (3, vr x3)]) : V G X 4 h0 Q h 0 lv [] := by
  refine V.sub hl ?_
  unfold X22_init at hf
  refine v_aload_n ok 0 dX22_init_0 rfl rfl ?_
  refine v_objInit ok q1726 q215 q216 (by omega) (Nat.le_of_ble_eq_true rfl) dX22_init_1 hf (fun _ hf => ?_)
  refine v_aload_n ok 0 dX22_init_4 rfl rfl ?_
  refine v_ldc2 ok q1727 dX22_init_5 ?_
  refine v_pL ok fl_X22_11 rfl (FN.of cf_22.1 rfl) dX22_init_8 hf (fun h2 hf => ?_)
  refine v_aload_n ok 0 dX22_init_11 rfl rfl ?_
  refine v_iload_n ok 1 dX22_init_12 rfl rfl ?_
  refine v_pI ok fl_X22_17 ⟨fun _ _ _ => rfl, rfl⟩ (FN.ini cf_22.1 rfl hnm rfl) dX22_init_13 hf (fun h3 hf => ?_)
  refine v_aload_n ok 0 dX22_init_16 rfl rfl ?_
  refine v_aload_n ok 2 dX22_init_17 rfl rfl ?_
  refine v_pR ok fl_X22_21 (by first | exact Or.inl ⟨_, rfl⟩ | exact Or.inr ⟨_, rfl⟩) (FN.ini cf_22.1 rfl hnm rfl) dX22_init_18 hf (fun h4 hf => ?_)
  refine v_aload_n ok 0 dX22_init_21 rfl rfl ?_
  refine v_aload_n ok 3 dX22_init_22 rfl rfl ?_
  refine v_pR ok fl_X22_25 (by first | exact Or.inl ⟨_, rfl⟩ | exact Or.inr ⟨_, rfl⟩) (FN.ini cf_22.1 rfl hnm rfl) dX22_init_23 hf (fun h5 hf => ?_)
  exact v_vret ok hr (by cases hf; exact hk) dX22_init_26
theorem M_X22_init {G : GT} {l : Launch} (hG : Glob G) {d : Nat} (hd : 1 ≤ d) {a0 : Nat} {x1 : Int32} {x2 : Option Nat} {x3 : Option Nat} {h : AH} {h' : AH} (hf : X22_init a0 x1 x2 x3 h = some h') : MM G l yX22_init cX22_init 4 none d [vr (some a0), vi x1, vr x2, vr x3] h none h' := by
  refine mm_of hG (plainFor_of_name (by decide)) (Nat.le_of_ble_eq_true rfl) (fun X hX ok hr hnm => ?_)
  subst hX
  exact W_X22_init ok hr hd hnm hf rfl ⟨rfl, rfl, rfl, rfl, trivial⟩
theorem cw_X0_check : CW yX0_check cX0_check 4 (Option.some Jvm.ClassFile.FieldType.int) 2 := ⟨q1770, q168, ⟨by decide, by decide⟩, by decide +kernel, by decide⟩
def pkX0_check_6 (G : GT) (X : CX) (h0 : AH) (Q : State → Prop) (x0 : Option Nat) (x1 : Int32) (o : ((Int32 × Int32 × AH) ⊕ (Int32 × AH))) : Prop := match o with
  | .inl s => ∀ lv : List (Nat × AV), lle lv [(0, vr x0), (1, vi x1), (2, vi s.1), (3, vi s.2.1)] → V G X 4 h0 Q s.2.2 6 lv []
  | .inr z => Q = QM G X h0 (some (vi z.1)) z.2
theorem W_X0_check_6b {G : GT} {X : CX} {d : Nat} {h0 : AH} {Q : State → Prop} (ok : Ok G X RX0 cX0_check 4 d h0) (hr : (cxm X).sig.returnType = (Option.some Jvm.ClassFile.FieldType.int)) (hd : 1 ≤ d) {x0 : Option Nat} {x1 : Int32} {x2 : Int32} {x3 : Int32} {h : AH} {z : ((Int32 × Int32 × AH) ⊕ (Int32 × AH))} (hf : X0_check_6b  x0 x1 x2 x3 h = some z) (hk : pkX0_check_6 G X h0 Q x0 x1 z) {lv : List (Nat × AV)} (hl : lle lv [(0, vr x0), (1, vi x1), (2, vi x2), (3, vi x3)]) : V G X 4 h0 Q h 6 lv [] := by
  refine V.sub hl ?_
  unfold X0_check_6b at hf
  refine v_iload_n ok 3 dX0_check_6 rfl rfl ?_
  refine v_iload_n ok 1 dX0_check_7 rfl rfl ?_
  refine v_icmp_ge ok 33 dX0_check_8 rfl hf (fun hf => ?_) (fun hf => ?_)
  ·
    refine v_iload_n ok 2 dX0_check_33 rfl rfl ?_
    exact v_iret ok hr (by cases hf; exact hk) dX0_check_34
  ·
    refine v_iconst ok 3 dX0_check_11 rfl ?_
    refine v_iload_n ok 2 dX0_check_12 rfl rfl ?_
    refine v_imul ok dX0_check_13 ?_
    refine v_aload_n ok 0 dX0_check_14 rfl rfl ?_
    refine v_iload_n ok 3 dX0_check_15 rfl rfl ?_
    refine v_bald ok rfl dX0_check_16 hf (fun v1 hf => ?_)
    refine v_sipush ok 255 dX0_check_17 rfl ?_
    refine v_iand ok dX0_check_20 ?_
    refine v_iadd ok dX0_check_21 ?_
    refine v_sipush ok 251 dX0_check_22 rfl ?_
    refine v_irem ok dX0_check_25 hf (fun hf => ?_)
    refine v_istore_n ok 2 dX0_check_26 rfl (by decide) ?_
    refine v_iinc ok x3 (x3 + 1) dX0_check_27 rfl rfl (by decide) ?_
    refine v_goto ok 6 dX0_check_30 rfl ?_
    cases hf; exact hk _ ⟨rfl, rfl, rfl, rfl, trivial⟩
theorem W_X0_check_6 {G : GT} {X : CX} {d : Nat} {h0 : AH} {Q : State → Prop} (ok : Ok G X RX0 cX0_check 4 d h0) (hr : (cxm X).sig.returnType = (Option.some Jvm.ClassFile.FieldType.int)) (hd : 1 ≤ d) {x0 : Option Nat} {x1 : Int32} {x2 : Int32} {x3 : Int32} {h : AH} {z : (Int32 × AH)} (hf : X0_check_6  x0 x1 x2 x3 h = some z) (hk : Q = QM G X h0 (some (vi z.1)) z.2) {lv : List (Nat × AV)} (hl : lle lv [(0, vr x0), (1, vi x1), (2, vi x2), (3, vi x3)]) : V G X 4 h0 Q h 6 lv [] := by
  unfold X0_check_6 at hf
  exact loopC_walk (Wh := fun s : Int32 × Int32 × AH => ∀ lv : List (Nat × AV), lle lv [(0, vr x0), (1, vi x1), (2, vi s.1), (3, vi s.2.1)] → V G X 4 h0 Q s.2.2 6 lv []) (PK := fun z => Q = QM G X h0 (some (vi z.1)) z.2) (fun s o hf hk lv hl => W_X0_check_6b ok hr hd hf (by cases o <;> exact hk) hl) _ z hf hk lv hl
theorem W_X0_check {G : GT} {X : CX} {d : Nat} {h0 : AH} {Q : State → Prop} (ok : Ok G X RX0 cX0_check 4 d h0) (hr : (cxm X).sig.returnType = (Option.some Jvm.ClassFile.FieldType.int)) (hd : 1 ≤ d) {x0 : Option Nat} {x1 : Int32} {h : AH} {z : (Int32 × AH)} (hf : X0_check x0 x1 h = some z) (hk : Q = QM G X h0 (some (vi z.1)) z.2) {lv : List (Nat × AV)} (hl : lle lv [(0, vr x0), (1, vi x1)]) : V G X 4 h0 Q h 0 lv [] := by
  refine V.sub hl ?_
  unfold X0_check at hf
  refine v_sipush ok 223 dX0_check_0 rfl ?_
  refine v_istore_n ok 2 dX0_check_3 rfl (by decide) ?_
  refine v_iconst ok 0 dX0_check_4 rfl ?_
  refine v_istore_n ok 3 dX0_check_5 rfl (by decide) ?_
  exact W_X0_check_6 ok hr hd hf hk ⟨rfl, rfl, rfl, rfl, trivial⟩
theorem M_X0_check {G : GT} {l : Launch} (hG : Glob G) {d : Nat} (hd : 1 ≤ d) {x0 : Option Nat} {x1 : Int32} {h : AH} {v : Int32} {h' : AH} (hf : X0_check x0 x1 h = some (v, h')) : MM G l yX0_check cX0_check 4 (Option.some Jvm.ClassFile.FieldType.int) d [vr x0, vi x1] h (some (vi v)) h' := by
  refine mm_of hG (plainFor_of_name (by decide)) (Nat.le_of_ble_eq_true rfl) (fun X hX ok hr hnm => ?_)
  subst hX
  exact W_X0_check ok hr hd hf rfl ⟨rfl, rfl, trivial⟩
theorem cw_X0_writes : CW yX0_writes cX0_writes 4 none 2 := ⟨q1767, q168, ⟨by decide, by decide⟩, by decide +kernel, by decide⟩
def pkX0_writes_4 (G : GT) (X : CX) (h0 : AH) (Q : State → Prop) (a0 : Nat) (x1 : Int32) (o : ((Int32 × AH) ⊕ (AH))) : Prop := match o with
  | .inl s => ∀ lv : List (Nat × AV), lle lv [(0, vr (some a0)), (1, vi x1), (3, vi s.1)] → V G X 4 h0 Q s.2 4 lv []
  | .inr z => Q = QM G X h0 none z
theorem W_X0_writes_4b {G : GT} {X : CX} {d : Nat} {h0 : AH} {Q : State → Prop} (ok : Ok G X RX0 cX0_writes 4 d h0) (hr : (cxm X).sig.returnType = none) (hd : 1 ≤ d) {a0 : Nat} {x1 : Int32} {x3 : Int32} {h : AH} {z : ((Int32 × AH) ⊕ (AH))} (hf : X0_writes_4b  a0 x1 x3 h = some z) (hk : pkX0_writes_4 G X h0 Q a0 x1 z) {lv : List (Nat × AV)} (hl : lle lv [(0, vr (some a0)), (1, vi x1), (3, vi x3)]) : V G X 4 h0 Q h 4 lv [] := by
  refine V.sub hl ?_
  unfold X0_writes_4b at hf
  refine v_iload_n ok 3 dX0_writes_4 rfl rfl ?_
  refine v_if_lt ok 37 dX0_writes_5 rfl hf (fun hf => ?_) (fun hf => ?_)
  ·
    exact v_vret ok hr (by cases hf; exact hk) dX0_writes_37
  ·
    refine v_aload_n ok 0 dX0_writes_8 rfl rfl ?_
    refine v_gR ok fl_X0_91 (by first | exact Or.inl ⟨_, rfl⟩ | exact Or.inr ⟨_, rfl⟩) dX0_writes_9 hf (fun v1 hf => ?_)
    refine v_aload_n ok 0 dX0_writes_12 rfl rfl ?_
    refine v_dup ok dX0_writes_13 rfl ?_
    refine v_gI ok fl_X0_369 (fun _ _ _ => rfl) dX0_writes_14 hf (fun v2 hf => ?_)
    refine v_dup_x1 ok dX0_writes_17 rfl rfl ?_
    refine v_iconst ok 1 dX0_writes_18 rfl ?_
    refine v_iadd ok dX0_writes_19 ?_
    refine v_pI ok fl_X0_369 ⟨fun _ _ _ => rfl, rfl⟩ (FN.of cf_0.1 rfl) dX0_writes_20 hf (fun h3 hf => ?_)
    refine v_iload_n ok 1 dX0_writes_23 rfl rfl ?_
    refine v_bipush ok 8 dX0_writes_24 rfl ?_
    refine v_iload_n ok 3 dX0_writes_26 rfl rfl ?_
    refine v_imul ok dX0_writes_27 ?_
    refine v_ishr ok dX0_writes_28 ?_
    refine v_i2b ok dX0_writes_29 ?_
    refine v_bast ok rfl dX0_writes_30 hf (fun h4 hf => ?_)
    refine v_iinc ok x3 (x3 + (-1)) dX0_writes_31 rfl rfl (by decide) ?_
    refine v_goto ok 4 dX0_writes_34 rfl ?_
    cases hf; exact hk _ ⟨rfl, rfl, rfl, trivial⟩
theorem W_X0_writes_4 {G : GT} {X : CX} {d : Nat} {h0 : AH} {Q : State → Prop} (ok : Ok G X RX0 cX0_writes 4 d h0) (hr : (cxm X).sig.returnType = none) (hd : 1 ≤ d) {a0 : Nat} {x1 : Int32} {x3 : Int32} {h : AH} {z : (AH)} (hf : X0_writes_4  a0 x1 x3 h = some z) (hk : Q = QM G X h0 none z) {lv : List (Nat × AV)} (hl : lle lv [(0, vr (some a0)), (1, vi x1), (3, vi x3)]) : V G X 4 h0 Q h 4 lv [] := by
  unfold X0_writes_4 at hf
  exact loopC_walk (Wh := fun s : Int32 × AH => ∀ lv : List (Nat × AV), lle lv [(0, vr (some a0)), (1, vi x1), (3, vi s.1)] → V G X 4 h0 Q s.2 4 lv []) (PK := fun z => Q = QM G X h0 none z) (fun s o hf hk lv hl => W_X0_writes_4b ok hr hd hf (by cases o <;> exact hk) hl) _ z hf hk lv hl
theorem W_X0_writes {G : GT} {X : CX} {d : Nat} {h0 : AH} {Q : State → Prop} (ok : Ok G X RX0 cX0_writes 4 d h0) (hr : (cxm X).sig.returnType = none) (hd : 1 ≤ d) {a0 : Nat} {x1 : Int32} {x2 : Int32} {h : AH} {z : (AH)} (hf : X0_writes a0 x1 x2 h = some z) (hk : Q = QM G X h0 none z) {lv : List (Nat × AV)} (hl : lle lv [(0, vr (some a0)), (1, vi x1), (2, vi x2)]) : V G X 4 h0 Q h 0 lv [] := by
  refine V.sub hl ?_
  unfold X0_writes at hf
  refine v_iload_n ok 2 dX0_writes_0 rfl rfl ?_
  refine v_iconst ok 1 dX0_writes_1 rfl ?_
  refine v_isub ok dX0_writes_2 ?_
  refine v_istore_n ok 3 dX0_writes_3 rfl (by decide) ?_
  exact W_X0_writes_4 ok hr hd hf hk ⟨rfl, rfl, rfl, trivial⟩
theorem M_X0_writes {G : GT} {l : Launch} (hG : Glob G) {d : Nat} (hd : 1 ≤ d) {a0 : Nat} {x1 : Int32} {x2 : Int32} {h : AH} {h' : AH} (hf : X0_writes a0 x1 x2 h = some h') : MM G l yX0_writes cX0_writes 4 none d [vr (some a0), vi x1, vi x2] h none h' := by
  refine mm_of hG (plainFor_of_name (by decide)) (Nat.le_of_ble_eq_true rfl) (fun X hX ok hr hnm => ?_)
  subst hX
  exact W_X0_writes ok hr hd hf rfl ⟨rfl, rfl, rfl, trivial⟩
theorem cw_X0_image : CW yX0_image cX0_image 3 (Option.some Jvm.ClassFile.FieldType.int) 0 := ⟨q1763, q168, ⟨by decide, by decide⟩, by decide +kernel, by decide⟩
def pkX0_image_19 (G : GT) (X : CX) (h0 : AH) (Q : State → Prop) (a0 : Nat) (o : ((Int32 × AH) ⊕ (Int32 × AH))) : Prop := match o with
  | .inl s => ∀ lv : List (Nat × AV), lle lv [(0, vr (some a0)), (1, vi s.1)] → V G X 3 h0 Q s.2 19 lv []
  | .inr z => Q = QM G X h0 (some (vi z.1)) z.2
def pkX0_image_57 (G : GT) (X : CX) (h0 : AH) (Q : State → Prop) (a0 : Nat) (x1 : Int32) (o : ((Int32 × AH) ⊕ ((Int32 × AH) ⊕ (Int32 × AH)))) : Prop := match o with
  | .inl s => ∀ lv : List (Nat × AV), lle lv [(0, vr (some a0)), (1, vi x1), (2, vi s.1)] → V G X 3 h0 Q s.2 57 lv []
  | .inr z => pkX0_image_19 G X h0 Q a0 z
theorem W_X0_image_57b {G : GT} {X : CX} {d : Nat} {h0 : AH} {Q : State → Prop} (ok : Ok G X RX0 cX0_image 3 d h0) (hr : (cxm X).sig.returnType = (Option.some Jvm.ClassFile.FieldType.int)) (hd : 3 ≤ d) {a0 : Nat} {x1 : Int32} {x2 : Int32} {h : AH} {z : ((Int32 × AH) ⊕ ((Int32 × AH) ⊕ (Int32 × AH)))} (hf : X0_image_57b  a0 x1 x2 h = some z) (hk : pkX0_image_57 G X h0 Q a0 x1 z) {lv : List (Nat × AV)} (hl : lle lv [(0, vr (some a0)), (1, vi x1), (2, vi x2)]) : V G X 3 h0 Q h 57 lv [] := by
  refine V.sub hl ?_
  unfold X0_image_57b at hf
  refine v_iload_n ok 2 dX0_image_57 rfl rfl ?_
  refine v_bipush ok 6 dX0_image_58 rfl ?_
  refine v_icmp_ge ok 85 dX0_image_60 rfl hf (fun hf => ?_) (fun hf => ?_)
  ·
    refine v_iinc ok x1 (x1 + 1) dX0_image_85 rfl rfl (by decide) ?_
    refine v_goto ok 19 dX0_image_88 rfl ?_
    cases hf; exact hk _ ⟨rfl, rfl, trivial⟩
  ·
    refine v_aload_n ok 0 dX0_image_63 rfl rfl ?_
    refine v_aload_n ok 0 dX0_image_64 rfl rfl ?_
    refine v_gR ok fl_X0_69 (by first | exact Or.inl ⟨_, rfl⟩ | exact Or.inr ⟨_, rfl⟩) dX0_image_65 hf (fun v1 hf => ?_)
    refine v_gRN ok fl_X0_248 (by first | exact Or.inl ⟨_, rfl⟩ | exact Or.inr ⟨_, rfl⟩) dX0_image_68 hf (fun v2 hf => ?_)
    refine v_iload_n ok 1 dX0_image_71 rfl rfl ?_
    refine v_aald6 ok rfl dX0_image_72 hf (fun v3 hf => ?_)
    refine v_iload_n ok 2 dX0_image_73 rfl rfl ?_
    refine v_iald ok rfl dX0_image_74 hf (fun v4 hf => ?_)
    refine v_iconst ok 2 dX0_image_75 rfl ?_
    refine v_cVv ok (RX0, TX0, 18) cf_0.1 [vi v4, vi 2] (F := fun a => X0_writes a v4 2 h) (fun a h1 _ hv => M_X0_writes ok.2.2.2.2.2.2.1 (d := 1) (Nat.le_refl _) hv) (by exact Nat.le_trans (by decide) hd) cw_X0_writes q1764 q1766 qs65 dX0_image_76 [] rfl (Nat.le_of_ble_eq_true rfl) hf (fun h5 hf => ?_)
    refine v_iinc ok x2 (x2 + 1) dX0_image_79 rfl rfl (by decide) ?_
    refine v_goto ok 57 dX0_image_82 rfl ?_
    cases hf; exact hk _ ⟨rfl, rfl, rfl, trivial⟩
theorem W_X0_image_57 {G : GT} {X : CX} {d : Nat} {h0 : AH} {Q : State → Prop} (ok : Ok G X RX0 cX0_image 3 d h0) (hr : (cxm X).sig.returnType = (Option.some Jvm.ClassFile.FieldType.int)) (hd : 3 ≤ d) {a0 : Nat} {x1 : Int32} {x2 : Int32} {h : AH} {z : ((Int32 × AH) ⊕ (Int32 × AH))} (hf : X0_image_57  a0 x1 x2 h = some z) (hk : pkX0_image_19 G X h0 Q a0 z) {lv : List (Nat × AV)} (hl : lle lv [(0, vr (some a0)), (1, vi x1), (2, vi x2)]) : V G X 3 h0 Q h 57 lv [] := by
  unfold X0_image_57 at hf
  exact loopC_walk (Wh := fun s : Int32 × AH => ∀ lv : List (Nat × AV), lle lv [(0, vr (some a0)), (1, vi x1), (2, vi s.1)] → V G X 3 h0 Q s.2 57 lv []) (PK := fun z => pkX0_image_19 G X h0 Q a0 z) (fun s o hf hk lv hl => W_X0_image_57b ok hr hd hf (by cases o <;> exact hk) hl) _ z hf hk lv hl
theorem W_X0_image_91 {G : GT} {X : CX} {d : Nat} {h0 : AH} {Q : State → Prop} (ok : Ok G X RX0 cX0_image 3 d h0) (hr : (cxm X).sig.returnType = (Option.some Jvm.ClassFile.FieldType.int)) (hd : 3 ≤ d) {a0 : Nat} {h : AH} {z : (Int32 × AH)} (hf : X0_image_91 a0 h = some z) (hk : Q = QM G X h0 (some (vi z.1)) z.2) {lv : List (Nat × AV)} (hl : lle lv [(0, vr (some a0))]) : V G X 3 h0 Q h 91 lv [] := by
  refine V.sub hl ?_
  unfold X0_image_91 at hf
  refine v_aload_n ok 0 dX0_image_91 rfl rfl ?_
  refine v_aload_n ok 0 dX0_image_92 rfl rfl ?_
  refine v_gR ok fl_X0_91 (by first | exact Or.inl ⟨_, rfl⟩ | exact Or.inr ⟨_, rfl⟩) dX0_image_93 hf (fun v6 hf => ?_)
  refine v_aload_n ok 0 dX0_image_96 rfl rfl ?_
  refine v_gI ok fl_X0_369 (fun _ _ _ => rfl) dX0_image_97 hf (fun v7 hf => ?_)
  refine v_cSi ok [vr v6, vi v7] (F := X0_check v6 v7 h) (fun v h1 hv => M_X0_check ok.2.2.2.2.2.2.1 (d := 1) (Nat.le_refl _) hv) (by exact Nat.le_trans (by decide) hd) cw_X0_check q1768 q1769 dX0_image_100 [vr (some a0)] rfl (Nat.le_of_ble_eq_true rfl) hf (fun v8 h9 hf => ?_)
  refine v_iconst ok 1 dX0_image_103 rfl ?_
  refine v_cVv ok (RX0, TX0, 18) cf_0.1 [vi v8, vi 1] (F := fun a => X0_writes a v8 1 h9) (fun a h1 _ hv => M_X0_writes ok.2.2.2.2.2.2.1 (d := 1) (Nat.le_refl _) hv) (by exact Nat.le_trans (by decide) hd) cw_X0_writes q1764 q1766 qs65 dX0_image_104 [] rfl (Nat.le_of_ble_eq_true rfl) hf (fun h10 hf => ?_)
  refine v_aload_n ok 0 dX0_image_107 rfl rfl ?_
  refine v_gI ok fl_X0_369 (fun _ _ _ => rfl) dX0_image_108 hf (fun v11 hf => ?_)
  exact v_iret ok hr (by cases hf; exact hk) dX0_image_111
theorem W_X0_image_19b {G : GT} {X : CX} {d : Nat} {h0 : AH} {Q : State → Prop} (ok : Ok G X RX0 cX0_image 3 d h0) (hr : (cxm X).sig.returnType = (Option.some Jvm.ClassFile.FieldType.int)) (hd : 3 ≤ d) {a0 : Nat} {x1 : Int32} {h : AH} {z : ((Int32 × AH) ⊕ (Int32 × AH))} (hf : X0_image_19b  a0 x1 h = some z) (hk : pkX0_image_19 G X h0 Q a0 z) {lv : List (Nat × AV)} (hl : lle lv [(0, vr (some a0)), (1, vi x1)]) : V G X 3 h0 Q h 19 lv [] := by
  refine V.sub hl ?_
  unfold X0_image_19b at hf
  refine v_iload_n ok 1 dX0_image_19 rfl rfl ?_
  refine v_aload_n ok 0 dX0_image_20 rfl rfl ?_
  refine v_cVi ok (RX0, TX0, 18) cf_0.1 [] (F := fun a => X0_boards a h) (fun a v h1 _ hv => M_X0_boards ok.2.2.2.2.2.2.1 (d := 2) (Nat.le_refl _) hv) (by exact Nat.le_trans (by decide) hd) cw_X0_boards q1333 q1293 qs34 dX0_image_21 [vi x1] rfl (Nat.le_of_ble_eq_true rfl) hf (fun v12 h13 hf => ?_)
  refine v_icmp_ge ok 91 dX0_image_24 rfl hf (fun hf => ?_) (fun hf => ?_)
  ·
    obtain ⟨o, ho, hz⟩ := ob hf
    cases hz; exact W_X0_image_91 ok hr hd ho hk ⟨rfl, trivial⟩
  ·
    refine v_aload_n ok 0 dX0_image_27 rfl rfl ?_
    refine v_aload_n ok 0 dX0_image_28 rfl rfl ?_
    refine v_gR ok fl_X0_69 (by first | exact Or.inl ⟨_, rfl⟩ | exact Or.inr ⟨_, rfl⟩) dX0_image_29 hf (fun v14 hf => ?_)
    refine v_gRN ok fl_X0_236 (by first | exact Or.inl ⟨_, rfl⟩ | exact Or.inr ⟨_, rfl⟩) dX0_image_32 hf (fun v15 hf => ?_)
    refine v_iload_n ok 1 dX0_image_35 rfl rfl ?_
    refine v_iald ok rfl dX0_image_36 hf (fun v16 hf => ?_)
    refine v_iconst ok 1 dX0_image_37 rfl ?_
    refine v_cVv ok (RX0, TX0, 18) cf_0.1 [vi v16, vi 1] (F := fun a => X0_writes a v16 1 h13) (fun a h1 _ hv => M_X0_writes ok.2.2.2.2.2.2.1 (d := 1) (Nat.le_refl _) hv) (by exact Nat.le_trans (by decide) hd) cw_X0_writes q1764 q1766 qs65 dX0_image_38 [] rfl (Nat.le_of_ble_eq_true rfl) hf (fun h17 hf => ?_)
    refine v_aload_n ok 0 dX0_image_41 rfl rfl ?_
    refine v_aload_n ok 0 dX0_image_42 rfl rfl ?_
    refine v_gR ok fl_X0_69 (by first | exact Or.inl ⟨_, rfl⟩ | exact Or.inr ⟨_, rfl⟩) dX0_image_43 hf (fun v18 hf => ?_)
    refine v_gRN ok fl_X0_239 (by first | exact Or.inl ⟨_, rfl⟩ | exact Or.inr ⟨_, rfl⟩) dX0_image_46 hf (fun v19 hf => ?_)
    refine v_iload_n ok 1 dX0_image_49 rfl rfl ?_
    refine v_iald ok rfl dX0_image_50 hf (fun v20 hf => ?_)
    refine v_iconst ok 1 dX0_image_51 rfl ?_
    refine v_cVv ok (RX0, TX0, 18) cf_0.1 [vi v20, vi 1] (F := fun a => X0_writes a v20 1 h17) (fun a h1 _ hv => M_X0_writes ok.2.2.2.2.2.2.1 (d := 1) (Nat.le_refl _) hv) (by exact Nat.le_trans (by decide) hd) cw_X0_writes q1764 q1766 qs65 dX0_image_52 [] rfl (Nat.le_of_ble_eq_true rfl) hf (fun h21 hf => ?_)
    refine v_iconst ok 0 dX0_image_55 rfl ?_
    refine v_istore_n ok 2 dX0_image_56 rfl (by decide) ?_
    exact W_X0_image_57 ok hr hd hf hk ⟨rfl, rfl, rfl, trivial⟩
theorem W_X0_image_19 {G : GT} {X : CX} {d : Nat} {h0 : AH} {Q : State → Prop} (ok : Ok G X RX0 cX0_image 3 d h0) (hr : (cxm X).sig.returnType = (Option.some Jvm.ClassFile.FieldType.int)) (hd : 3 ≤ d) {a0 : Nat} {x1 : Int32} {h : AH} {z : (Int32 × AH)} (hf : X0_image_19  a0 x1 h = some z) (hk : Q = QM G X h0 (some (vi z.1)) z.2) {lv : List (Nat × AV)} (hl : lle lv [(0, vr (some a0)), (1, vi x1)]) : V G X 3 h0 Q h 19 lv [] := by
  unfold X0_image_19 at hf
  exact loopC_walk (Wh := fun s : Int32 × AH => ∀ lv : List (Nat × AV), lle lv [(0, vr (some a0)), (1, vi s.1)] → V G X 3 h0 Q s.2 19 lv []) (PK := fun z => Q = QM G X h0 (some (vi z.1)) z.2) (fun s o hf hk lv hl => W_X0_image_19b ok hr hd hf (by cases o <;> exact hk) hl) _ z hf hk lv hl
theorem W_X0_image {G : GT} {X : CX} {d : Nat} {h0 : AH} {Q : State → Prop} (ok : Ok G X RX0 cX0_image 3 d h0) (hr : (cxm X).sig.returnType = (Option.some Jvm.ClassFile.FieldType.int)) (hd : 3 ≤ d) {a0 : Nat} {h : AH} {z : (Int32 × AH)} (hf : X0_image a0 h = some z) (hk : Q = QM G X h0 (some (vi z.1)) z.2) {lv : List (Nat × AV)} (hl : lle lv [(0, vr (some a0))]) : V G X 3 h0 Q h 0 lv [] := by
  refine V.sub hl ?_
  unfold X0_image at hf
  refine v_aload_n ok 0 dX0_image_0 rfl rfl ?_
  refine v_iconst ok 0 dX0_image_1 rfl ?_
  refine v_pI ok fl_X0_369 ⟨fun _ _ _ => rfl, rfl⟩ (FN.of cf_0.1 rfl) dX0_image_2 hf (fun h22 hf => ?_)
  refine v_aload_n ok 0 dX0_image_5 rfl rfl ?_
  refine v_aload_n ok 0 dX0_image_6 rfl rfl ?_
  refine v_gR ok fl_X0_69 (by first | exact Or.inl ⟨_, rfl⟩ | exact Or.inr ⟨_, rfl⟩) dX0_image_7 hf (fun v23 hf => ?_)
  refine v_gIN ok fl_X0_218 (fun _ _ _ => rfl) dX0_image_10 hf (fun v24 hf => ?_)
  refine v_iconst ok 2 dX0_image_13 rfl ?_
  refine v_cVv ok (RX0, TX0, 18) cf_0.1 [vi v24, vi 2] (F := fun a => X0_writes a v24 2 h22) (fun a h1 _ hv => M_X0_writes ok.2.2.2.2.2.2.1 (d := 1) (Nat.le_refl _) hv) (by exact Nat.le_trans (by decide) hd) cw_X0_writes q1764 q1766 qs65 dX0_image_14 [] rfl (Nat.le_of_ble_eq_true rfl) hf (fun h25 hf => ?_)
  refine v_iconst ok 0 dX0_image_17 rfl ?_
  refine v_istore_n ok 1 dX0_image_18 rfl (by decide) ?_
  exact W_X0_image_19 ok hr hd hf hk ⟨rfl, rfl, trivial⟩
theorem M_X0_image {G : GT} {l : Launch} (hG : Glob G) {d : Nat} (hd : 3 ≤ d) {a0 : Nat} {h : AH} {v : Int32} {h' : AH} (hf : X0_image a0 h = some (v, h')) : MM G l yX0_image cX0_image 3 (Option.some Jvm.ClassFile.FieldType.int) d [vr (some a0)] h (some (vi v)) h' := by
  refine mm_of hG (plainFor_of_name (by decide)) (Nat.le_of_ble_eq_true rfl) (fun X hX ok hr hnm => ?_)
  subst hX
  exact W_X0_image ok hr hd hf rfl ⟨rfl, trivial⟩
theorem cw_X0_octet : CW yX0_octet cX0_octet 2 (Option.some Jvm.ClassFile.FieldType.int) 1 := ⟨q1774, q168, ⟨by decide, by decide⟩, by decide +kernel, by decide⟩
theorem W_X0_octet {G : GT} {X : CX} {d : Nat} {h0 : AH} {Q : State → Prop} (ok : Ok G X RX0 cX0_octet 2 d h0) (hr : (cxm X).sig.returnType = (Option.some Jvm.ClassFile.FieldType.int)) (hd : 1 ≤ d) {a0 : Nat} {x1 : Int32} {h : AH} {z : (Int32 × AH)} (hf : X0_octet a0 x1 h = some z) (hk : Q = QM G X h0 (some (vi z.1)) z.2) {lv : List (Nat × AV)} (hl : lle lv [(0, vr (some a0)), (1, vi x1)]) : V G X 2 h0 Q h 0 lv [] := by
  refine V.sub hl ?_
  unfold X0_octet at hf
  refine v_iload_n ok 1 dX0_octet_0 rfl rfl ?_
  refine v_if_lt ok 12 dX0_octet_1 rfl hf (fun hf => ?_) (fun hf => ?_)
  ·
    refine v_iconst ok (-1) dX0_octet_12 rfl ?_
    refine v_goto ok 26 dX0_octet_13 rfl ?_
    exact v_iret ok hr (by cases hf; exact hk) dX0_octet_26
  ·
    refine v_iload_n ok 1 dX0_octet_4 rfl rfl ?_
    refine v_aload_n ok 0 dX0_octet_5 rfl rfl ?_
    refine v_gI ok fl_X0_369 (fun _ _ _ => rfl) dX0_octet_6 hf (fun v1 hf => ?_)
    refine v_icmp_lt ok 16 dX0_octet_9 rfl hf (fun hf => ?_) (fun hf => ?_)
    ·
      refine v_aload_n ok 0 dX0_octet_16 rfl rfl ?_
      refine v_gR ok fl_X0_91 (by first | exact Or.inl ⟨_, rfl⟩ | exact Or.inr ⟨_, rfl⟩) dX0_octet_17 hf (fun v2 hf => ?_)
      refine v_iload_n ok 1 dX0_octet_20 rfl rfl ?_
      refine v_bald ok rfl dX0_octet_21 hf (fun v3 hf => ?_)
      refine v_sipush ok 255 dX0_octet_22 rfl ?_
      refine v_iand ok dX0_octet_25 ?_
      exact v_iret ok hr (by cases hf; exact hk) dX0_octet_26
    ·
      refine v_iconst ok (-1) dX0_octet_12 rfl ?_
      refine v_goto ok 26 dX0_octet_13 rfl ?_
      exact v_iret ok hr (by cases hf; exact hk) dX0_octet_26
theorem M_X0_octet {G : GT} {l : Launch} (hG : Glob G) {d : Nat} (hd : 1 ≤ d) {a0 : Nat} {x1 : Int32} {h : AH} {v : Int32} {h' : AH} (hf : X0_octet a0 x1 h = some (v, h')) : MM G l yX0_octet cX0_octet 2 (Option.some Jvm.ClassFile.FieldType.int) d [vr (some a0), vi x1] h (some (vi v)) h' := by
  refine mm_of hG (plainFor_of_name (by decide)) (Nat.le_of_ble_eq_true rfl) (fun X hX ok hr hnm => ?_)
  subst hX
  exact W_X0_octet ok hr hd hf rfl ⟨rfl, rfl, trivial⟩
theorem cw_X0_byteAt : CW yX0_byteAt cX0_byteAt 2 (Option.some Jvm.ClassFile.FieldType.int) 1 := ⟨q1786, q168, ⟨by decide, by decide⟩, by decide +kernel, by decide⟩
theorem W_X0_byteAt {G : GT} {X : CX} {d : Nat} {h0 : AH} {Q : State → Prop} (ok : Ok G X RX0 cX0_byteAt 2 d h0) (hr : (cxm X).sig.returnType = (Option.some Jvm.ClassFile.FieldType.int)) (hd : 1 ≤ d) {a0 : Nat} {x1 : Int32} {h : AH} {z : (Int32 × AH)} (hf : X0_byteAt a0 x1 h = some z) (hk : Q = QM G X h0 (some (vi z.1)) z.2) {lv : List (Nat × AV)} (hl : lle lv [(0, vr (some a0)), (1, vi x1)]) : V G X 2 h0 Q h 0 lv [] := by
  refine V.sub hl ?_
  unfold X0_byteAt at hf
  refine v_aload_n ok 0 dX0_byteAt_0 rfl rfl ?_
  refine v_gR ok fl_X0_35 (by first | exact Or.inl ⟨_, rfl⟩ | exact Or.inr ⟨_, rfl⟩) dX0_byteAt_1 hf (fun v1 hf => ?_)
  refine v_iload_n ok 1 dX0_byteAt_4 rfl rfl ?_
  refine v_bald ok rfl dX0_byteAt_5 hf (fun v2 hf => ?_)
  refine v_sipush ok 255 dX0_byteAt_6 rfl ?_
  refine v_iand ok dX0_byteAt_9 ?_
  exact v_iret ok hr (by cases hf; exact hk) dX0_byteAt_10
theorem M_X0_byteAt {G : GT} {l : Launch} (hG : Glob G) {d : Nat} (hd : 1 ≤ d) {a0 : Nat} {x1 : Int32} {h : AH} {v : Int32} {h' : AH} (hf : X0_byteAt a0 x1 h = some (v, h')) : MM G l yX0_byteAt cX0_byteAt 2 (Option.some Jvm.ClassFile.FieldType.int) d [vr (some a0), vi x1] h (some (vi v)) h' := by
  refine mm_of hG (plainFor_of_name (by decide)) (Nat.le_of_ble_eq_true rfl) (fun X hX ok hr hnm => ?_)
  subst hX
  exact W_X0_byteAt ok hr hd hf rfl ⟨rfl, rfl, trivial⟩
