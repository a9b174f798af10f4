set_option maxRecDepth 100000
theorem cw_X7_readAs : CW yX7_readAs cX7_readAs 7 (Option.some Jvm.ClassFile.FieldType.int) 2 := ⟨q2491, q185, ⟨by decide, by decide⟩, by decide +kernel, by decide⟩
def pkX7_readAs_8 (G : GT) (X : CX) (h0 : AH) (Q : State → Prop) (a0 : Nat) (x1 : Int32) (x2 : Int32) (o : ((Int32 × Int32 × Int32 × AH) ⊕ (Int32 × AH))) : Prop := match o with
  | .inl s => ∀ lv : List (Nat × AV), lle lv [(0, vr (some a0)), (1, vi x1), (2, vi x2), (3, vi s.1), (4, vi s.2.1), (5, vi s.2.2.1)] → V G X 7 h0 Q s.2.2.2 8 lv []
  | .inr z => Q = QM G X h0 (some (vi z.1)) z.2
theorem W_X7_readAs_57 {G : GT} {X : CX} {d : Nat} {h0 : AH} {Q : State → Prop} (ok : Ok G X RX7 cX7_readAs 7 d h0) (hr : (cxm X).sig.returnType = (Option.some Jvm.ClassFile.FieldType.int)) (hd : 7 ≤ d) {a0 : Nat} {x1 : Int32} {x2 : Int32} {x5 : Int32} {x6 : Int32} {h : AH} {z : ((Int32 × Int32 × Int32 × AH) ⊕ (Int32 × AH))} (hf : X7_readAs_57 a0 x1 x2 x5 x6 h = some z) (hk : pkX7_readAs_8 G X h0 Q a0 x1 x2 z) {lv : List (Nat × AV)} (hl : lle lv [(0, vr (some a0)), (1, vi x1), (2, vi x2), (5, vi x5), (6, vi x6)]) : V G X 7 h0 Q h 57 lv [] := by
  refine V.sub hl ?_
  unfold X7_readAs_57 at hf
  refine v_iload ok dX7_readAs_57 rfl ?_
  refine v_istore_n ok 3 dX7_readAs_59 rfl (by decide) ?_
  refine v_iload ok dX7_readAs_60 rfl ?_
  refine v_istore ok dX7_readAs_62 (by decide) ?_
  refine v_iinc ok x5 (x5 + 1) dX7_readAs_64 rfl rfl (by decide) ?_
  refine v_goto ok 8 dX7_readAs_67 rfl ?_
  cases hf; exact hk _ ⟨rfl, rfl, rfl, rfl, rfl, rfl, trivial⟩
theorem W_X7_readAs_70 {G : GT} {X : CX} {d : Nat} {h0 : AH} {Q : State → Prop} (ok : Ok G X RX7 cX7_readAs 7 d h0) (hr : (cxm X).sig.returnType = (Option.some Jvm.ClassFile.FieldType.int)) (hd : 7 ≤ d) {a0 : Nat} {x1 : Int32} {x3 : Int32} {h : AH} {z : (Int32 × AH)} (hf : X7_readAs_70 a0 x1 x3 h = some z) (hk : Q = QM G X h0 (some (vi z.1)) z.2) {lv : List (Nat × AV)} (hl : lle lv [(0, vr (some a0)), (1, vi x1), (3, vi x3)]) : V G X 7 h0 Q h 70 lv [] := by
  refine V.sub hl ?_
  unfold X7_readAs_70 at hf
  refine v_iload_n ok 3 dX7_readAs_70 rfl rfl ?_
  refine v_iconst ok (-1) dX7_readAs_71 rfl ?_
  refine v_icmp_ne ok 79 dX7_readAs_72 rfl hf (fun hf => ?_) (fun hf => ?_)
  ·
    refine v_aload_n ok 0 dX7_readAs_79 rfl rfl ?_
    refine v_iload_n ok 1 dX7_readAs_80 rfl rfl ?_
    refine v_iload_n ok 3 dX7_readAs_81 rfl rfl ?_
    refine v_cVi ok (RX7, TX7, 117) cf_7.1 [vi x1, vi x3] (F := fun a => X7_nameOf a x1 x3 h) (fun a v h1 _ hv => M_X7_nameOf ok.2.2.2.2.2.2.1 (d := 1) (Nat.le_refl _) hv) (by exact Nat.le_trans (by decide) hd) cw_X7_nameOf q2349 q2351 qs112 dX7_readAs_82 [] rfl (Nat.le_of_ble_eq_true rfl) hf (fun v1 h2 hf => ?_)
    exact v_iret ok hr (by cases hf; exact hk) dX7_readAs_85
  ·
    refine v_iconst ok 0 dX7_readAs_75 rfl ?_
    refine v_goto ok 85 dX7_readAs_76 rfl ?_
    exact v_iret ok hr (by cases hf; exact hk) dX7_readAs_85
theorem W_X7_readAs_8b {G : GT} {X : CX} {d : Nat} {h0 : AH} {Q : State → Prop} (ok : Ok G X RX7 cX7_readAs 7 d h0) (hr : (cxm X).sig.returnType = (Option.some Jvm.ClassFile.FieldType.int)) (hd : 7 ≤ d) {a0 : Nat} {x1 : Int32} {x2 : Int32} {x3 : Int32} {x4 : Int32} {x5 : Int32} {h : AH} {z : ((Int32 × Int32 × Int32 × AH) ⊕ (Int32 × AH))} (hf : X7_readAs_8b  a0 x1 x2 x3 x4 x5 h = some z) (hk : pkX7_readAs_8 G X h0 Q a0 x1 x2 z) {lv : List (Nat × AV)} (hl : lle lv [(0, vr (some a0)), (1, vi x1), (2, vi x2), (3, vi x3), (4, vi x4), (5, vi x5)]) : V G X 7 h0 Q h 8 lv [] := by
  refine V.sub hl ?_
  unfold X7_readAs_8b at hf
  refine v_iload ok dX7_readAs_8 rfl ?_
  refine v_aload_n ok 0 dX7_readAs_10 rfl rfl ?_
  refine v_gR ok fl_X7_108 (by first | exact Or.inl ⟨_, rfl⟩ | exact Or.inr ⟨_, rfl⟩) dX7_readAs_11 hf (fun v3 hf => ?_)
  refine v_iconst ok 2 dX7_readAs_14 rfl ?_
  refine v_iload_n ok 1 dX7_readAs_15 rfl rfl ?_
  refine v_iadd ok dX7_readAs_16 ?_
  refine v_iald ok rfl dX7_readAs_17 hf (fun v4 hf => ?_)
  refine v_icmp_ge ok 70 dX7_readAs_18 rfl hf (fun hf => ?_) (fun hf => ?_)
  ·
    obtain ⟨o, ho, hz⟩ := ob hf
    cases hz; exact W_X7_readAs_70 ok hr hd ho hk ⟨rfl, rfl, rfl, trivial⟩
  ·
    refine v_aload_n ok 0 dX7_readAs_21 rfl rfl ?_
    refine v_iload_n ok 1 dX7_readAs_22 rfl rfl ?_
    refine v_iload ok dX7_readAs_23 rfl ?_
    refine v_iload_n ok 2 dX7_readAs_25 rfl rfl ?_
    refine v_cVi ok (RX7, TX7, 117) cf_7.1 [vi x1, vi x5, vi x2] (F := fun a => X7_doubtOf a x1 x5 x2 h) (fun a v h1 _ hv => M_X7_doubtOf ok.2.2.2.2.2.2.1 (d := 6) (Nat.le_refl _) hv) (by exact Nat.le_trans (by decide) hd) cw_X7_doubtOf q2451 q2453 qs126 dX7_readAs_26 [] rfl (Nat.le_of_ble_eq_true rfl) hf (fun v5 h6 hf => ?_)
    refine v_istore ok dX7_readAs_29 (by decide) ?_
    refine v_iload ok dX7_readAs_31 rfl ?_
    refine v_aload_n ok 0 dX7_readAs_33 rfl rfl ?_
    refine v_gR ok fl_X7_120 (by first | exact Or.inl ⟨_, rfl⟩ | exact Or.inr ⟨_, rfl⟩) dX7_readAs_34 hf (fun v7 hf => ?_)
    refine v_iconst ok 3 dX7_readAs_37 rfl ?_
    refine v_iald ok rfl dX7_readAs_38 hf (fun v8 hf => ?_)
    refine v_icmp_gt ok 64 dX7_readAs_39 rfl hf (fun hf => ?_) (fun hf => ?_)
    ·
      refine v_iinc ok x5 (x5 + 1) dX7_readAs_64 rfl rfl (by decide) ?_
      refine v_goto ok 8 dX7_readAs_67 rfl ?_
      cases hf; exact hk _ ⟨rfl, rfl, rfl, rfl, rfl, rfl, trivial⟩
    ·
      refine v_iload_n ok 3 dX7_readAs_42 rfl rfl ?_
      refine v_iconst ok (-1) dX7_readAs_43 rfl ?_
      refine v_icmp_eq ok 57 dX7_readAs_44 rfl hf (fun hf => ?_) (fun hf => ?_)
      ·
        exact W_X7_readAs_57 ok hr hd hf hk ⟨rfl, rfl, rfl, rfl, rfl, trivial⟩
      ·
        refine v_iload ok dX7_readAs_47 rfl ?_
        refine v_iload ok dX7_readAs_49 rfl ?_
        refine v_icmp_lt ok 57 dX7_readAs_51 rfl hf (fun hf => ?_) (fun hf => ?_)
        ·
          exact W_X7_readAs_57 ok hr hd hf hk ⟨rfl, rfl, rfl, rfl, rfl, trivial⟩
        ·
          refine v_goto ok 64 dX7_readAs_54 rfl ?_
          refine v_iinc ok x5 (x5 + 1) dX7_readAs_64 rfl rfl (by decide) ?_
          refine v_goto ok 8 dX7_readAs_67 rfl ?_
          cases hf; exact hk _ ⟨rfl, rfl, rfl, rfl, rfl, rfl, trivial⟩
theorem W_X7_readAs_8 {G : GT} {X : CX} {d : Nat} {h0 : AH} {Q : State → Prop} (ok : Ok G X RX7 cX7_readAs 7 d h0) (hr : (cxm X).sig.returnType = (Option.some Jvm.ClassFile.FieldType.int)) (hd : 7 ≤ d) {a0 : Nat} {x1 : Int32} {x2 : Int32} {x3 : Int32} {x4 : Int32} {x5 : Int32} {h : AH} {z : (Int32 × AH)} (hf : X7_readAs_8  a0 x1 x2 x3 x4 x5 h = some z) (hk : Q = QM G X h0 (some (vi z.1)) z.2) {lv : List (Nat × AV)} (hl : lle lv [(0, vr (some a0)), (1, vi x1), (2, vi x2), (3, vi x3), (4, vi x4), (5, vi x5)]) : V G X 7 h0 Q h 8 lv [] := by
  unfold X7_readAs_8 at hf
  exact loopC_walk (Wh := fun s : Int32 × Int32 × Int32 × AH => ∀ lv : List (Nat × AV), lle lv [(0, vr (some a0)), (1, vi x1), (2, vi x2), (3, vi s.1), (4, vi s.2.1), (5, vi s.2.2.1)] → V G X 7 h0 Q s.2.2.2 8 lv []) (PK := fun z => Q = QM G X h0 (some (vi z.1)) z.2) (fun s o hf hk lv hl => W_X7_readAs_8b ok hr hd hf (by cases o <;> exact hk) hl) _ z hf hk lv hl
theorem W_X7_readAs {G : GT} {X : CX} {d : Nat} {h0 : AH} {Q : State → Prop} (ok : Ok G X RX7 cX7_readAs 7 d h0) (hr : (cxm X).sig.returnType = (Option.some Jvm.ClassFile.FieldType.int)) (hd : 7 ≤ d) {a0 : Nat} {x1 : Int32} {x2 : Int32} {h : AH} {z : (Int32 × AH)} (hf : X7_readAs a0 x1 x2 h = some z) (hk : Q = QM G X h0 (some (vi z.1)) z.2) {lv : List (Nat × AV)} (hl : lle lv [(0, vr (some a0)), (1, vi x1), (2, vi x2)]) : V G X 7 h0 Q h 0 lv [] := by
  refine V.sub hl ?_
  unfold X7_readAs at hf
  refine v_iconst ok (-1) dX7_readAs_0 rfl ?_
  refine v_istore_n ok 3 dX7_readAs_1 rfl (by decide) ?_
  refine v_iconst ok 0 dX7_readAs_2 rfl ?_
  refine v_istore ok dX7_readAs_3 (by decide) ?_
  refine v_iconst ok 0 dX7_readAs_5 rfl ?_
  refine v_istore ok dX7_readAs_6 (by decide) ?_
  exact W_X7_readAs_8 ok hr hd hf hk ⟨rfl, rfl, rfl, rfl, rfl, rfl, trivial⟩
theorem M_X7_readAs {G : GT} {l : Launch} (hG : Glob G) {d : Nat} (hd : 7 ≤ d) {a0 : Nat} {x1 : Int32} {x2 : Int32} {h : AH} {v : Int32} {h' : AH} (hf : X7_readAs a0 x1 x2 h = some (v, h')) : MM G l yX7_readAs cX7_readAs 7 (Option.some Jvm.ClassFile.FieldType.int) d [vr (some a0), vi x1, vi x2] h (some (vi v)) h' := by
  refine mm_of hG (plainFor_of_name (by decide)) (Nat.le_of_ble_eq_true rfl) (fun X hX ok hr hnm => ?_)
  subst hX
  exact W_X7_readAs ok hr hd hf rfl ⟨rfl, rfl, rfl, trivial⟩
theorem cw_X7_reads : CW yX7_reads cX7_reads 4 (Option.some Jvm.ClassFile.FieldType.int) 3 := ⟨q2487, q185, ⟨by decide, by decide⟩, by decide +kernel, by decide⟩
theorem W_X7_reads {G : GT} {X : CX} {d : Nat} {h0 : AH} {Q : State → Prop} (ok : Ok G X RX7 cX7_reads 4 d h0) (hr : (cxm X).sig.returnType = (Option.some Jvm.ClassFile.FieldType.int)) (hd : 8 ≤ d) {a0 : Nat} {x1 : Int32} {x2 : Int32} {x3 : Int32} {h : AH} {z : (Int32 × AH)} (hf : X7_reads a0 x1 x2 x3 h = some z) (hk : Q = QM G X h0 (some (vi z.1)) z.2) {lv : List (Nat × AV)} (hl : lle lv [(0, vr (some a0)), (1, vi x1), (2, vi x2), (3, vi x3)]) : V G X 4 h0 Q h 0 lv [] := by
  refine V.sub hl ?_
  unfold X7_reads at hf
  refine v_aload_n ok 0 dX7_reads_0 rfl rfl ?_
  refine v_iload_n ok 1 dX7_reads_1 rfl rfl ?_
  refine v_cVi ok (RX7, TX7, 117) cf_7.1 [vi x1] (F := fun a => X7_isHand a x1 h) (fun a v h1 _ hv => M_X7_isHand ok.2.2.2.2.2.2.1 (d := 2) (Nat.le_refl _) hv) (by exact Nat.le_trans (by decide) hd) cw_X7_isHand q2392 q2394 qs119 dX7_reads_2 [] rfl (Nat.le_of_ble_eq_true rfl) hf (fun v1 h2 hf => ?_)
  refine v_if_eq ok 41 dX7_reads_5 rfl hf (fun hf => ?_) (fun hf => ?_)
  ·
    refine v_iconst ok (-1) dX7_reads_41 rfl ?_
    exact v_iret ok hr (by cases hf; exact hk) dX7_reads_42
  ·
    refine v_aload_n ok 0 dX7_reads_8 rfl rfl ?_
    refine v_iload_n ok 2 dX7_reads_9 rfl rfl ?_
    refine v_cVi ok (RX7, TX7, 117) cf_7.1 [vi x2] (F := fun a => X7_isGlyph a x2 h2) (fun a v h1 _ hv => M_X7_isGlyph ok.2.2.2.2.2.2.1 (d := 2) (Nat.le_refl _) hv) (by exact Nat.le_trans (by decide) hd) cw_X7_isGlyph q2438 q2440 qs125 dX7_reads_10 [] rfl (Nat.le_of_ble_eq_true rfl) hf (fun v3 h4 hf => ?_)
    refine v_if_eq ok 41 dX7_reads_13 rfl hf (fun hf => ?_) (fun hf => ?_)
    ·
      refine v_iconst ok (-1) dX7_reads_41 rfl ?_
      exact v_iret ok hr (by cases hf; exact hk) dX7_reads_42
    ·
      refine v_iload_n ok 3 dX7_reads_16 rfl rfl ?_
      refine v_i2l ok dX7_reads_17 ?_
      refine v_lconst ok 0 dX7_reads_18 rfl ?_
      refine v_ldc2 ok q2443 dX7_reads_19 ?_
      refine v_cSi ok [vl (Int32.toInt64 x3), vl 0, vl 3] (F := X7_isIn (Int32.toInt64 x3) 0 3 h4) (fun v h1 hv => M_X7_isIn ok.2.2.2.2.2.2.1 (d := 1) (Nat.le_refl _) hv) (by exact Nat.le_trans (by decide) hd) cw_X7_isIn q2215 q2216 dX7_reads_22 [] rfl (Nat.le_of_ble_eq_true rfl) hf (fun v5 h6 hf => ?_)
      refine v_if_eq ok 41 dX7_reads_25 rfl hf (fun hf => ?_) (fun hf => ?_)
      ·
        refine v_iconst ok (-1) dX7_reads_41 rfl ?_
        exact v_iret ok hr (by cases hf; exact hk) dX7_reads_42
      ·
        refine v_aload_n ok 0 dX7_reads_28 rfl rfl ?_
        refine v_iload_n ok 1 dX7_reads_29 rfl rfl ?_
        refine v_iload_n ok 2 dX7_reads_30 rfl rfl ?_
        refine v_iload_n ok 3 dX7_reads_31 rfl rfl ?_
        refine v_cSi ok [vi x2, vi x3] (F := X7_seenBy x2 x3 h6) (fun v h1 hv => M_X7_seenBy ok.2.2.2.2.2.2.1 (d := 1) (Nat.le_refl _) hv) (by exact Nat.le_trans (by decide) hd) cw_X7_seenBy q2444 q2445 dX7_reads_32 [vi x1, vr (some a0)] rfl (Nat.le_of_ble_eq_true rfl) hf (fun v7 h8 hf => ?_)
        refine v_cVi ok (RX7, TX7, 117) cf_7.1 [vi x1, vi v7] (F := fun a => X7_readAs a x1 v7 h8) (fun a v h1 _ hv => M_X7_readAs ok.2.2.2.2.2.2.1 (d := 7) (Nat.le_refl _) hv) (by exact Nat.le_trans (by decide) hd) cw_X7_readAs q2488 q2490 qs132 dX7_reads_35 [] rfl (Nat.le_of_ble_eq_true rfl) hf (fun v9 h10 hf => ?_)
        refine v_goto ok 42 dX7_reads_38 rfl ?_
        exact v_iret ok hr (by cases hf; exact hk) dX7_reads_42
theorem M_X7_reads {G : GT} {l : Launch} (hG : Glob G) {d : Nat} (hd : 8 ≤ d) {a0 : Nat} {x1 : Int32} {x2 : Int32} {x3 : Int32} {h : AH} {v : Int32} {h' : AH} (hf : X7_reads a0 x1 x2 x3 h = some (v, h')) : MM G l yX7_reads cX7_reads 4 (Option.some Jvm.ClassFile.FieldType.int) d [vr (some a0), vi x1, vi x2, vi x3] h (some (vi v)) h' := by
  refine mm_of hG (plainFor_of_name (by decide)) (Nat.le_of_ble_eq_true rfl) (fun X hX ok hr hnm => ?_)
  subst hX
  exact W_X7_reads ok hr hd hf rfl ⟨rfl, rfl, rfl, rfl, trivial⟩
theorem cw_X7_isAhead : CW yX7_isAhead cX7_isAhead 4 (Option.some Jvm.ClassFile.FieldType.boolean) 3 := ⟨q2499, q185, ⟨by decide, by decide⟩, by decide +kernel, by decide⟩
theorem W_X7_isAhead {G : GT} {X : CX} {d : Nat} {h0 : AH} {Q : State → Prop} (ok : Ok G X RX7 cX7_isAhead 4 d h0) (hr : (cxm X).sig.returnType = (Option.some Jvm.ClassFile.FieldType.boolean)) (hd : 2 ≤ d) {a0 : Nat} {x1 : Int32} {x2 : Int32} {x3 : Int32} {h : AH} {z : (Int32 × AH)} (hf : X7_isAhead a0 x1 x2 x3 h = some z) (hk : Q = QM G X h0 (some (vi z.1)) z.2) {lv : List (Nat × AV)} (hl : lle lv [(0, vr (some a0)), (1, vi x1), (2, vi x2), (3, vi x3)]) : V G X 4 h0 Q h 0 lv [] := by
  refine V.sub hl ?_
  unfold X7_isAhead at hf
  refine v_iload_n ok 1 dX7_isAhead_0 rfl rfl ?_
  refine v_i2l ok dX7_isAhead_1 ?_
  refine v_iload_n ok 2 dX7_isAhead_2 rfl rfl ?_
  refine v_i2l ok dX7_isAhead_3 ?_
  refine v_iload_n ok 3 dX7_isAhead_4 rfl rfl ?_
  refine v_i2l ok dX7_isAhead_5 ?_
  refine v_cSi ok [vl (Int32.toInt64 x1), vl (Int32.toInt64 x2), vl (Int32.toInt64 x3)] (F := X7_isIn (Int32.toInt64 x1) (Int32.toInt64 x2) (Int32.toInt64 x3) h) (fun v h1 hv => M_X7_isIn ok.2.2.2.2.2.2.1 (d := 1) (Nat.le_refl _) hv) (by exact Nat.le_trans (by decide) hd) cw_X7_isIn q2215 q2216 dX7_isAhead_6 [] rfl (Nat.le_of_ble_eq_true rfl) hf (fun v1 h2 hf => ?_)
  refine v_if_eq ok 30 dX7_isAhead_9 rfl hf (fun hf => ?_) (fun hf => ?_)
  ·
    refine v_iconst ok 0 dX7_isAhead_30 rfl ?_
    exact v_zretL ok hr (by decide) (by decide) (by cases hf; exact hk) dX7_isAhead_31
  ·
    refine v_aload_n ok 0 dX7_isAhead_12 rfl rfl ?_
    refine v_gR ok fl_X7_132 (by first | exact Or.inl ⟨_, rfl⟩ | exact Or.inr ⟨_, rfl⟩) dX7_isAhead_13 hf (fun v3 hf => ?_)
    refine v_iconst ok 0 dX7_isAhead_16 rfl ?_
    refine v_iald ok rfl dX7_isAhead_17 hf (fun v4 hf => ?_)
    refine v_iload_n ok 1 dX7_isAhead_18 rfl rfl ?_
    refine v_iadd ok dX7_isAhead_19 ?_
    refine v_sipush ok 999 dX7_isAhead_20 rfl ?_
    refine v_icmp_gt ok 30 dX7_isAhead_23 rfl hf (fun hf => ?_) (fun hf => ?_)
    ·
      refine v_iconst ok 0 dX7_isAhead_30 rfl ?_
      exact v_zretL ok hr (by decide) (by decide) (by cases hf; exact hk) dX7_isAhead_31
    ·
      refine v_iconst ok 1 dX7_isAhead_26 rfl ?_
      refine v_goto ok 31 dX7_isAhead_27 rfl ?_
      exact v_zretL ok hr (by decide) (by decide) (by cases hf; exact hk) dX7_isAhead_31
theorem M_X7_isAhead {G : GT} {l : Launch} (hG : Glob G) {d : Nat} (hd : 2 ≤ d) {a0 : Nat} {x1 : Int32} {x2 : Int32} {x3 : Int32} {h : AH} {v : Int32} {h' : AH} (hf : X7_isAhead a0 x1 x2 x3 h = some (v, h')) : MM G l yX7_isAhead cX7_isAhead 4 (Option.some Jvm.ClassFile.FieldType.boolean) d [vr (some a0), vi x1, vi x2, vi x3] h (some (vi v)) h' := by
  refine mm_of hG (plainFor_of_name (by decide)) (Nat.le_of_ble_eq_true rfl) (fun X hX ok hr hnm => ?_)
  subst hX
  exact W_X7_isAhead ok hr hd hf rfl ⟨rfl, rfl, rfl, rfl, trivial⟩
theorem cw_X7_putsAside : CW yX7_putsAside cX7_putsAside 2 none 0 := ⟨q2503, q185, ⟨by decide, by decide⟩, by decide +kernel, by decide⟩
def pkX7_putsAside_7 (G : GT) (X : CX) (h0 : AH) (Q : State → Prop) (a0 : Nat) (o : ((Int32 × AH) ⊕ (AH))) : Prop := match o with
  | .inl s => ∀ lv : List (Nat × AV), lle lv [(0, vr (some a0)), (1, vi s.1)] → V G X 2 h0 Q s.2 7 lv []
  | .inr z => Q = QM G X h0 none z
theorem W_X7_putsAside_7b {G : GT} {X : CX} {d : Nat} {h0 : AH} {Q : State → Prop} (ok : Ok G X RX7 cX7_putsAside 2 d h0) (hr : (cxm X).sig.returnType = none) (hd : 1 ≤ d) {a0 : Nat} {x1 : Int32} {h : AH} {z : ((Int32 × AH) ⊕ (AH))} (hf : X7_putsAside_7b  a0 x1 h = some z) (hk : pkX7_putsAside_7 G X h0 Q a0 z) {lv : List (Nat × AV)} (hl : lle lv [(0, vr (some a0)), (1, vi x1)]) : V G X 2 h0 Q h 7 lv [] := by
  refine V.sub hl ?_
  unfold X7_putsAside_7b at hf
  refine v_iload_n ok 1 dX7_putsAside_7 rfl rfl ?_
  refine v_bipush ok 33 dX7_putsAside_8 rfl ?_
  refine v_icmp_ge ok 31 dX7_putsAside_10 rfl hf (fun hf => ?_) (fun hf => ?_)
  ·
    exact v_vret ok hr (by cases hf; exact hk) dX7_putsAside_31
  ·
    refine v_aload_n ok 0 dX7_putsAside_13 rfl rfl ?_
    refine v_gR ok fl_X7_135 (by first | exact Or.inl ⟨_, rfl⟩ | exact Or.inr ⟨_, rfl⟩) dX7_putsAside_14 hf (fun v1 hf => ?_)
    refine v_iload_n ok 1 dX7_putsAside_17 rfl rfl ?_
    refine v_aload_n ok 0 dX7_putsAside_18 rfl rfl ?_
    refine v_gR ok fl_X7_132 (by first | exact Or.inl ⟨_, rfl⟩ | exact Or.inr ⟨_, rfl⟩) dX7_putsAside_19 hf (fun v2 hf => ?_)
    refine v_iload_n ok 1 dX7_putsAside_22 rfl rfl ?_
    refine v_iald ok rfl dX7_putsAside_23 hf (fun v3 hf => ?_)
    refine v_iast ok rfl dX7_putsAside_24 hf (fun h4 hf => ?_)
    refine v_iinc ok x1 (x1 + 1) dX7_putsAside_25 rfl rfl (by decide) ?_
    refine v_goto ok 7 dX7_putsAside_28 rfl ?_
    cases hf; exact hk _ ⟨rfl, rfl, trivial⟩
theorem W_X7_putsAside_7 {G : GT} {X : CX} {d : Nat} {h0 : AH} {Q : State → Prop} (ok : Ok G X RX7 cX7_putsAside 2 d h0) (hr : (cxm X).sig.returnType = none) (hd : 1 ≤ d) {a0 : Nat} {x1 : Int32} {h : AH} {z : (AH)} (hf : X7_putsAside_7  a0 x1 h = some z) (hk : Q = QM G X h0 none z) {lv : List (Nat × AV)} (hl : lle lv [(0, vr (some a0)), (1, vi x1)]) : V G X 2 h0 Q h 7 lv [] := by
  unfold X7_putsAside_7 at hf
  exact loopC_walk (Wh := fun s : Int32 × AH => ∀ lv : List (Nat × AV), lle lv [(0, vr (some a0)), (1, vi s.1)] → V G X 2 h0 Q s.2 7 lv []) (PK := fun z => Q = QM G X h0 none z) (fun s o hf hk lv hl => W_X7_putsAside_7b ok hr hd hf (by cases o <;> exact hk) hl) _ z hf hk lv hl
theorem W_X7_putsAside {G : GT} {X : CX} {d : Nat} {h0 : AH} {Q : State → Prop} (ok : Ok G X RX7 cX7_putsAside 2 d h0) (hr : (cxm X).sig.returnType = none) (hd : 1 ≤ d) {a0 : Nat} {h : AH} {z : (AH)} (hf : X7_putsAside a0 h = some z) (hk : Q = QM G X h0 none z) {lv : List (Nat × AV)} (hl : lle lv [(0, vr (some a0))]) : V G X 2 h0 Q h 0 lv [] := by
  refine V.sub hl ?_
  unfold X7_putsAside at hf
  refine v_aload_n ok 0 dX7_putsAside_0 rfl rfl ?_
  refine v_iconst ok 1 dX7_putsAside_1 rfl ?_
  refine v_pZ ok fl_X7_505 ⟨fun _ _ _ => rfl, by first | exact Or.inl rfl | exact Or.inr rfl⟩ (FN.of cf_7.1 rfl) dX7_putsAside_2 hf (fun h5 hf => ?_)
  refine v_iconst ok 0 dX7_putsAside_5 rfl ?_
  refine v_istore_n ok 1 dX7_putsAside_6 rfl (by decide) ?_
  exact W_X7_putsAside_7 ok hr hd hf hk ⟨rfl, rfl, trivial⟩
theorem M_X7_putsAside {G : GT} {l : Launch} (hG : Glob G) {d : Nat} (hd : 1 ≤ d) {a0 : Nat} {h : AH} {h' : AH} (hf : X7_putsAside a0 h = some h') : MM G l yX7_putsAside cX7_putsAside 2 none d [vr (some a0)] h none h' := by
  refine mm_of hG (plainFor_of_name (by decide)) (Nat.le_of_ble_eq_true rfl) (fun X hX ok hr hnm => ?_)
  subst hX
  exact W_X7_putsAside ok hr hd hf rfl ⟨rfl, trivial⟩
theorem cw_X7_takesBack : CW yX7_takesBack cX7_takesBack 2 none 0 := ⟨q2535, q185, ⟨by decide, by decide⟩, by decide +kernel, by decide⟩
def pkX7_takesBack_2 (G : GT) (X : CX) (h0 : AH) (Q : State → Prop) (a0 : Nat) (o : ((Int32 × AH) ⊕ (AH))) : Prop := match o with
  | .inl s => ∀ lv : List (Nat × AV), lle lv [(0, vr (some a0)), (1, vi s.1)] → V G X 2 h0 Q s.2 2 lv []
  | .inr z => Q = QM G X h0 none z
theorem W_X7_takesBack_26 {G : GT} {X : CX} {d : Nat} {h0 : AH} {Q : State → Prop} (ok : Ok G X RX7 cX7_takesBack 2 d h0) (hr : (cxm X).sig.returnType = none) (hd : 1 ≤ d) {a0 : Nat} {h : AH} {z : (AH)} (hf : X7_takesBack_26 a0 h = some z) (hk : Q = QM G X h0 none z) {lv : List (Nat × AV)} (hl : lle lv [(0, vr (some a0))]) : V G X 2 h0 Q h 26 lv [] := by
  refine V.sub hl ?_
  unfold X7_takesBack_26 at hf
  refine v_aload_n ok 0 dX7_takesBack_26 rfl rfl ?_
  refine v_iconst ok 0 dX7_takesBack_27 rfl ?_
  refine v_pZ ok fl_X7_505 ⟨fun _ _ _ => rfl, by first | exact Or.inl rfl | exact Or.inr rfl⟩ (FN.of cf_7.1 rfl) dX7_takesBack_28 hf (fun h1 hf => ?_)
  exact v_vret ok hr (by cases hf; exact hk) dX7_takesBack_31
theorem W_X7_takesBack_2b {G : GT} {X : CX} {d : Nat} {h0 : AH} {Q : State → Prop} (ok : Ok G X RX7 cX7_takesBack 2 d h0) (hr : (cxm X).sig.returnType = none) (hd : 1 ≤ d) {a0 : Nat} {x1 : Int32} {h : AH} {z : ((Int32 × AH) ⊕ (AH))} (hf : X7_takesBack_2b  a0 x1 h = some z) (hk : pkX7_takesBack_2 G X h0 Q a0 z) {lv : List (Nat × AV)} (hl : lle lv [(0, vr (some a0)), (1, vi x1)]) : V G X 2 h0 Q h 2 lv [] := by
  refine V.sub hl ?_
  unfold X7_takesBack_2b at hf
  refine v_iload_n ok 1 dX7_takesBack_2 rfl rfl ?_
  refine v_bipush ok 33 dX7_takesBack_3 rfl ?_
  refine v_icmp_ge ok 26 dX7_takesBack_5 rfl hf (fun hf => ?_) (fun hf => ?_)
  ·
    obtain ⟨o, ho, hz⟩ := ob hf
    cases hz; exact W_X7_takesBack_26 ok hr hd ho hk ⟨rfl, trivial⟩
  ·
    refine v_aload_n ok 0 dX7_takesBack_8 rfl rfl ?_
    refine v_gR ok fl_X7_132 (by first | exact Or.inl ⟨_, rfl⟩ | exact Or.inr ⟨_, rfl⟩) dX7_takesBack_9 hf (fun v2 hf => ?_)
    refine v_iload_n ok 1 dX7_takesBack_12 rfl rfl ?_
    refine v_aload_n ok 0 dX7_takesBack_13 rfl rfl ?_
    refine v_gR ok fl_X7_135 (by first | exact Or.inl ⟨_, rfl⟩ | exact Or.inr ⟨_, rfl⟩) dX7_takesBack_14 hf (fun v3 hf => ?_)
    refine v_iload_n ok 1 dX7_takesBack_17 rfl rfl ?_
    refine v_iald ok rfl dX7_takesBack_18 hf (fun v4 hf => ?_)
    refine v_iast ok rfl dX7_takesBack_19 hf (fun h5 hf => ?_)
    refine v_iinc ok x1 (x1 + 1) dX7_takesBack_20 rfl rfl (by decide) ?_
    refine v_goto ok 2 dX7_takesBack_23 rfl ?_
    cases hf; exact hk _ ⟨rfl, rfl, trivial⟩
theorem W_X7_takesBack_2 {G : GT} {X : CX} {d : Nat} {h0 : AH} {Q : State → Prop} (ok : Ok G X RX7 cX7_takesBack 2 d h0) (hr : (cxm X).sig.returnType = none) (hd : 1 ≤ d) {a0 : Nat} {x1 : Int32} {h : AH} {z : (AH)} (hf : X7_takesBack_2  a0 x1 h = some z) (hk : Q = QM G X h0 none z) {lv : List (Nat × AV)} (hl : lle lv [(0, vr (some a0)), (1, vi x1)]) : V G X 2 h0 Q h 2 lv [] := by
  unfold X7_takesBack_2 at hf
  exact loopC_walk (Wh := fun s : Int32 × AH => ∀ lv : List (Nat × AV), lle lv [(0, vr (some a0)), (1, vi s.1)] → V G X 2 h0 Q s.2 2 lv []) (PK := fun z => Q = QM G X h0 none z) (fun s o hf hk lv hl => W_X7_takesBack_2b ok hr hd hf (by cases o <;> exact hk) hl) _ z hf hk lv hl
theorem W_X7_takesBack {G : GT} {X : CX} {d : Nat} {h0 : AH} {Q : State → Prop} (ok : Ok G X RX7 cX7_takesBack 2 d h0) (hr : (cxm X).sig.returnType = none) (hd : 1 ≤ d) {a0 : Nat} {h : AH} {z : (AH)} (hf : X7_takesBack a0 h = some z) (hk : Q = QM G X h0 none z) {lv : List (Nat × AV)} (hl : lle lv [(0, vr (some a0))]) : V G X 2 h0 Q h 0 lv [] := by
  refine V.sub hl ?_
  unfold X7_takesBack at hf
  refine v_iconst ok 0 dX7_takesBack_0 rfl ?_
  refine v_istore_n ok 1 dX7_takesBack_1 rfl (by decide) ?_
  exact W_X7_takesBack_2 ok hr hd hf hk ⟨rfl, rfl, trivial⟩
theorem M_X7_takesBack {G : GT} {l : Launch} (hG : Glob G) {d : Nat} (hd : 1 ≤ d) {a0 : Nat} {h : AH} {h' : AH} (hf : X7_takesBack a0 h = some h') : MM G l yX7_takesBack cX7_takesBack 2 none d [vr (some a0)] h none h' := by
  refine mm_of hG (plainFor_of_name (by decide)) (Nat.le_of_ble_eq_true rfl) (fun X hX ok hr hnm => ?_)
  subst hX
  exact W_X7_takesBack ok hr hd hf rfl ⟨rfl, trivial⟩
theorem cw_X7_laysSaid : CW yX7_laysSaid cX7_laysSaid 3 none 0 := ⟨q2511, q185, ⟨by decide, by decide⟩, by decide +kernel, by decide⟩
def pkX7_laysSaid_2 (G : GT) (X : CX) (h0 : AH) (Q : State → Prop) (a0 : Nat) (o : ((Int32 × AH) ⊕ (AH))) : Prop := match o with
  | .inl s => ∀ lv : List (Nat × AV), lle lv [(0, vr (some a0)), (1, vi s.1)] → V G X 3 h0 Q s.2 2 lv []
  | .inr z => Q = QM G X h0 none z
def pkX7_laysSaid_12 (G : GT) (X : CX) (h0 : AH) (Q : State → Prop) (a0 : Nat) (x1 : Int32) (o : ((Int32 × AH) ⊕ ((Int32 × AH) ⊕ (AH)))) : Prop := match o with
  | .inl s => ∀ lv : List (Nat × AV), lle lv [(0, vr (some a0)), (1, vi x1), (2, vi s.1)] → V G X 3 h0 Q s.2 12 lv []
  | .inr z => pkX7_laysSaid_2 G X h0 Q a0 z
theorem W_X7_laysSaid_12b {G : GT} {X : CX} {d : Nat} {h0 : AH} {Q : State → Prop} (ok : Ok G X RX7 cX7_laysSaid 3 d h0) (hr : (cxm X).sig.returnType = none) (hd : 8 ≤ d) {a0 : Nat} {x1 : Int32} {x2 : Int32} {h : AH} {z : ((Int32 × AH) ⊕ ((Int32 × AH) ⊕ (AH)))} (hf : X7_laysSaid_12b  a0 x1 x2 h = some z) (hk : pkX7_laysSaid_12 G X h0 Q a0 x1 z) {lv : List (Nat × AV)} (hl : lle lv [(0, vr (some a0)), (1, vi x1), (2, vi x2)]) : V G X 3 h0 Q h 12 lv [] := by
  refine V.sub hl ?_
  unfold X7_laysSaid_12b at hf
  refine v_iload_n ok 2 dX7_laysSaid_12 rfl rfl ?_
  refine v_aload_n ok 0 dX7_laysSaid_13 rfl rfl ?_
  refine v_aload_n ok 0 dX7_laysSaid_14 rfl rfl ?_
  refine v_iload_n ok 1 dX7_laysSaid_15 rfl rfl ?_
  refine v_cVi ok (RX7, TX7, 117) cf_7.1 [vi x1] (F := fun a => X7_wordOf a x1 h) (fun a v h1 _ hv => M_X7_wordOf ok.2.2.2.2.2.2.1 (d := 1) (Nat.le_refl _) hv) (by exact Nat.le_trans (by decide) hd) cw_X7_wordOf q2413 q2415 qs122 dX7_laysSaid_16 [vr (some a0), vi x2] rfl (Nat.le_of_ble_eq_true rfl) hf (fun v1 h2 hf => ?_)
  refine v_cVi ok (RX7, TX7, 117) cf_7.1 [vi v1] (F := fun a => X7_longOf a v1 h2) (fun a v h1 _ hv => M_X7_longOf ok.2.2.2.2.2.2.1 (d := 1) (Nat.le_refl _) hv) (by exact Nat.le_trans (by decide) hd) cw_X7_longOf q2337 q2339 qs109 dX7_laysSaid_19 [vi x2] rfl (Nat.le_of_ble_eq_true rfl) hf (fun v3 h4 hf => ?_)
  refine v_icmp_ge ok 57 dX7_laysSaid_22 rfl hf (fun hf => ?_) (fun hf => ?_)
  ·
    refine v_iinc ok x1 (x1 + 1) dX7_laysSaid_57 rfl rfl (by decide) ?_
    refine v_goto ok 2 dX7_laysSaid_60 rfl ?_
    cases hf; exact hk _ ⟨rfl, rfl, trivial⟩
  ·
    refine v_aload_n ok 0 dX7_laysSaid_25 rfl rfl ?_
    refine v_gR ok fl_X7_138 (by first | exact Or.inl ⟨_, rfl⟩ | exact Or.inr ⟨_, rfl⟩) dX7_laysSaid_26 hf (fun v5 hf => ?_)
    refine v_bipush ok 6 dX7_laysSaid_29 rfl ?_
    refine v_iload_n ok 1 dX7_laysSaid_31 rfl rfl ?_
    refine v_imul ok dX7_laysSaid_32 ?_
    refine v_iload_n ok 2 dX7_laysSaid_33 rfl rfl ?_
    refine v_iadd ok dX7_laysSaid_34 ?_
    refine v_aload_n ok 0 dX7_laysSaid_35 rfl rfl ?_
    refine v_aload_n ok 0 dX7_laysSaid_36 rfl rfl ?_
    refine v_iload_n ok 1 dX7_laysSaid_37 rfl rfl ?_
    refine v_cVi ok (RX7, TX7, 117) cf_7.1 [vi x1] (F := fun a => X7_handOf a x1 h4) (fun a v h1 _ hv => M_X7_handOf ok.2.2.2.2.2.2.1 (d := 1) (Nat.le_refl _) hv) (by exact Nat.le_trans (by decide) hd) cw_X7_handOf q2417 q2419 qs123 dX7_laysSaid_38 [vr (some a0), vi ((6 * x1) + x2), vr v5] rfl (Nat.le_of_ble_eq_true rfl) hf (fun v6 h7 hf => ?_)
    refine v_aload_n ok 0 dX7_laysSaid_41 rfl rfl ?_
    refine v_iload_n ok 1 dX7_laysSaid_42 rfl rfl ?_
    refine v_iload_n ok 2 dX7_laysSaid_43 rfl rfl ?_
    refine v_cVi ok (RX7, TX7, 117) cf_7.1 [vi x1, vi x2] (F := fun a => X7_glyphAt a x1 x2 h7) (fun a v h1 _ hv => M_X7_glyphAt ok.2.2.2.2.2.2.1 (d := 1) (Nat.le_refl _) hv) (by exact Nat.le_trans (by decide) hd) cw_X7_glyphAt q2377 q2379 qs117 dX7_laysSaid_44 [vi v6, vr (some a0), vi ((6 * x1) + x2), vr v5] rfl (Nat.le_of_ble_eq_true rfl) hf (fun v8 h9 hf => ?_)
    refine v_cVi ok (RX7, TX7, 117) cf_7.1 [vi v6, vi v8] (F := fun a => X7_readAs a v6 v8 h9) (fun a v h1 _ hv => M_X7_readAs ok.2.2.2.2.2.2.1 (d := 7) (Nat.le_refl _) hv) (by exact Nat.le_trans (by decide) hd) cw_X7_readAs q2488 q2490 qs132 dX7_laysSaid_47 [vi ((6 * x1) + x2), vr v5] rfl (Nat.le_of_ble_eq_true rfl) hf (fun v10 h11 hf => ?_)
    refine v_iast ok rfl dX7_laysSaid_50 hf (fun h12 hf => ?_)
    refine v_iinc ok x2 (x2 + 1) dX7_laysSaid_51 rfl rfl (by decide) ?_
    refine v_goto ok 12 dX7_laysSaid_54 rfl ?_
    cases hf; exact hk _ ⟨rfl, rfl, rfl, trivial⟩
theorem W_X7_laysSaid_12 {G : GT} {X : CX} {d : Nat} {h0 : AH} {Q : State → Prop} (ok : Ok G X RX7 cX7_laysSaid 3 d h0) (hr : (cxm X).sig.returnType = none) (hd : 8 ≤ d) {a0 : Nat} {x1 : Int32} {x2 : Int32} {h : AH} {z : ((Int32 × AH) ⊕ (AH))} (hf : X7_laysSaid_12  a0 x1 x2 h = some z) (hk : pkX7_laysSaid_2 G X h0 Q a0 z) {lv : List (Nat × AV)} (hl : lle lv [(0, vr (some a0)), (1, vi x1), (2, vi x2)]) : V G X 3 h0 Q h 12 lv [] := by
  unfold X7_laysSaid_12 at hf
  exact loopC_walk (Wh := fun s : Int32 × AH => ∀ lv : List (Nat × AV), lle lv [(0, vr (some a0)), (1, vi x1), (2, vi s.1)] → V G X 3 h0 Q s.2 12 lv []) (PK := fun z => pkX7_laysSaid_2 G X h0 Q a0 z) (fun s o hf hk lv hl => W_X7_laysSaid_12b ok hr hd hf (by cases o <;> exact hk) hl) _ z hf hk lv hl
theorem W_X7_laysSaid_2b {G : GT} {X : CX} {d : Nat} {h0 : AH} {Q : State → Prop} (ok : Ok G X RX7 cX7_laysSaid 3 d h0) (hr : (cxm X).sig.returnType = none) (hd : 8 ≤ d) {a0 : Nat} {x1 : Int32} {h : AH} {z : ((Int32 × AH) ⊕ (AH))} (hf : X7_laysSaid_2b  a0 x1 h = some z) (hk : pkX7_laysSaid_2 G X h0 Q a0 z) {lv : List (Nat × AV)} (hl : lle lv [(0, vr (some a0)), (1, vi x1)]) : V G X 3 h0 Q h 2 lv [] := by
  refine V.sub hl ?_
  unfold X7_laysSaid_2b at hf
  refine v_iload_n ok 1 dX7_laysSaid_2 rfl rfl ?_
  refine v_aload_n ok 0 dX7_laysSaid_3 rfl rfl ?_
  refine v_cVi ok (RX7, TX7, 117) cf_7.1 [] (F := fun a => X7_boardMany a h) (fun a v h1 _ hv => M_X7_boardMany ok.2.2.2.2.2.2.1 (d := 1) (Nat.le_refl _) hv) (by exact Nat.le_trans (by decide) hd) cw_X7_boardMany q2369 q2371 qs115 dX7_laysSaid_4 [vi x1] rfl (Nat.le_of_ble_eq_true rfl) hf (fun v13 h14 hf => ?_)
  refine v_icmp_ge ok 63 dX7_laysSaid_7 rfl hf (fun hf => ?_) (fun hf => ?_)
  ·
    exact v_vret ok hr (by cases hf; exact hk) dX7_laysSaid_63
  ·
    refine v_iconst ok 0 dX7_laysSaid_10 rfl ?_
    refine v_istore_n ok 2 dX7_laysSaid_11 rfl (by decide) ?_
    exact W_X7_laysSaid_12 ok hr hd hf hk ⟨rfl, rfl, rfl, trivial⟩
theorem W_X7_laysSaid_2 {G : GT} {X : CX} {d : Nat} {h0 : AH} {Q : State → Prop} (ok : Ok G X RX7 cX7_laysSaid 3 d h0) (hr : (cxm X).sig.returnType = none) (hd : 8 ≤ d) {a0 : Nat} {x1 : Int32} {h : AH} {z : (AH)} (hf : X7_laysSaid_2  a0 x1 h = some z) (hk : Q = QM G X h0 none z) {lv : List (Nat × AV)} (hl : lle lv [(0, vr (some a0)), (1, vi x1)]) : V G X 3 h0 Q h 2 lv [] := by
  unfold X7_laysSaid_2 at hf
  exact loopC_walk (Wh := fun s : Int32 × AH => ∀ lv : List (Nat × AV), lle lv [(0, vr (some a0)), (1, vi s.1)] → V G X 3 h0 Q s.2 2 lv []) (PK := fun z => Q = QM G X h0 none z) (fun s o hf hk lv hl => W_X7_laysSaid_2b ok hr hd hf (by cases o <;> exact hk) hl) _ z hf hk lv hl
theorem W_X7_laysSaid {G : GT} {X : CX} {d : Nat} {h0 : AH} {Q : State → Prop} (ok : Ok G X RX7 cX7_laysSaid 3 d h0) (hr : (cxm X).sig.returnType = none) (hd : 8 ≤ d) {a0 : Nat} {h : AH} {z : (AH)} (hf : X7_laysSaid a0 h = some z) (hk : Q = QM G X h0 none z) {lv : List (Nat × AV)} (hl : lle lv [(0, vr (some a0))]) : V G X 3 h0 Q h 0 lv [] := by
  refine V.sub hl ?_
  unfold X7_laysSaid at hf
  refine v_iconst ok 0 dX7_laysSaid_0 rfl ?_
  refine v_istore_n ok 1 dX7_laysSaid_1 rfl (by decide) ?_
  exact W_X7_laysSaid_2 ok hr hd hf hk ⟨rfl, rfl, trivial⟩
theorem M_X7_laysSaid {G : GT} {l : Launch} (hG : Glob G) {d : Nat} (hd : 8 ≤ d) {a0 : Nat} {h : AH} {h' : AH} (hf : X7_laysSaid a0 h = some h') : MM G l yX7_laysSaid cX7_laysSaid 3 none d [vr (some a0)] h none h' := by
  refine mm_of hG (plainFor_of_name (by decide)) (Nat.le_of_ble_eq_true rfl) (fun X hX ok hr hnm => ?_)
  subst hX
  exact W_X7_laysSaid ok hr hd hf rfl ⟨rfl, trivial⟩
theorem cw_X7_isKept : CW yX7_isKept cX7_isKept 6 none 1 := ⟨q2531, q185, ⟨by decide, by decide⟩, by decide +kernel, by decide⟩
def pkX7_isKept_101 (G : GT) (X : CX) (h0 : AH) (Q : State → Prop) (a0 : Nat) (x1 : Int32) (x3 : Int32) (o : ((Int32 × AH) ⊕ (AH))) : Prop := match o with
  | .inl s => ∀ lv : List (Nat × AV), lle lv [(0, vr (some a0)), (1, vi x1), (3, vi x3), (4, vi s.1)] → V G X 6 h0 Q s.2 101 lv []
  | .inr z => Q = QM G X h0 none z
def pkX7_isKept_7 (G : GT) (X : CX) (h0 : AH) (Q : State → Prop) (a0 : Nat) (x1 : Int32) (o : ((Int32 × Int32 × Int32 × AH) ⊕ (AH))) : Prop := match o with
  | .inl s => ∀ lv : List (Nat × AV), lle lv [(0, vr (some a0)), (1, vi x1), (2, vi s.1), (3, vi s.2.1), (4, vi s.2.2.1)] → V G X 6 h0 Q s.2.2.2 7 lv []
  | .inr z => Q = QM G X h0 none z
theorem W_X7_isKept_65 {G : GT} {X : CX} {d : Nat} {h0 : AH} {Q : State → Prop} (ok : Ok G X RX7 cX7_isKept 6 d h0) (hr : (cxm X).sig.returnType = none) (hd : 8 ≤ d) {a0 : Nat} {x1 : Int32} {x3 : Int32} {x4 : Int32} {x5 : Int32} {s0 : Int32} {h : AH} {z : ((Int32 × Int32 × Int32 × AH) ⊕ (AH))} (hf : X7_isKept_65 a0 x1 x3 x4 x5 s0 h = some z) (hk : pkX7_isKept_7 G X h0 Q a0 x1 z) {lv : List (Nat × AV)} (hl : lle lv [(0, vr (some a0)), (1, vi x1), (3, vi x3), (4, vi x4), (5, vi x5)]) : V G X 6 h0 Q h 65 lv [vi s0] := by
  refine V.sub hl ?_
  unfold X7_isKept_65 at hf
  refine v_istore_n ok 2 dX7_isKept_65 rfl (by decide) ?_
  refine v_iload ok dX7_isKept_66 rfl ?_
  refine v_if_ne ok 74 dX7_isKept_68 rfl hf (fun hf => ?_) (fun hf => ?_)
  ·
    refine v_iinc ok x4 (x4 + 1) dX7_isKept_74 rfl rfl (by decide) ?_
    refine v_goto ok 7 dX7_isKept_77 rfl ?_
    cases hf; exact hk _ ⟨rfl, rfl, rfl, rfl, rfl, trivial⟩
  ·
    refine v_iinc ok x3 (x3 + 1) dX7_isKept_71 rfl rfl (by decide) ?_
    refine v_iinc ok x4 (x4 + 1) dX7_isKept_74 rfl rfl (by decide) ?_
    refine v_goto ok 7 dX7_isKept_77 rfl ?_
    cases hf; exact hk _ ⟨rfl, rfl, rfl, rfl, rfl, trivial⟩
theorem W_X7_isKept_60 {G : GT} {X : CX} {d : Nat} {h0 : AH} {Q : State → Prop} (ok : Ok G X RX7 cX7_isKept 6 d h0) (hr : (cxm X).sig.returnType = none) (hd : 8 ≤ d) {a0 : Nat} {x1 : Int32} {x3 : Int32} {x4 : Int32} {x5 : Int32} {h : AH} {z : ((Int32 × Int32 × Int32 × AH) ⊕ (AH))} (hf : X7_isKept_60 a0 x1 x3 x4 x5 h = some z) (hk : pkX7_isKept_7 G X h0 Q a0 x1 z) {lv : List (Nat × AV)} (hl : lle lv [(0, vr (some a0)), (1, vi x1), (3, vi x3), (4, vi x4), (5, vi x5)]) : V G X 6 h0 Q h 60 lv [] := by
  refine V.sub hl ?_
  unfold X7_isKept_60 at hf
  refine v_iconst ok 1 dX7_isKept_60 rfl ?_
  refine v_goto ok 65 dX7_isKept_61 rfl ?_
  exact W_X7_isKept_65 ok hr hd hf hk ⟨rfl, rfl, rfl, rfl, rfl, trivial⟩
theorem W_X7_isKept_145 {G : GT} {X : CX} {d : Nat} {h0 : AH} {Q : State → Prop} (ok : Ok G X RX7 cX7_isKept 6 d h0) (hr : (cxm X).sig.returnType = none) (hd : 8 ≤ d) {a0 : Nat} {x1 : Int32} {x3 : Int32} {h : AH} {z : (AH)} (hf : X7_isKept_145 a0 x1 x3 h = some z) (hk : Q = QM G X h0 none z) {lv : List (Nat × AV)} (hl : lle lv [(0, vr (some a0)), (1, vi x1), (3, vi x3)]) : V G X 6 h0 Q h 145 lv [] := by
  refine V.sub hl ?_
  unfold X7_isKept_145 at hf
  refine v_bipush ok 34 dX7_isKept_145 rfl ?_
  refine v_iconst ok 3 dX7_isKept_147 rfl ?_
  refine v_aload_n ok 0 dX7_isKept_148 rfl rfl ?_
  refine v_gR ok fl_X7_132 (by first | exact Or.inl ⟨_, rfl⟩ | exact Or.inr ⟨_, rfl⟩) dX7_isKept_149 hf (fun v1 hf => ?_)
  refine v_bipush ok 33 dX7_isKept_152 rfl ?_
  refine v_iald ok rfl dX7_isKept_154 hf (fun v2 hf => ?_)
  refine v_imul ok dX7_isKept_155 ?_
  refine v_iadd ok dX7_isKept_156 ?_
  refine v_iconst ok 3 dX7_isKept_157 rfl ?_
  refine v_isub ok dX7_isKept_158 ?_
  refine v_istore ok dX7_isKept_159 (by decide) ?_
  refine v_aload_n ok 0 dX7_isKept_161 rfl rfl ?_
  refine v_gR ok fl_X7_132 (by first | exact Or.inl ⟨_, rfl⟩ | exact Or.inr ⟨_, rfl⟩) dX7_isKept_162 hf (fun v3 hf => ?_)
  refine v_iload ok dX7_isKept_165 rfl ?_
  refine v_aload_n ok 0 dX7_isKept_167 rfl rfl ?_
  refine v_gR ok fl_X7_132 (by first | exact Or.inl ⟨_, rfl⟩ | exact Or.inr ⟨_, rfl⟩) dX7_isKept_168 hf (fun v4 hf => ?_)
  refine v_iconst ok 0 dX7_isKept_171 rfl ?_
  refine v_iald ok rfl dX7_isKept_172 hf (fun v5 hf => ?_)
  refine v_iast ok rfl dX7_isKept_173 hf (fun h6 hf => ?_)
  refine v_aload_n ok 0 dX7_isKept_174 rfl rfl ?_
  refine v_gR ok fl_X7_132 (by first | exact Or.inl ⟨_, rfl⟩ | exact Or.inr ⟨_, rfl⟩) dX7_isKept_175 hf (fun v7 hf => ?_)
  refine v_iload ok dX7_isKept_178 rfl ?_
  refine v_iconst ok 1 dX7_isKept_180 rfl ?_
  refine v_iadd ok dX7_isKept_181 ?_
  refine v_iload_n ok 1 dX7_isKept_182 rfl rfl ?_
  refine v_iast ok rfl dX7_isKept_183 hf (fun h8 hf => ?_)
  refine v_aload_n ok 0 dX7_isKept_184 rfl rfl ?_
  refine v_gR ok fl_X7_132 (by first | exact Or.inl ⟨_, rfl⟩ | exact Or.inr ⟨_, rfl⟩) dX7_isKept_185 hf (fun v9 hf => ?_)
  refine v_iload ok dX7_isKept_188 rfl ?_
  refine v_iconst ok 2 dX7_isKept_190 rfl ?_
  refine v_iadd ok dX7_isKept_191 ?_
  refine v_iload_n ok 3 dX7_isKept_192 rfl rfl ?_
  refine v_iast ok rfl dX7_isKept_193 hf (fun h10 hf => ?_)
  exact v_vret ok hr (by cases hf; exact hk) dX7_isKept_194
theorem W_X7_isKept_131 {G : GT} {X : CX} {d : Nat} {h0 : AH} {Q : State → Prop} (ok : Ok G X RX7 cX7_isKept 6 d h0) (hr : (cxm X).sig.returnType = none) (hd : 8 ≤ d) {a0 : Nat} {x1 : Int32} {x3 : Int32} {h : AH} {z : (AH)} (hf : X7_isKept_131 a0 x1 x3 h = some z) (hk : Q = QM G X h0 none z) {lv : List (Nat × AV)} (hl : lle lv [(0, vr (some a0)), (1, vi x1), (3, vi x3)]) : V G X 6 h0 Q h 131 lv [] := by
  refine V.sub hl ?_
  unfold X7_isKept_131 at hf
  refine v_goto ok 145 dX7_isKept_131 rfl ?_
  exact W_X7_isKept_145 ok hr hd hf hk ⟨rfl, rfl, rfl, trivial⟩
theorem W_X7_isKept_101b {G : GT} {X : CX} {d : Nat} {h0 : AH} {Q : State → Prop} (ok : Ok G X RX7 cX7_isKept 6 d h0) (hr : (cxm X).sig.returnType = none) (hd : 8 ≤ d) {a0 : Nat} {x1 : Int32} {x3 : Int32} {x4 : Int32} {h : AH} {z : ((Int32 × AH) ⊕ (AH))} (hf : X7_isKept_101b  a0 x1 x3 x4 h = some z) (hk : pkX7_isKept_101 G X h0 Q a0 x1 x3 z) {lv : List (Nat × AV)} (hl : lle lv [(0, vr (some a0)), (1, vi x1), (3, vi x3), (4, vi x4)]) : V G X 6 h0 Q h 101 lv [] := by
  refine V.sub hl ?_
  unfold X7_isKept_101b at hf
  refine v_iload ok dX7_isKept_101 rfl ?_
  refine v_sipush ok 151 dX7_isKept_103 rfl ?_
  refine v_icmp_ge ok 131 dX7_isKept_106 rfl hf (fun hf => ?_) (fun hf => ?_)
  ·
    obtain ⟨o, ho, hz⟩ := ob hf
    cases hz; exact W_X7_isKept_131 ok hr hd ho hk ⟨rfl, rfl, rfl, trivial⟩
  ·
    refine v_aload_n ok 0 dX7_isKept_109 rfl rfl ?_
    refine v_gR ok fl_X7_132 (by first | exact Or.inl ⟨_, rfl⟩ | exact Or.inr ⟨_, rfl⟩) dX7_isKept_110 hf (fun v11 hf => ?_)
    refine v_iload ok dX7_isKept_113 rfl ?_
    refine v_aload_n ok 0 dX7_isKept_115 rfl rfl ?_
    refine v_gR ok fl_X7_132 (by first | exact Or.inl ⟨_, rfl⟩ | exact Or.inr ⟨_, rfl⟩) dX7_isKept_116 hf (fun v12 hf => ?_)
    refine v_iload ok dX7_isKept_119 rfl ?_
    refine v_iconst ok 3 dX7_isKept_121 rfl ?_
    refine v_iadd ok dX7_isKept_122 ?_
    refine v_iald ok rfl dX7_isKept_123 hf (fun v13 hf => ?_)
    refine v_iast ok rfl dX7_isKept_124 hf (fun h14 hf => ?_)
    refine v_iinc ok x4 (x4 + 1) dX7_isKept_125 rfl rfl (by decide) ?_
    refine v_goto ok 101 dX7_isKept_128 rfl ?_
    cases hf; exact hk _ ⟨rfl, rfl, rfl, rfl, trivial⟩
theorem W_X7_isKept_101 {G : GT} {X : CX} {d : Nat} {h0 : AH} {Q : State → Prop} (ok : Ok G X RX7 cX7_isKept 6 d h0) (hr : (cxm X).sig.returnType = none) (hd : 8 ≤ d) {a0 : Nat} {x1 : Int32} {x3 : Int32} {x4 : Int32} {h : AH} {z : (AH)} (hf : X7_isKept_101  a0 x1 x3 x4 h = some z) (hk : Q = QM G X h0 none z) {lv : List (Nat × AV)} (hl : lle lv [(0, vr (some a0)), (1, vi x1), (3, vi x3), (4, vi x4)]) : V G X 6 h0 Q h 101 lv [] := by
  unfold X7_isKept_101 at hf
  exact loopC_walk (Wh := fun s : Int32 × AH => ∀ lv : List (Nat × AV), lle lv [(0, vr (some a0)), (1, vi x1), (3, vi x3), (4, vi s.1)] → V G X 6 h0 Q s.2 101 lv []) (PK := fun z => Q = QM G X h0 none z) (fun s o hf hk lv hl => W_X7_isKept_101b ok hr hd hf (by cases o <;> exact hk) hl) _ z hf hk lv hl
theorem W_X7_isKept_80 {G : GT} {X : CX} {d : Nat} {h0 : AH} {Q : State → Prop} (ok : Ok G X RX7 cX7_isKept 6 d h0) (hr : (cxm X).sig.returnType = none) (hd : 8 ≤ d) {a0 : Nat} {x1 : Int32} {x2 : Int32} {x3 : Int32} {h : AH} {z : (AH)} (hf : X7_isKept_80 a0 x1 x2 x3 h = some z) (hk : Q = QM G X h0 none z) {lv : List (Nat × AV)} (hl : lle lv [(0, vr (some a0)), (1, vi x1), (2, vi x2), (3, vi x3)]) : V G X 6 h0 Q h 80 lv [] := by
  refine V.sub hl ?_
  unfold X7_isKept_80 at hf
  refine v_iload_n ok 2 dX7_isKept_80 rfl rfl ?_
  refine v_if_ne ok 85 dX7_isKept_81 rfl hf (fun hf => ?_) (fun hf => ?_)
  ·
    refine v_aload_n ok 0 dX7_isKept_85 rfl rfl ?_
    refine v_gR ok fl_X7_132 (by first | exact Or.inl ⟨_, rfl⟩ | exact Or.inr ⟨_, rfl⟩) dX7_isKept_86 hf (fun v15 hf => ?_)
    refine v_bipush ok 33 dX7_isKept_89 rfl ?_
    refine v_iald ok rfl dX7_isKept_91 hf (fun v16 hf => ?_)
    refine v_bipush ok 40 dX7_isKept_92 rfl ?_
    refine v_icmp_ne ok 134 dX7_isKept_94 rfl hf (fun hf => ?_) (fun hf => ?_)
    ·
      refine v_aload_n ok 0 dX7_isKept_134 rfl rfl ?_
      refine v_gR ok fl_X7_132 (by first | exact Or.inl ⟨_, rfl⟩ | exact Or.inr ⟨_, rfl⟩) dX7_isKept_135 hf (fun v17 hf => ?_)
      refine v_bipush ok 33 dX7_isKept_138 rfl ?_
      refine v_dup2 ok dX7_isKept_140 rfl rfl ?_
      refine v_iald ok rfl dX7_isKept_141 hf (fun v18 hf => ?_)
      refine v_iconst ok 1 dX7_isKept_142 rfl ?_
      refine v_iadd ok dX7_isKept_143 ?_
      refine v_iast ok rfl dX7_isKept_144 hf (fun h19 hf => ?_)
      exact W_X7_isKept_145 ok hr hd hf hk ⟨rfl, rfl, rfl, trivial⟩
    ·
      refine v_bipush ok 34 dX7_isKept_97 rfl ?_
      refine v_istore ok dX7_isKept_99 (by decide) ?_
      exact W_X7_isKept_101 ok hr hd hf hk ⟨rfl, rfl, rfl, rfl, trivial⟩
  ·
    exact v_vret ok hr (by cases hf; exact hk) dX7_isKept_84
theorem W_X7_isKept_7b {G : GT} {X : CX} {d : Nat} {h0 : AH} {Q : State → Prop} (ok : Ok G X RX7 cX7_isKept 6 d h0) (hr : (cxm X).sig.returnType = none) (hd : 8 ≤ d) {a0 : Nat} {x1 : Int32} {x2 : Int32} {x3 : Int32} {x4 : Int32} {h : AH} {z : ((Int32 × Int32 × Int32 × AH) ⊕ (AH))} (hf : X7_isKept_7b  a0 x1 x2 x3 x4 h = some z) (hk : pkX7_isKept_7 G X h0 Q a0 x1 z) {lv : List (Nat × AV)} (hl : lle lv [(0, vr (some a0)), (1, vi x1), (2, vi x2), (3, vi x3), (4, vi x4)]) : V G X 6 h0 Q h 7 lv [] := by
  refine V.sub hl ?_
  unfold X7_isKept_7b at hf
  refine v_iload ok dX7_isKept_7 rfl ?_
  refine v_aload_n ok 0 dX7_isKept_9 rfl rfl ?_
  refine v_aload_n ok 0 dX7_isKept_10 rfl rfl ?_
  refine v_iload_n ok 1 dX7_isKept_11 rfl rfl ?_
  refine v_cVi ok (RX7, TX7, 117) cf_7.1 [vi x1] (F := fun a => X7_wordOf a x1 h) (fun a v h1 _ hv => M_X7_wordOf ok.2.2.2.2.2.2.1 (d := 1) (Nat.le_refl _) hv) (by exact Nat.le_trans (by decide) hd) cw_X7_wordOf q2413 q2415 qs122 dX7_isKept_12 [vr (some a0), vi x4] rfl (Nat.le_of_ble_eq_true rfl) hf (fun v20 h21 hf => ?_)
  refine v_cVi ok (RX7, TX7, 117) cf_7.1 [vi v20] (F := fun a => X7_longOf a v20 h21) (fun a v h1 _ hv => M_X7_longOf ok.2.2.2.2.2.2.1 (d := 1) (Nat.le_refl _) hv) (by exact Nat.le_trans (by decide) hd) cw_X7_longOf q2337 q2339 qs109 dX7_isKept_15 [vi x4] rfl (Nat.le_of_ble_eq_true rfl) hf (fun v22 h23 hf => ?_)
  refine v_icmp_ge ok 80 dX7_isKept_18 rfl hf (fun hf => ?_) (fun hf => ?_)
  ·
    obtain ⟨o, ho, hz⟩ := ob hf
    cases hz; exact W_X7_isKept_80 ok hr hd ho hk ⟨rfl, rfl, rfl, rfl, trivial⟩
  ·
    refine v_aload_n ok 0 dX7_isKept_21 rfl rfl ?_
    refine v_aload_n ok 0 dX7_isKept_22 rfl rfl ?_
    refine v_iload_n ok 1 dX7_isKept_23 rfl rfl ?_
    refine v_cVi ok (RX7, TX7, 117) cf_7.1 [vi x1] (F := fun a => X7_handOf a x1 h23) (fun a v h1 _ hv => M_X7_handOf ok.2.2.2.2.2.2.1 (d := 1) (Nat.le_refl _) hv) (by exact Nat.le_trans (by decide) hd) cw_X7_handOf q2417 q2419 qs123 dX7_isKept_24 [vr (some a0)] rfl (Nat.le_of_ble_eq_true rfl) hf (fun v24 h25 hf => ?_)
    refine v_aload_n ok 0 dX7_isKept_27 rfl rfl ?_
    refine v_iload_n ok 1 dX7_isKept_28 rfl rfl ?_
    refine v_iload ok dX7_isKept_29 rfl ?_
    refine v_cVi ok (RX7, TX7, 117) cf_7.1 [vi x1, vi x4] (F := fun a => X7_glyphAt a x1 x4 h25) (fun a v h1 _ hv => M_X7_glyphAt ok.2.2.2.2.2.2.1 (d := 1) (Nat.le_refl _) hv) (by exact Nat.le_trans (by decide) hd) cw_X7_glyphAt q2377 q2379 qs117 dX7_isKept_31 [vi v24, vr (some a0)] rfl (Nat.le_of_ble_eq_true rfl) hf (fun v26 h27 hf => ?_)
    refine v_cVi ok (RX7, TX7, 117) cf_7.1 [vi v24, vi v26] (F := fun a => X7_readAs a v24 v26 h27) (fun a v h1 _ hv => M_X7_readAs ok.2.2.2.2.2.2.1 (d := 7) (Nat.le_refl _) hv) (by exact Nat.le_trans (by decide) hd) cw_X7_readAs q2488 q2490 qs132 dX7_isKept_34 [] rfl (Nat.le_of_ble_eq_true rfl) hf (fun v28 h29 hf => ?_)
    refine v_istore ok dX7_isKept_37 (by decide) ?_
    refine v_iload_n ok 2 dX7_isKept_39 rfl rfl ?_
    refine v_if_ne ok 60 dX7_isKept_40 rfl hf (fun hf => ?_) (fun hf => ?_)
    ·
      exact W_X7_isKept_60 ok hr hd hf hk ⟨rfl, rfl, rfl, rfl, rfl, trivial⟩
    ·
      refine v_iload ok dX7_isKept_43 rfl ?_
      refine v_aload_n ok 0 dX7_isKept_45 rfl rfl ?_
      refine v_gR ok fl_X7_138 (by first | exact Or.inl ⟨_, rfl⟩ | exact Or.inr ⟨_, rfl⟩) dX7_isKept_46 hf (fun v30 hf => ?_)
      refine v_bipush ok 6 dX7_isKept_49 rfl ?_
      refine v_iload_n ok 1 dX7_isKept_51 rfl rfl ?_
      refine v_imul ok dX7_isKept_52 ?_
      refine v_iload ok dX7_isKept_53 rfl ?_
      refine v_iadd ok dX7_isKept_55 ?_
      refine v_iald ok rfl dX7_isKept_56 hf (fun v31 hf => ?_)
      refine v_icmp_eq ok 64 dX7_isKept_57 rfl hf (fun hf => ?_) (fun hf => ?_)
      ·
        refine v_iconst ok 0 dX7_isKept_64 rfl ?_
        exact W_X7_isKept_65 ok hr hd hf hk ⟨rfl, rfl, rfl, rfl, rfl, trivial⟩
      ·
        exact W_X7_isKept_60 ok hr hd hf hk ⟨rfl, rfl, rfl, rfl, rfl, trivial⟩
theorem W_X7_isKept_7 {G : GT} {X : CX} {d : Nat} {h0 : AH} {Q : State → Prop} (ok : Ok G X RX7 cX7_isKept 6 d h0) (hr : (cxm X).sig.returnType = none) (hd : 8 ≤ d) {a0 : Nat} {x1 : Int32} {x2 : Int32} {x3 : Int32} {x4 : Int32} {h : AH} {z : (AH)} (hf : X7_isKept_7  a0 x1 x2 x3 x4 h = some z) (hk : Q = QM G X h0 none z) {lv : List (Nat × AV)} (hl : lle lv [(0, vr (some a0)), (1, vi x1), (2, vi x2), (3, vi x3), (4, vi x4)]) : V G X 6 h0 Q h 7 lv [] := by
  unfold X7_isKept_7 at hf
  exact loopC_walk (Wh := fun s : Int32 × Int32 × Int32 × AH => ∀ lv : List (Nat × AV), lle lv [(0, vr (some a0)), (1, vi x1), (2, vi s.1), (3, vi s.2.1), (4, vi s.2.2.1)] → V G X 6 h0 Q s.2.2.2 7 lv []) (PK := fun z => Q = QM G X h0 none z) (fun s o hf hk lv hl => W_X7_isKept_7b ok hr hd hf (by cases o <;> exact hk) hl) _ z hf hk lv hl
theorem W_X7_isKept {G : GT} {X : CX} {d : Nat} {h0 : AH} {Q : State → Prop} (ok : Ok G X RX7 cX7_isKept 6 d h0) (hr : (cxm X).sig.returnType = none) (hd : 8 ≤ d) {a0 : Nat} {x1 : Int32} {h : AH} {z : (AH)} (hf : X7_isKept a0 x1 h = some z) (hk : Q = QM G X h0 none z) {lv : List (Nat × AV)} (hl : lle lv [(0, vr (some a0)), (1, vi x1)]) : V G X 6 h0 Q h 0 lv [] := by
  refine V.sub hl ?_
  unfold X7_isKept at hf
  refine v_iconst ok 0 dX7_isKept_0 rfl ?_
  refine v_istore_n ok 2 dX7_isKept_1 rfl (by decide) ?_
  refine v_iconst ok 0 dX7_isKept_2 rfl ?_
  refine v_istore_n ok 3 dX7_isKept_3 rfl (by decide) ?_
  refine v_iconst ok 0 dX7_isKept_4 rfl ?_
  refine v_istore ok dX7_isKept_5 (by decide) ?_
  exact W_X7_isKept_7 ok hr hd hf hk ⟨rfl, rfl, rfl, rfl, rfl, trivial⟩
theorem M_X7_isKept {G : GT} {l : Launch} (hG : Glob G) {d : Nat} (hd : 8 ≤ d) {a0 : Nat} {x1 : Int32} {h : AH} {h' : AH} (hf : X7_isKept a0 x1 h = some h') : MM G l yX7_isKept cX7_isKept 6 none d [vr (some a0), vi x1] h none h' := by
  refine mm_of hG (plainFor_of_name (by decide)) (Nat.le_of_ble_eq_true rfl) (fun X hX ok hr hnm => ?_)
  subst hX
  exact W_X7_isKept ok hr hd hf rfl ⟨rfl, rfl, trivial⟩
theorem cw_X7_nearOf : CW yX7_nearOf cX7_nearOf 5 (Option.some Jvm.ClassFile.FieldType.int) 3 := ⟨q2527, q185, ⟨by decide, by decide⟩, by decide +kernel, by decide⟩
theorem W_X7_nearOf_64 {G : GT} {X : CX} {d : Nat} {h0 : AH} {Q : State → Prop} (ok : Ok G X RX7 cX7_nearOf 5 d h0) (hr : (cxm X).sig.returnType = (Option.some Jvm.ClassFile.FieldType.int)) (hd : 1 ≤ d) {x1 : Int32} {x2 : Int32} {x3 : Int32} {x4 : Int32} {h : AH} {z : (Int32 × AH)} (hf : X7_nearOf_64 x1 x2 x3 x4 h = some z) (hk : Q = QM G X h0 (some (vi z.1)) z.2) {lv : List (Nat × AV)} (hl : lle lv [(1, vi x1), (2, vi x2), (3, vi x3), (4, vi x4)]) : V G X 5 h0 Q h 64 lv [] := by
  refine V.sub hl ?_
  unfold X7_nearOf_64 at hf
  refine v_iload_n ok 3 dX7_nearOf_64 rfl rfl ?_
  refine v_iconst ok 2 dX7_nearOf_65 rfl ?_
  refine v_icmp_ge ok 85 dX7_nearOf_66 rfl hf (fun hf => ?_) (fun hf => ?_)
  ·
    refine v_iload ok dX7_nearOf_85 rfl ?_
    exact v_iret ok hr (by cases hf; exact hk) dX7_nearOf_87
  ·
    refine v_iload ok dX7_nearOf_69 rfl ?_
    refine v_iload_n ok 1 dX7_nearOf_71 rfl rfl ?_
    refine v_iconst ok 3 dX7_nearOf_72 rfl ?_
    refine v_iload_n ok 2 dX7_nearOf_73 rfl rfl ?_
    refine v_imul ok dX7_nearOf_74 ?_
    refine v_iload_n ok 3 dX7_nearOf_75 rfl rfl ?_
    refine v_iadd ok dX7_nearOf_76 ?_
    refine v_iconst ok 1 dX7_nearOf_77 rfl ?_
    refine v_iadd ok dX7_nearOf_78 ?_
    refine v_ishr ok dX7_nearOf_79 ?_
    refine v_iconst ok 1 dX7_nearOf_80 rfl ?_
    refine v_iand ok dX7_nearOf_81 ?_
    refine v_iadd ok dX7_nearOf_82 ?_
    refine v_istore ok dX7_nearOf_83 (by decide) ?_
    refine v_iload ok dX7_nearOf_85 rfl ?_
    exact v_iret ok hr (by cases hf; exact hk) dX7_nearOf_87
theorem W_X7_nearOf_44 {G : GT} {X : CX} {d : Nat} {h0 : AH} {Q : State → Prop} (ok : Ok G X RX7 cX7_nearOf 5 d h0) (hr : (cxm X).sig.returnType = (Option.some Jvm.ClassFile.FieldType.int)) (hd : 1 ≤ d) {x1 : Int32} {x2 : Int32} {x3 : Int32} {x4 : Int32} {h : AH} {z : (Int32 × AH)} (hf : X7_nearOf_44 x1 x2 x3 x4 h = some z) (hk : Q = QM G X h0 (some (vi z.1)) z.2) {lv : List (Nat × AV)} (hl : lle lv [(1, vi x1), (2, vi x2), (3, vi x3), (4, vi x4)]) : V G X 5 h0 Q h 44 lv [] := by
  refine V.sub hl ?_
  unfold X7_nearOf_44 at hf
  refine v_iload_n ok 3 dX7_nearOf_44 rfl rfl ?_
  refine v_if_le ok 64 dX7_nearOf_45 rfl hf (fun hf => ?_) (fun hf => ?_)
  ·
    exact W_X7_nearOf_64 ok hr hd hf hk ⟨rfl, rfl, rfl, rfl, trivial⟩
  ·
    refine v_iload ok dX7_nearOf_48 rfl ?_
    refine v_iload_n ok 1 dX7_nearOf_50 rfl rfl ?_
    refine v_iconst ok 3 dX7_nearOf_51 rfl ?_
    refine v_iload_n ok 2 dX7_nearOf_52 rfl rfl ?_
    refine v_imul ok dX7_nearOf_53 ?_
    refine v_iload_n ok 3 dX7_nearOf_54 rfl rfl ?_
    refine v_iadd ok dX7_nearOf_55 ?_
    refine v_iconst ok 1 dX7_nearOf_56 rfl ?_
    refine v_isub ok dX7_nearOf_57 ?_
    refine v_ishr ok dX7_nearOf_58 ?_
    refine v_iconst ok 1 dX7_nearOf_59 rfl ?_
    refine v_iand ok dX7_nearOf_60 ?_
    refine v_iadd ok dX7_nearOf_61 ?_
    refine v_istore ok dX7_nearOf_62 (by decide) ?_
    exact W_X7_nearOf_64 ok hr hd hf hk ⟨rfl, rfl, rfl, rfl, trivial⟩
theorem W_X7_nearOf_23 {G : GT} {X : CX} {d : Nat} {h0 : AH} {Q : State → Prop} (ok : Ok G X RX7 cX7_nearOf 5 d h0) (hr : (cxm X).sig.returnType = (Option.some Jvm.ClassFile.FieldType.int)) (hd : 1 ≤ d) {x1 : Int32} {x2 : Int32} {x3 : Int32} {x4 : Int32} {h : AH} {z : (Int32 × AH)} (hf : X7_nearOf_23 x1 x2 x3 x4 h = some z) (hk : Q = QM G X h0 (some (vi z.1)) z.2) {lv : List (Nat × AV)} (hl : lle lv [(1, vi x1), (2, vi x2), (3, vi x3), (4, vi x4)]) : V G X 5 h0 Q h 23 lv [] := by
  refine V.sub hl ?_
  unfold X7_nearOf_23 at hf
  refine v_iload_n ok 2 dX7_nearOf_23 rfl rfl ?_
  refine v_iconst ok 4 dX7_nearOf_24 rfl ?_
  refine v_icmp_ge ok 44 dX7_nearOf_25 rfl hf (fun hf => ?_) (fun hf => ?_)
  ·
    exact W_X7_nearOf_44 ok hr hd hf hk ⟨rfl, rfl, rfl, rfl, trivial⟩
  ·
    refine v_iload ok dX7_nearOf_28 rfl ?_
    refine v_iload_n ok 1 dX7_nearOf_30 rfl rfl ?_
    refine v_iconst ok 3 dX7_nearOf_31 rfl ?_
    refine v_iload_n ok 2 dX7_nearOf_32 rfl rfl ?_
    refine v_imul ok dX7_nearOf_33 ?_
    refine v_iload_n ok 3 dX7_nearOf_34 rfl rfl ?_
    refine v_iadd ok dX7_nearOf_35 ?_
    refine v_iconst ok 3 dX7_nearOf_36 rfl ?_
    refine v_iadd ok dX7_nearOf_37 ?_
    refine v_ishr ok dX7_nearOf_38 ?_
    refine v_iconst ok 1 dX7_nearOf_39 rfl ?_
    refine v_iand ok dX7_nearOf_40 ?_
    refine v_iadd ok dX7_nearOf_41 ?_
    refine v_istore ok dX7_nearOf_42 (by decide) ?_
    exact W_X7_nearOf_44 ok hr hd hf hk ⟨rfl, rfl, rfl, rfl, trivial⟩
theorem W_X7_nearOf {G : GT} {X : CX} {d : Nat} {h0 : AH} {Q : State → Prop} (ok : Ok G X RX7 cX7_nearOf 5 d h0) (hr : (cxm X).sig.returnType = (Option.some Jvm.ClassFile.FieldType.int)) (hd : 1 ≤ d) {a0 : Nat} {x1 : Int32} {x2 : Int32} {x3 : Int32} {h : AH} {z : (Int32 × AH)} (hf : X7_nearOf a0 x1 x2 x3 h = some z) (hk : Q = QM G X h0 (some (vi z.1)) z.2) {lv : List (Nat × AV)} (hl : lle lv [(0, vr (some a0)), (1, vi x1), (2, vi x2), (3, vi x3)]) : V G X 5 h0 Q h 0 lv [] := by
  refine V.sub hl ?_
  unfold X7_nearOf at hf
  refine v_iconst ok 0 dX7_nearOf_0 rfl ?_
  refine v_istore ok dX7_nearOf_1 (by decide) ?_
  refine v_iload_n ok 2 dX7_nearOf_3 rfl rfl ?_
  refine v_if_le ok 23 dX7_nearOf_4 rfl hf (fun hf => ?_) (fun hf => ?_)
  ·
    exact W_X7_nearOf_23 ok hr hd hf hk ⟨rfl, rfl, rfl, rfl, trivial⟩
  ·
    refine v_iload ok dX7_nearOf_7 rfl ?_
    refine v_iload_n ok 1 dX7_nearOf_9 rfl rfl ?_
    refine v_iconst ok 3 dX7_nearOf_10 rfl ?_
    refine v_iload_n ok 2 dX7_nearOf_11 rfl rfl ?_
    refine v_imul ok dX7_nearOf_12 ?_
    refine v_iload_n ok 3 dX7_nearOf_13 rfl rfl ?_
    refine v_iadd ok dX7_nearOf_14 ?_
    refine v_iconst ok 3 dX7_nearOf_15 rfl ?_
    refine v_isub ok dX7_nearOf_16 ?_
    refine v_ishr ok dX7_nearOf_17 ?_
    refine v_iconst ok 1 dX7_nearOf_18 rfl ?_
    refine v_iand ok dX7_nearOf_19 ?_
    refine v_iadd ok dX7_nearOf_20 ?_
    refine v_istore ok dX7_nearOf_21 (by decide) ?_
    exact W_X7_nearOf_23 ok hr hd hf hk ⟨rfl, rfl, rfl, rfl, trivial⟩
theorem M_X7_nearOf {G : GT} {l : Launch} (hG : Glob G) {d : Nat} (hd : 1 ≤ d) {a0 : Nat} {x1 : Int32} {x2 : Int32} {x3 : Int32} {h : AH} {v : Int32} {h' : AH} (hf : X7_nearOf a0 x1 x2 x3 h = some (v, h')) : MM G l yX7_nearOf cX7_nearOf 5 (Option.some Jvm.ClassFile.FieldType.int) d [vr (some a0), vi x1, vi x2, vi x3] h (some (vi v)) h' := by
  refine mm_of hG (plainFor_of_name (by decide)) (Nat.le_of_ble_eq_true rfl) (fun X hX ok hr hnm => ?_)
  subst hX
  exact W_X7_nearOf ok hr hd hf rfl ⟨rfl, rfl, rfl, rfl, trivial⟩
theorem cw_X7_isLost : CW yX7_isLost cX7_isLost 4 (Option.some Jvm.ClassFile.FieldType.boolean) 3 := ⟨q2523, q185, ⟨by decide, by decide⟩, by decide +kernel, by decide⟩
theorem W_X7_isLost {G : GT} {X : CX} {d : Nat} {h0 : AH} {Q : State → Prop} (ok : Ok G X RX7 cX7_isLost 4 d h0) (hr : (cxm X).sig.returnType = (Option.some Jvm.ClassFile.FieldType.boolean)) (hd : 6 ≤ d) {a0 : Nat} {x1 : Int32} {x2 : Int32} {x3 : Int32} {h : AH} {z : (Int32 × AH)} (hf : X7_isLost a0 x1 x2 x3 h = some z) (hk : Q = QM G X h0 (some (vi z.1)) z.2) {lv : List (Nat × AV)} (hl : lle lv [(0, vr (some a0)), (1, vi x1), (2, vi x2), (3, vi x3)]) : V G X 4 h0 Q h 0 lv [] := by
  refine V.sub hl ?_
  unfold X7_isLost at hf
  refine v_aload_n ok 0 dX7_isLost_0 rfl rfl ?_
  refine v_iload_n ok 2 dX7_isLost_1 rfl rfl ?_
  refine v_iconst ok 3 dX7_isLost_2 rfl ?_
  refine v_idiv ok dX7_isLost_3 hf (fun hf => ?_)
  refine v_pI ok fl_X7_468 ⟨fun _ _ _ => rfl, rfl⟩ (FN.of cf_7.1 rfl) dX7_isLost_4 hf (fun h1 hf => ?_)
  refine v_aload_n ok 0 dX7_isLost_7 rfl rfl ?_
  refine v_iload_n ok 2 dX7_isLost_8 rfl rfl ?_
  refine v_iconst ok 3 dX7_isLost_9 rfl ?_
  refine v_irem ok dX7_isLost_10 hf (fun hf => ?_)
  refine v_pI ok fl_X7_471 ⟨fun _ _ _ => rfl, rfl⟩ (FN.of cf_7.1 rfl) dX7_isLost_11 hf (fun h2 hf => ?_)
  refine v_aload_n ok 0 dX7_isLost_14 rfl rfl ?_
  refine v_iload_n ok 3 dX7_isLost_15 rfl rfl ?_
  refine v_pI ok fl_X7_474 ⟨fun _ _ _ => rfl, rfl⟩ (FN.of cf_7.1 rfl) dX7_isLost_16 hf (fun h3 hf => ?_)
  refine v_aload_n ok 0 dX7_isLost_19 rfl rfl ?_
  refine v_aload_n ok 0 dX7_isLost_20 rfl rfl ?_
  refine v_iload_n ok 1 dX7_isLost_21 rfl rfl ?_
  refine v_aload_n ok 0 dX7_isLost_22 rfl rfl ?_
  refine v_gI ok fl_X7_468 (fun _ _ _ => rfl) dX7_isLost_23 hf (fun v4 hf => ?_)
  refine v_aload_n ok 0 dX7_isLost_26 rfl rfl ?_
  refine v_gI ok fl_X7_471 (fun _ _ _ => rfl) dX7_isLost_27 hf (fun v5 hf => ?_)
  refine v_cVi ok (RX7, TX7, 117) cf_7.1 [vi x1, vi v4, vi v5] (F := fun a => X7_nearOf a x1 v4 v5 h3) (fun a v h1 _ hv => M_X7_nearOf ok.2.2.2.2.2.2.1 (d := 1) (Nat.le_refl _) hv) (by exact Nat.le_trans (by decide) hd) cw_X7_nearOf q2524 q2526 qs140 dX7_isLost_30 [vr (some a0)] rfl (Nat.le_of_ble_eq_true rfl) hf (fun v6 h7 hf => ?_)
  refine v_pI ok fl_X7_480 ⟨fun _ _ _ => rfl, rfl⟩ (FN.of cf_7.1 rfl) dX7_isLost_33 hf (fun h8 hf => ?_)
  refine v_aload_n ok 0 dX7_isLost_36 rfl rfl ?_
  refine v_iconst ok 1 dX7_isLost_37 rfl ?_
  refine v_cVl ok (RX7, TX7, 117) cf_7.1 [vi 1] (F := fun a => X7_codesTell a 1 h8) (fun a v h1 _ hv => M_X7_codesTell ok.2.2.2.2.2.2.1 (d := 5) (Nat.le_refl _) hv) (by exact Nat.le_trans (by decide) hd) cw_X7_codesTell q2455 q2457 qs127 dX7_isLost_38 [] rfl (Nat.le_of_ble_eq_true rfl) hf (fun v9 h10 hf => ?_)
  refine v_lconst ok 1 dX7_isLost_41 rfl ?_
  refine v_lcmp ok dX7_isLost_42 ?_
  refine v_if_ne ok 50 dX7_isLost_43 rfl hf (fun hf => ?_) (fun hf => ?_)
  ·
    refine v_iconst ok 0 dX7_isLost_50 rfl ?_
    exact v_zretL ok hr (by decide) (by decide) (by cases hf; exact hk) dX7_isLost_51
  ·
    refine v_iconst ok 1 dX7_isLost_46 rfl ?_
    refine v_goto ok 51 dX7_isLost_47 rfl ?_
    exact v_zretL ok hr (by decide) (by decide) (by cases hf; exact hk) dX7_isLost_51
theorem M_X7_isLost {G : GT} {l : Launch} (hG : Glob G) {d : Nat} (hd : 6 ≤ d) {a0 : Nat} {x1 : Int32} {x2 : Int32} {x3 : Int32} {h : AH} {v : Int32} {h' : AH} (hf : X7_isLost a0 x1 x2 x3 h = some (v, h')) : MM G l yX7_isLost cX7_isLost 4 (Option.some Jvm.ClassFile.FieldType.boolean) d [vr (some a0), vi x1, vi x2, vi x3] h (some (vi v)) h' := by
  refine mm_of hG (plainFor_of_name (by decide)) (Nat.le_of_ble_eq_true rfl) (fun X hX ok hr hnm => ?_)
  subst hX
  exact W_X7_isLost ok hr hd hf rfl ⟨rfl, rfl, rfl, rfl, trivial⟩
theorem cw_X7_rains : CW yX7_rains cX7_rains 6 none 0 := ⟨q2519, q185, ⟨by decide, by decide⟩, by decide +kernel, by decide⟩
def pkX7_rains_13 (G : GT) (X : CX) (h0 : AH) (Q : State → Prop) (a0 : Nat) (o : ((Int32 × AH) ⊕ (AH))) : Prop := match o with
  | .inl s => ∀ lv : List (Nat × AV), lle lv [(0, vr (some a0)), (1, vi s.1)] → V G X 6 h0 Q s.2 13 lv []
  | .inr z => Q = QM G X h0 none z
def pkX7_rains_23 (G : GT) (X : CX) (h0 : AH) (Q : State → Prop) (a0 : Nat) (x1 : Int32) (o : ((Int32 × AH) ⊕ ((Int32 × AH) ⊕ (AH)))) : Prop := match o with
  | .inl s => ∀ lv : List (Nat × AV), lle lv [(0, vr (some a0)), (1, vi x1), (2, vi s.1)] → V G X 6 h0 Q s.2 23 lv []
  | .inr z => pkX7_rains_13 G X h0 Q a0 z
def pkX7_rains_49 (G : GT) (X : CX) (h0 : AH) (Q : State → Prop) (a0 : Nat) (x1 : Int32) (x2 : Int32) (x3 : Int32) (o : ((Int32 × Int32 × AH) ⊕ ((Int32 × AH) ⊕ ((Int32 × AH) ⊕ (AH))))) : Prop := match o with
  | .inl s => ∀ lv : List (Nat × AV), lle lv [(0, vr (some a0)), (1, vi x1), (2, vi x2), (3, vi x3), (4, vi s.1), (5, vi s.2.1)] → V G X 6 h0 Q s.2.2 49 lv []
  | .inr z => pkX7_rains_23 G X h0 Q a0 x1 z
theorem W_X7_rains_94 {G : GT} {X : CX} {d : Nat} {h0 : AH} {Q : State → Prop} (ok : Ok G X RX7 cX7_rains 6 d h0) (hr : (cxm X).sig.returnType = none) (hd : 7 ≤ d) {a0 : Nat} {x1 : Int32} {x2 : Int32} {x3 : Int32} {x4 : Int32} {h : AH} {z : ((Int32 × AH) ⊕ ((Int32 × AH) ⊕ (AH)))} (hf : X7_rains_94 a0 x1 x2 x3 x4 h = some z) (hk : pkX7_rains_23 G X h0 Q a0 x1 z) {lv : List (Nat × AV)} (hl : lle lv [(0, vr (some a0)), (1, vi x1), (2, vi x2), (3, vi x3), (4, vi x4)]) : V G X 6 h0 Q h 94 lv [] := by
  refine V.sub hl ?_
  unfold X7_rains_94 at hf
  refine v_aload_n ok 0 dX7_rains_94 rfl rfl ?_
  refine v_dup ok dX7_rains_95 rfl ?_
  refine v_gI ok fl_X7_493 (fun _ _ _ => rfl) dX7_rains_96 hf (fun v1 hf => ?_)
  refine v_iload_n ok 3 dX7_rains_99 rfl rfl ?_
  refine v_cSi ok [vi x3] (F := X7_bits x3 h) (fun v h1 hv => M_X7_bits ok.2.2.2.2.2.2.1 (d := 1) (Nat.le_refl _) hv) (by exact Nat.le_trans (by decide) hd) cw_X7_bits q2381 q2382 dX7_rains_100 [vi v1, vr (some a0)] rfl (Nat.le_of_ble_eq_true rfl) hf (fun v2 h3 hf => ?_)
  refine v_iload ok dX7_rains_103 rfl ?_
  refine v_cSi ok [vi x4] (F := X7_bits x4 h3) (fun v h1 hv => M_X7_bits ok.2.2.2.2.2.2.1 (d := 1) (Nat.le_refl _) hv) (by exact Nat.le_trans (by decide) hd) cw_X7_bits q2381 q2382 dX7_rains_105 [vi v2, vi v1, vr (some a0)] rfl (Nat.le_of_ble_eq_true rfl) hf (fun v4 h5 hf => ?_)
  refine v_isub ok dX7_rains_108 ?_
  refine v_iadd ok dX7_rains_109 ?_
  refine v_pI ok fl_X7_493 ⟨fun _ _ _ => rfl, rfl⟩ (FN.of cf_7.1 rfl) dX7_rains_110 hf (fun h6 hf => ?_)
  refine v_aload_n ok 0 dX7_rains_113 rfl rfl ?_
  refine v_gR ok fl_X7_132 (by first | exact Or.inl ⟨_, rfl⟩ | exact Or.inr ⟨_, rfl⟩) dX7_rains_114 hf (fun v7 hf => ?_)
  refine v_iconst ok 3 dX7_rains_117 rfl ?_
  refine v_bipush ok 8 dX7_rains_118 rfl ?_
  refine v_iload_n ok 1 dX7_rains_120 rfl rfl ?_
  refine v_imul ok dX7_rains_121 ?_
  refine v_iadd ok dX7_rains_122 ?_
  refine v_iload_n ok 2 dX7_rains_123 rfl rfl ?_
  refine v_iadd ok dX7_rains_124 ?_
  refine v_iload ok dX7_rains_125 rfl ?_
  refine v_iast ok rfl dX7_rains_127 hf (fun h8 hf => ?_)
  refine v_iinc ok x2 (x2 + 1) dX7_rains_128 rfl rfl (by decide) ?_
  refine v_goto ok 23 dX7_rains_131 rfl ?_
  cases hf; exact hk _ ⟨rfl, rfl, rfl, trivial⟩
theorem W_X7_rains_49b {G : GT} {X : CX} {d : Nat} {h0 : AH} {Q : State → Prop} (ok : Ok G X RX7 cX7_rains 6 d h0) (hr : (cxm X).sig.returnType = none) (hd : 7 ≤ d) {a0 : Nat} {x1 : Int32} {x2 : Int32} {x3 : Int32} {x4 : Int32} {x5 : Int32} {h : AH} {z : ((Int32 × Int32 × AH) ⊕ ((Int32 × AH) ⊕ ((Int32 × AH) ⊕ (AH))))} (hf : X7_rains_49b  a0 x1 x2 x3 x4 x5 h = some z) (hk : pkX7_rains_49 G X h0 Q a0 x1 x2 x3 z) {lv : List (Nat × AV)} (hl : lle lv [(0, vr (some a0)), (1, vi x1), (2, vi x2), (3, vi x3), (4, vi x4), (5, vi x5)]) : V G X 6 h0 Q h 49 lv [] := by
  refine V.sub hl ?_
  unfold X7_rains_49b at hf
  refine v_iload ok dX7_rains_49 rfl ?_
  refine v_bipush ok 15 dX7_rains_51 rfl ?_
  refine v_icmp_ge ok 94 dX7_rains_53 rfl hf (fun hf => ?_) (fun hf => ?_)
  ·
    obtain ⟨o, ho, hz⟩ := ob hf
    cases hz; exact W_X7_rains_94 ok hr hd ho hk ⟨rfl, rfl, rfl, rfl, rfl, trivial⟩
  ·
    refine v_iload_n ok 3 dX7_rains_56 rfl rfl ?_
    refine v_iload ok dX7_rains_57 rfl ?_
    refine v_ishr ok dX7_rains_59 ?_
    refine v_iconst ok 1 dX7_rains_60 rfl ?_
    refine v_iand ok dX7_rains_61 ?_
    refine v_iconst ok 1 dX7_rains_62 rfl ?_
    refine v_icmp_ne ok 88 dX7_rains_63 rfl hf (fun hf => ?_) (fun hf => ?_)
    ·
      refine v_iinc ok x5 (x5 + 1) dX7_rains_88 rfl rfl (by decide) ?_
      refine v_goto ok 49 dX7_rains_91 rfl ?_
      cases hf; exact hk _ ⟨rfl, rfl, rfl, rfl, rfl, rfl, trivial⟩
    ·
      refine v_aload_n ok 0 dX7_rains_66 rfl rfl ?_
      refine v_iload_n ok 3 dX7_rains_67 rfl rfl ?_
      refine v_iload ok dX7_rains_68 rfl ?_
      refine v_iload_n ok 2 dX7_rains_70 rfl rfl ?_
      refine v_cVi ok (RX7, TX7, 117) cf_7.1 [vi x3, vi x5, vi x2] (F := fun a => X7_isLost a x3 x5 x2 h) (fun a v h1 _ hv => M_X7_isLost ok.2.2.2.2.2.2.1 (d := 6) (Nat.le_refl _) hv) (by exact Nat.le_trans (by decide) hd) cw_X7_isLost q2520 q2522 qs139 dX7_rains_71 [] rfl (Nat.le_of_ble_eq_true rfl) hf (fun v9 h10 hf => ?_)
      refine v_if_eq ok 88 dX7_rains_74 rfl hf (fun hf => ?_) (fun hf => ?_)
      ·
        refine v_iinc ok x5 (x5 + 1) dX7_rains_88 rfl rfl (by decide) ?_
        refine v_goto ok 49 dX7_rains_91 rfl ?_
        cases hf; exact hk _ ⟨rfl, rfl, rfl, rfl, rfl, rfl, trivial⟩
      ·
        refine v_iload ok dX7_rains_77 rfl ?_
        refine v_iconst ok 1 dX7_rains_79 rfl ?_
        refine v_iload ok dX7_rains_80 rfl ?_
        refine v_ishl ok dX7_rains_82 ?_
        refine v_iconst ok (-1) dX7_rains_83 rfl ?_
        refine v_ixor ok dX7_rains_84 ?_
        refine v_iand ok dX7_rains_85 ?_
        refine v_istore ok dX7_rains_86 (by decide) ?_
        refine v_iinc ok x5 (x5 + 1) dX7_rains_88 rfl rfl (by decide) ?_
        refine v_goto ok 49 dX7_rains_91 rfl ?_
        cases hf; exact hk _ ⟨rfl, rfl, rfl, rfl, rfl, rfl, trivial⟩
theorem W_X7_rains_49 {G : GT} {X : CX} {d : Nat} {h0 : AH} {Q : State → Prop} (ok : Ok G X RX7 cX7_rains 6 d h0) (hr : (cxm X).sig.returnType = none) (hd : 7 ≤ d) {a0 : Nat} {x1 : Int32} {x2 : Int32} {x3 : Int32} {x4 : Int32} {x5 : Int32} {h : AH} {z : ((Int32 × AH) ⊕ ((Int32 × AH) ⊕ (AH)))} (hf : X7_rains_49  a0 x1 x2 x3 x4 x5 h = some z) (hk : pkX7_rains_23 G X h0 Q a0 x1 z) {lv : List (Nat × AV)} (hl : lle lv [(0, vr (some a0)), (1, vi x1), (2, vi x2), (3, vi x3), (4, vi x4), (5, vi x5)]) : V G X 6 h0 Q h 49 lv [] := by
  unfold X7_rains_49 at hf
  exact loopC_walk (Wh := fun s : Int32 × Int32 × AH => ∀ lv : List (Nat × AV), lle lv [(0, vr (some a0)), (1, vi x1), (2, vi x2), (3, vi x3), (4, vi s.1), (5, vi s.2.1)] → V G X 6 h0 Q s.2.2 49 lv []) (PK := fun z => pkX7_rains_23 G X h0 Q a0 x1 z) (fun s o hf hk lv hl => W_X7_rains_49b ok hr hd hf (by cases o <;> exact hk) hl) _ z hf hk lv hl
theorem W_X7_rains_23b {G : GT} {X : CX} {d : Nat} {h0 : AH} {Q : State → Prop} (ok : Ok G X RX7 cX7_rains 6 d h0) (hr : (cxm X).sig.returnType = none) (hd : 7 ≤ d) {a0 : Nat} {x1 : Int32} {x2 : Int32} {h : AH} {z : ((Int32 × AH) ⊕ ((Int32 × AH) ⊕ (AH)))} (hf : X7_rains_23b  a0 x1 x2 h = some z) (hk : pkX7_rains_23 G X h0 Q a0 x1 z) {lv : List (Nat × AV)} (hl : lle lv [(0, vr (some a0)), (1, vi x1), (2, vi x2)]) : V G X 6 h0 Q h 23 lv [] := by
  refine V.sub hl ?_
  unfold X7_rains_23b at hf
  refine v_iload_n ok 2 dX7_rains_23 rfl rfl ?_
  refine v_aload_n ok 0 dX7_rains_24 rfl rfl ?_
  refine v_aload_n ok 0 dX7_rains_25 rfl rfl ?_
  refine v_iload_n ok 1 dX7_rains_26 rfl rfl ?_
  refine v_cVi ok (RX7, TX7, 117) cf_7.1 [vi x1] (F := fun a => X7_wordOf a x1 h) (fun a v h1 _ hv => M_X7_wordOf ok.2.2.2.2.2.2.1 (d := 1) (Nat.le_refl _) hv) (by exact Nat.le_trans (by decide) hd) cw_X7_wordOf q2413 q2415 qs122 dX7_rains_27 [vr (some a0), vi x2] rfl (Nat.le_of_ble_eq_true rfl) hf (fun v11 h12 hf => ?_)
  refine v_cVi ok (RX7, TX7, 117) cf_7.1 [vi v11] (F := fun a => X7_longOf a v11 h12) (fun a v h1 _ hv => M_X7_longOf ok.2.2.2.2.2.2.1 (d := 1) (Nat.le_refl _) hv) (by exact Nat.le_trans (by decide) hd) cw_X7_longOf q2337 q2339 qs109 dX7_rains_30 [vi x2] rfl (Nat.le_of_ble_eq_true rfl) hf (fun v13 h14 hf => ?_)
  refine v_icmp_ge ok 134 dX7_rains_33 rfl hf (fun hf => ?_) (fun hf => ?_)
  ·
    refine v_iinc ok x1 (x1 + 1) dX7_rains_134 rfl rfl (by decide) ?_
    refine v_goto ok 13 dX7_rains_137 rfl ?_
    cases hf; exact hk _ ⟨rfl, rfl, trivial⟩
  ·
    refine v_aload_n ok 0 dX7_rains_36 rfl rfl ?_
    refine v_iload_n ok 1 dX7_rains_37 rfl rfl ?_
    refine v_iload_n ok 2 dX7_rains_38 rfl rfl ?_
    refine v_cVi ok (RX7, TX7, 117) cf_7.1 [vi x1, vi x2] (F := fun a => X7_glyphAt a x1 x2 h14) (fun a v h1 _ hv => M_X7_glyphAt ok.2.2.2.2.2.2.1 (d := 1) (Nat.le_refl _) hv) (by exact Nat.le_trans (by decide) hd) cw_X7_glyphAt q2377 q2379 qs117 dX7_rains_39 [] rfl (Nat.le_of_ble_eq_true rfl) hf (fun v15 h16 hf => ?_)
    refine v_istore_n ok 3 dX7_rains_42 rfl (by decide) ?_
    refine v_iload_n ok 3 dX7_rains_43 rfl rfl ?_
    refine v_istore ok dX7_rains_44 (by decide) ?_
    refine v_iconst ok 0 dX7_rains_46 rfl ?_
    refine v_istore ok dX7_rains_47 (by decide) ?_
    exact W_X7_rains_49 ok hr hd hf hk ⟨rfl, rfl, rfl, rfl, rfl, rfl, trivial⟩
theorem W_X7_rains_23 {G : GT} {X : CX} {d : Nat} {h0 : AH} {Q : State → Prop} (ok : Ok G X RX7 cX7_rains 6 d h0) (hr : (cxm X).sig.returnType = none) (hd : 7 ≤ d) {a0 : Nat} {x1 : Int32} {x2 : Int32} {h : AH} {z : ((Int32 × AH) ⊕ (AH))} (hf : X7_rains_23  a0 x1 x2 h = some z) (hk : pkX7_rains_13 G X h0 Q a0 z) {lv : List (Nat × AV)} (hl : lle lv [(0, vr (some a0)), (1, vi x1), (2, vi x2)]) : V G X 6 h0 Q h 23 lv [] := by
  unfold X7_rains_23 at hf
  exact loopC_walk (Wh := fun s : Int32 × AH => ∀ lv : List (Nat × AV), lle lv [(0, vr (some a0)), (1, vi x1), (2, vi s.1)] → V G X 6 h0 Q s.2 23 lv []) (PK := fun z => pkX7_rains_13 G X h0 Q a0 z) (fun s o hf hk lv hl => W_X7_rains_23b ok hr hd hf (by cases o <;> exact hk) hl) _ z hf hk lv hl
theorem W_X7_rains_13b {G : GT} {X : CX} {d : Nat} {h0 : AH} {Q : State → Prop} (ok : Ok G X RX7 cX7_rains 6 d h0) (hr : (cxm X).sig.returnType = none) (hd : 7 ≤ d) {a0 : Nat} {x1 : Int32} {h : AH} {z : ((Int32 × AH) ⊕ (AH))} (hf : X7_rains_13b  a0 x1 h = some z) (hk : pkX7_rains_13 G X h0 Q a0 z) {lv : List (Nat × AV)} (hl : lle lv [(0, vr (some a0)), (1, vi x1)]) : V G X 6 h0 Q h 13 lv [] := by
  refine V.sub hl ?_
  unfold X7_rains_13b at hf
  refine v_iload_n ok 1 dX7_rains_13 rfl rfl ?_
  refine v_aload_n ok 0 dX7_rains_14 rfl rfl ?_
  refine v_cVi ok (RX7, TX7, 117) cf_7.1 [] (F := fun a => X7_boardMany a h) (fun a v h1 _ hv => M_X7_boardMany ok.2.2.2.2.2.2.1 (d := 1) (Nat.le_refl _) hv) (by exact Nat.le_trans (by decide) hd) cw_X7_boardMany q2369 q2371 qs115 dX7_rains_15 [vi x1] rfl (Nat.le_of_ble_eq_true rfl) hf (fun v17 h18 hf => ?_)
  refine v_icmp_ge ok 140 dX7_rains_18 rfl hf (fun hf => ?_) (fun hf => ?_)
  ·
    exact v_vret ok hr (by cases hf; exact hk) dX7_rains_140
  ·
    refine v_iconst ok 0 dX7_rains_21 rfl ?_
    refine v_istore_n ok 2 dX7_rains_22 rfl (by decide) ?_
    exact W_X7_rains_23 ok hr hd hf hk ⟨rfl, rfl, rfl, trivial⟩
theorem W_X7_rains_13 {G : GT} {X : CX} {d : Nat} {h0 : AH} {Q : State → Prop} (ok : Ok G X RX7 cX7_rains 6 d h0) (hr : (cxm X).sig.returnType = none) (hd : 7 ≤ d) {a0 : Nat} {x1 : Int32} {h : AH} {z : (AH)} (hf : X7_rains_13  a0 x1 h = some z) (hk : Q = QM G X h0 none z) {lv : List (Nat × AV)} (hl : lle lv [(0, vr (some a0)), (1, vi x1)]) : V G X 6 h0 Q h 13 lv [] := by
  unfold X7_rains_13 at hf
  exact loopC_walk (Wh := fun s : Int32 × AH => ∀ lv : List (Nat × AV), lle lv [(0, vr (some a0)), (1, vi s.1)] → V G X 6 h0 Q s.2 13 lv []) (PK := fun z => Q = QM G X h0 none z) (fun s o hf hk lv hl => W_X7_rains_13b ok hr hd hf (by cases o <;> exact hk) hl) _ z hf hk lv hl
theorem W_X7_rains {G : GT} {X : CX} {d : Nat} {h0 : AH} {Q : State → Prop} (ok : Ok G X RX7 cX7_rains 6 d h0) (hr : (cxm X).sig.returnType = none) (hd : 7 ≤ d) {a0 : Nat} {h : AH} {z : (AH)} (hf : X7_rains a0 h = some z) (hk : Q = QM G X h0 none z) {lv : List (Nat × AV)} (hl : lle lv [(0, vr (some a0))]) : V G X 6 h0 Q h 0 lv [] := by
  refine V.sub hl ?_
  unfold X7_rains at hf
  refine v_aload_n ok 0 dX7_rains_0 rfl rfl ?_
  refine v_gR ok fl_X7_123 (by first | exact Or.inl ⟨_, rfl⟩ | exact Or.inr ⟨_, rfl⟩) dX7_rains_1 hf (fun v19 hf => ?_)
  refine v_iconst ok 3 dX7_rains_4 rfl ?_
  refine v_iald ok rfl dX7_rains_5 hf (fun v20 hf => ?_)
  refine v_iconst ok (-1) dX7_rains_6 rfl ?_
  refine v_icmp_ne ok 11 dX7_rains_7 rfl hf (fun hf => ?_) (fun hf => ?_)
  ·
    refine v_iconst ok 0 dX7_rains_11 rfl ?_
    refine v_istore_n ok 1 dX7_rains_12 rfl (by decide) ?_
    exact W_X7_rains_13 ok hr hd hf hk ⟨rfl, rfl, trivial⟩
  ·
    exact v_vret ok hr (by cases hf; exact hk) dX7_rains_10
theorem M_X7_rains {G : GT} {l : Launch} (hG : Glob G) {d : Nat} (hd : 7 ≤ d) {a0 : Nat} {h : AH} {h' : AH} (hf : X7_rains a0 h = some h') : MM G l yX7_rains cX7_rains 6 none d [vr (some a0)] h none h' := by
  refine mm_of hG (plainFor_of_name (by decide)) (Nat.le_of_ble_eq_true rfl) (fun X hX ok hr hnm => ?_)
  subst hX
  exact W_X7_rains ok hr hd hf rfl ⟨rfl, trivial⟩
theorem cw_X7_yearGoes : CW yX7_yearGoes cX7_yearGoes 2 none 0 := ⟨q2515, q185, ⟨by decide, by decide⟩, by decide +kernel, by decide⟩
def pkX7_yearGoes_6 (G : GT) (X : CX) (h0 : AH) (Q : State → Prop) (a0 : Nat) (o : ((Int32 × AH) ⊕ (AH))) : Prop := match o with
  | .inl s => ∀ lv : List (Nat × AV), lle lv [(0, vr (some a0)), (1, vi s.1)] → V G X 2 h0 Q s.2 6 lv []
  | .inr z => Q = QM G X h0 none z
theorem W_X7_yearGoes_32 {G : GT} {X : CX} {d : Nat} {h0 : AH} {Q : State → Prop} (ok : Ok G X RX7 cX7_yearGoes 2 d h0) (hr : (cxm X).sig.returnType = none) (hd : 9 ≤ d) {a0 : Nat} {h : AH} {z : (AH)} (hf : X7_yearGoes_32 a0 h = some z) (hk : Q = QM G X h0 none z) {lv : List (Nat × AV)} (hl : lle lv [(0, vr (some a0))]) : V G X 2 h0 Q h 32 lv [] := by
  refine V.sub hl ?_
  unfold X7_yearGoes_32 at hf
  refine v_aload_n ok 0 dX7_yearGoes_32 rfl rfl ?_
  refine v_gR ok fl_X7_132 (by first | exact Or.inl ⟨_, rfl⟩ | exact Or.inr ⟨_, rfl⟩) dX7_yearGoes_33 hf (fun v1 hf => ?_)
  refine v_iconst ok 0 dX7_yearGoes_36 rfl ?_
  refine v_dup2 ok dX7_yearGoes_37 rfl rfl ?_
  refine v_iald ok rfl dX7_yearGoes_38 hf (fun v2 hf => ?_)
  refine v_iconst ok 1 dX7_yearGoes_39 rfl ?_
  refine v_iadd ok dX7_yearGoes_40 ?_
  refine v_iast ok rfl dX7_yearGoes_41 hf (fun h3 hf => ?_)
  exact v_vret ok hr (by cases hf; exact hk) dX7_yearGoes_42
theorem W_X7_yearGoes_6b {G : GT} {X : CX} {d : Nat} {h0 : AH} {Q : State → Prop} (ok : Ok G X RX7 cX7_yearGoes 2 d h0) (hr : (cxm X).sig.returnType = none) (hd : 9 ≤ d) {a0 : Nat} {x1 : Int32} {h : AH} {z : ((Int32 × AH) ⊕ (AH))} (hf : X7_yearGoes_6b  a0 x1 h = some z) (hk : pkX7_yearGoes_6 G X h0 Q a0 z) {lv : List (Nat × AV)} (hl : lle lv [(0, vr (some a0)), (1, vi x1)]) : V G X 2 h0 Q h 6 lv [] := by
  refine V.sub hl ?_
  unfold X7_yearGoes_6b at hf
  refine v_iload_n ok 1 dX7_yearGoes_6 rfl rfl ?_
  refine v_aload_n ok 0 dX7_yearGoes_7 rfl rfl ?_
  refine v_cVi ok (RX7, TX7, 117) cf_7.1 [] (F := fun a => X7_boardMany a h) (fun a v h1 _ hv => M_X7_boardMany ok.2.2.2.2.2.2.1 (d := 1) (Nat.le_refl _) hv) (by exact Nat.le_trans (by decide) hd) cw_X7_boardMany q2369 q2371 qs115 dX7_yearGoes_8 [vi x1] rfl (Nat.le_of_ble_eq_true rfl) hf (fun v4 h5 hf => ?_)
  refine v_icmp_ge ok 32 dX7_yearGoes_11 rfl hf (fun hf => ?_) (fun hf => ?_)
  ·
    obtain ⟨o, ho, hz⟩ := ob hf
    cases hz; exact W_X7_yearGoes_32 ok hr hd ho hk ⟨rfl, trivial⟩
  ·
    refine v_aload_n ok 0 dX7_yearGoes_14 rfl rfl ?_
    refine v_gI ok fl_X7_505 (fun _ _ _ => rfl) dX7_yearGoes_15 hf (fun v6 hf => ?_)
    refine v_if_ne ok 32 dX7_yearGoes_18 rfl hf (fun hf => ?_) (fun hf => ?_)
    ·
      obtain ⟨o, ho, hz⟩ := ob hf
      cases hz; exact W_X7_yearGoes_32 ok hr hd ho hk ⟨rfl, trivial⟩
    ·
      refine v_aload_n ok 0 dX7_yearGoes_21 rfl rfl ?_
      refine v_iload_n ok 1 dX7_yearGoes_22 rfl rfl ?_
      refine v_cVv ok (RX7, TX7, 117) cf_7.1 [vi x1] (F := fun a => X7_isKept a x1 h5) (fun a h1 _ hv => M_X7_isKept ok.2.2.2.2.2.2.1 (d := 8) (Nat.le_refl _) hv) (by exact Nat.le_trans (by decide) hd) cw_X7_isKept q2528 q2530 qs141 dX7_yearGoes_23 [] rfl (Nat.le_of_ble_eq_true rfl) hf (fun h7 hf => ?_)
      refine v_iinc ok x1 (x1 + 1) dX7_yearGoes_26 rfl rfl (by decide) ?_
      refine v_goto ok 6 dX7_yearGoes_29 rfl ?_
      cases hf; exact hk _ ⟨rfl, rfl, trivial⟩
theorem W_X7_yearGoes_6 {G : GT} {X : CX} {d : Nat} {h0 : AH} {Q : State → Prop} (ok : Ok G X RX7 cX7_yearGoes 2 d h0) (hr : (cxm X).sig.returnType = none) (hd : 9 ≤ d) {a0 : Nat} {x1 : Int32} {h : AH} {z : (AH)} (hf : X7_yearGoes_6  a0 x1 h = some z) (hk : Q = QM G X h0 none z) {lv : List (Nat × AV)} (hl : lle lv [(0, vr (some a0)), (1, vi x1)]) : V G X 2 h0 Q h 6 lv [] := by
  unfold X7_yearGoes_6 at hf
  exact loopC_walk (Wh := fun s : Int32 × AH => ∀ lv : List (Nat × AV), lle lv [(0, vr (some a0)), (1, vi s.1)] → V G X 2 h0 Q s.2 6 lv []) (PK := fun z => Q = QM G X h0 none z) (fun s o hf hk lv hl => W_X7_yearGoes_6b ok hr hd hf (by cases o <;> exact hk) hl) _ z hf hk lv hl
theorem W_X7_yearGoes {G : GT} {X : CX} {d : Nat} {h0 : AH} {Q : State → Prop} (ok : Ok G X RX7 cX7_yearGoes 2 d h0) (hr : (cxm X).sig.returnType = none) (hd : 9 ≤ d) {a0 : Nat} {h : AH} {z : (AH)} (hf : X7_yearGoes a0 h = some z) (hk : Q = QM G X h0 none z) {lv : List (Nat × AV)} (hl : lle lv [(0, vr (some a0))]) : V G X 2 h0 Q h 0 lv [] := by
  refine V.sub hl ?_
  unfold X7_yearGoes at hf
  refine v_aload_n ok 0 dX7_yearGoes_0 rfl rfl ?_
  refine v_cVv ok (RX7, TX7, 117) cf_7.1 [] (F := fun a => X7_rains a h) (fun a h1 _ hv => M_X7_rains ok.2.2.2.2.2.2.1 (d := 7) (Nat.le_refl _) hv) (by exact Nat.le_trans (by decide) hd) cw_X7_rains q2516 q2518 qs138 dX7_yearGoes_1 [] rfl (Nat.le_of_ble_eq_true rfl) hf (fun h8 hf => ?_)
  refine v_iconst ok 0 dX7_yearGoes_4 rfl ?_
  refine v_istore_n ok 1 dX7_yearGoes_5 rfl (by decide) ?_
  exact W_X7_yearGoes_6 ok hr hd hf hk ⟨rfl, rfl, trivial⟩
theorem M_X7_yearGoes {G : GT} {l : Launch} (hG : Glob G) {d : Nat} (hd : 9 ≤ d) {a0 : Nat} {h : AH} {h' : AH} (hf : X7_yearGoes a0 h = some h') : MM G l yX7_yearGoes cX7_yearGoes 2 none d [vr (some a0)] h none h' := by
  refine mm_of hG (plainFor_of_name (by decide)) (Nat.le_of_ble_eq_true rfl) (fun X hX ok hr hnm => ?_)
  subst hX
  exact W_X7_yearGoes ok hr hd hf rfl ⟨rfl, trivial⟩
theorem cw_X7_yearsGo : CW yX7_yearsGo cX7_yearsGo 3 none 1 := ⟨q2507, q185, ⟨by decide, by decide⟩, by decide +kernel, by decide⟩
def pkX7_yearsGo_2 (G : GT) (X : CX) (h0 : AH) (Q : State → Prop) (a0 : Nat) (x1 : Int32) (o : ((Int32 × AH) ⊕ (AH))) : Prop := match o with
  | .inl s => ∀ lv : List (Nat × AV), lle lv [(0, vr (some a0)), (1, vi x1), (2, vi s.1)] → V G X 3 h0 Q s.2 2 lv []
  | .inr z => Q = QM G X h0 none z
theorem W_X7_yearsGo_18 {G : GT} {X : CX} {d : Nat} {h0 : AH} {Q : State → Prop} (ok : Ok G X RX7 cX7_yearsGo 3 d h0) (hr : (cxm X).sig.returnType = none) (hd : 10 ≤ d) {a0 : Nat} {x1 : Int32} {x2 : Int32} {h : AH} {z : ((Int32 × AH) ⊕ (AH))} (hf : X7_yearsGo_18 a0 x1 x2 h = some z) (hk : pkX7_yearsGo_2 G X h0 Q a0 x1 z) {lv : List (Nat × AV)} (hl : lle lv [(0, vr (some a0)), (1, vi x1), (2, vi x2)]) : V G X 3 h0 Q h 18 lv [] := by
  refine V.sub hl ?_
  unfold X7_yearsGo_18 at hf
  refine v_aload_n ok 0 dX7_yearsGo_18 rfl rfl ?_
  refine v_cVv ok (RX7, TX7, 117) cf_7.1 [] (F := fun a => X7_yearGoes a h) (fun a h1 _ hv => M_X7_yearGoes ok.2.2.2.2.2.2.1 (d := 9) (Nat.le_refl _) hv) (by exact Nat.le_trans (by decide) hd) cw_X7_yearGoes q2512 q2514 qs137 dX7_yearsGo_19 [] rfl (Nat.le_of_ble_eq_true rfl) hf (fun h1 hf => ?_)
  refine v_iinc ok x2 (x2 + 1) dX7_yearsGo_22 rfl rfl (by decide) ?_
  refine v_goto ok 2 dX7_yearsGo_25 rfl ?_
  cases hf; exact hk _ ⟨rfl, rfl, rfl, trivial⟩
theorem W_X7_yearsGo_2b {G : GT} {X : CX} {d : Nat} {h0 : AH} {Q : State → Prop} (ok : Ok G X RX7 cX7_yearsGo 3 d h0) (hr : (cxm X).sig.returnType = none) (hd : 10 ≤ d) {a0 : Nat} {x1 : Int32} {x2 : Int32} {h : AH} {z : ((Int32 × AH) ⊕ (AH))} (hf : X7_yearsGo_2b  a0 x1 x2 h = some z) (hk : pkX7_yearsGo_2 G X h0 Q a0 x1 z) {lv : List (Nat × AV)} (hl : lle lv [(0, vr (some a0)), (1, vi x1), (2, vi x2)]) : V G X 3 h0 Q h 2 lv [] := by
  refine V.sub hl ?_
  unfold X7_yearsGo_2b at hf
  refine v_iload_n ok 2 dX7_yearsGo_2 rfl rfl ?_
  refine v_iload_n ok 1 dX7_yearsGo_3 rfl rfl ?_
  refine v_icmp_ge ok 28 dX7_yearsGo_4 rfl hf (fun hf => ?_) (fun hf => ?_)
  ·
    exact v_vret ok hr (by cases hf; exact hk) dX7_yearsGo_28
  ·
    refine v_aload_n ok 0 dX7_yearsGo_7 rfl rfl ?_
    refine v_gI ok fl_X7_505 (fun _ _ _ => rfl) dX7_yearsGo_8 hf (fun v2 hf => ?_)
    refine v_if_ne ok 18 dX7_yearsGo_11 rfl hf (fun hf => ?_) (fun hf => ?_)
    ·
      exact W_X7_yearsGo_18 ok hr hd hf hk ⟨rfl, rfl, rfl, trivial⟩
    ·
      refine v_aload_n ok 0 dX7_yearsGo_14 rfl rfl ?_
      refine v_cVv ok (RX7, TX7, 117) cf_7.1 [] (F := fun a => X7_laysSaid a h) (fun a h1 _ hv => M_X7_laysSaid ok.2.2.2.2.2.2.1 (d := 8) (Nat.le_refl _) hv) (by exact Nat.le_trans (by decide) hd) cw_X7_laysSaid q2508 q2510 qs136 dX7_yearsGo_15 [] rfl (Nat.le_of_ble_eq_true rfl) hf (fun h3 hf => ?_)
      exact W_X7_yearsGo_18 ok hr hd hf hk ⟨rfl, rfl, rfl, trivial⟩
theorem W_X7_yearsGo_2 {G : GT} {X : CX} {d : Nat} {h0 : AH} {Q : State → Prop} (ok : Ok G X RX7 cX7_yearsGo 3 d h0) (hr : (cxm X).sig.returnType = none) (hd : 10 ≤ d) {a0 : Nat} {x1 : Int32} {x2 : Int32} {h : AH} {z : (AH)} (hf : X7_yearsGo_2  a0 x1 x2 h = some z) (hk : Q = QM G X h0 none z) {lv : List (Nat × AV)} (hl : lle lv [(0, vr (some a0)), (1, vi x1), (2, vi x2)]) : V G X 3 h0 Q h 2 lv [] := by
  unfold X7_yearsGo_2 at hf
  exact loopC_walk (Wh := fun s : Int32 × AH => ∀ lv : List (Nat × AV), lle lv [(0, vr (some a0)), (1, vi x1), (2, vi s.1)] → V G X 3 h0 Q s.2 2 lv []) (PK := fun z => Q = QM G X h0 none z) (fun s o hf hk lv hl => W_X7_yearsGo_2b ok hr hd hf (by cases o <;> exact hk) hl) _ z hf hk lv hl
theorem W_X7_yearsGo {G : GT} {X : CX} {d : Nat} {h0 : AH} {Q : State → Prop} (ok : Ok G X RX7 cX7_yearsGo 3 d h0) (hr : (cxm X).sig.returnType = none) (hd : 10 ≤ d) {a0 : Nat} {x1 : Int32} {h : AH} {z : (AH)} (hf : X7_yearsGo a0 x1 h = some z) (hk : Q = QM G X h0 none z) {lv : List (Nat × AV)} (hl : lle lv [(0, vr (some a0)), (1, vi x1)]) : V G X 3 h0 Q h 0 lv [] := by
  refine V.sub hl ?_
  unfold X7_yearsGo at hf
  refine v_iconst ok 0 dX7_yearsGo_0 rfl ?_
  refine v_istore_n ok 2 dX7_yearsGo_1 rfl (by decide) ?_
  exact W_X7_yearsGo_2 ok hr hd hf hk ⟨rfl, rfl, rfl, trivial⟩
theorem M_X7_yearsGo {G : GT} {l : Launch} (hG : Glob G) {d : Nat} (hd : 10 ≤ d) {a0 : Nat} {x1 : Int32} {h : AH} {h' : AH} (hf : X7_yearsGo a0 x1 h = some h') : MM G l yX7_yearsGo cX7_yearsGo 3 none d [vr (some a0), vi x1] h none h' := by
  refine mm_of hG (plainFor_of_name (by decide)) (Nat.le_of_ble_eq_true rfl) (fun X hX ok hr hnm => ?_)
  subst hX
  exact W_X7_yearsGo ok hr hd hf rfl ⟨rfl, rfl, trivial⟩
theorem cw_X7_says : CW yX7_says cX7_says 7 (Option.some Jvm.ClassFile.FieldType.int) 4 := ⟨q2495, q185, ⟨by decide, by decide⟩, by decide +kernel, by decide⟩
theorem W_X7_says_64 {G : GT} {X : CX} {d : Nat} {h0 : AH} {Q : State → Prop} (ok : Ok G X RX7 cX7_says 7 d h0) (hr : (cxm X).sig.returnType = (Option.some Jvm.ClassFile.FieldType.int)) (hd : 11 ≤ d) {a0 : Nat} {x1 : Int32} {x2 : Int32} {x3 : Int32} {s0 : Int32} {h : AH} {z : (Int32 × AH)} (hf : X7_says_64 a0 x1 x2 x3 s0 h = some z) (hk : Q = QM G X h0 (some (vi z.1)) z.2) {lv : List (Nat × AV)} (hl : lle lv [(0, vr (some a0)), (1, vi x1), (2, vi x2), (3, vi x3)]) : V G X 7 h0 Q h 64 lv [vi s0] := by
  refine V.sub hl ?_
  unfold X7_says_64 at hf
  refine v_istore ok dX7_says_64 (by decide) ?_
  refine v_aload_n ok 0 dX7_says_66 rfl rfl ?_
  refine v_cVv ok (RX7, TX7, 117) cf_7.1 [] (F := fun a => X7_putsAside a h) (fun a h1 _ hv => M_X7_putsAside ok.2.2.2.2.2.2.1 (d := 1) (Nat.le_refl _) hv) (by exact Nat.le_trans (by decide) hd) cw_X7_putsAside q2500 q2502 qs134 dX7_says_67 [] rfl (Nat.le_of_ble_eq_true rfl) hf (fun h1 hf => ?_)
  refine v_aload_n ok 0 dX7_says_70 rfl rfl ?_
  refine v_iload_n ok 3 dX7_says_71 rfl rfl ?_
  refine v_cVv ok (RX7, TX7, 117) cf_7.1 [vi x3] (F := fun a => X7_yearsGo a x3 h1) (fun a h1 _ hv => M_X7_yearsGo ok.2.2.2.2.2.2.1 (d := 10) (Nat.le_refl _) hv) (by exact Nat.le_trans (by decide) hd) cw_X7_yearsGo q2504 q2506 qs135 dX7_says_72 [] rfl (Nat.le_of_ble_eq_true rfl) hf (fun h2 hf => ?_)
  refine v_aload_n ok 0 dX7_says_75 rfl rfl ?_
  refine v_aload_n ok 0 dX7_says_76 rfl rfl ?_
  refine v_iload_n ok 1 dX7_says_77 rfl rfl ?_
  refine v_cVi ok (RX7, TX7, 117) cf_7.1 [vi x1] (F := fun a => X7_handOf a x1 h2) (fun a v h1 _ hv => M_X7_handOf ok.2.2.2.2.2.2.1 (d := 1) (Nat.le_refl _) hv) (by exact Nat.le_trans (by decide) hd) cw_X7_handOf q2417 q2419 qs123 dX7_says_78 [vr (some a0)] rfl (Nat.le_of_ble_eq_true rfl) hf (fun v3 h4 hf => ?_)
  refine v_aload_n ok 0 dX7_says_81 rfl rfl ?_
  refine v_iload_n ok 1 dX7_says_82 rfl rfl ?_
  refine v_iload ok dX7_says_83 rfl ?_
  refine v_cVi ok (RX7, TX7, 117) cf_7.1 [vi x1, vi s0] (F := fun a => X7_glyphAt a x1 s0 h4) (fun a v h1 _ hv => M_X7_glyphAt ok.2.2.2.2.2.2.1 (d := 1) (Nat.le_refl _) hv) (by exact Nat.le_trans (by decide) hd) cw_X7_glyphAt q2377 q2379 qs117 dX7_says_85 [vi v3, vr (some a0)] rfl (Nat.le_of_ble_eq_true rfl) hf (fun v5 h6 hf => ?_)
  refine v_iload_n ok 2 dX7_says_88 rfl rfl ?_
  refine v_cSi ok [vi v5, vi x2] (F := X7_seenBy v5 x2 h6) (fun v h1 hv => M_X7_seenBy ok.2.2.2.2.2.2.1 (d := 1) (Nat.le_refl _) hv) (by exact Nat.le_trans (by decide) hd) cw_X7_seenBy q2444 q2445 dX7_says_89 [vi v3, vr (some a0)] rfl (Nat.le_of_ble_eq_true rfl) hf (fun v7 h8 hf => ?_)
  refine v_cVi ok (RX7, TX7, 117) cf_7.1 [vi v3, vi v7] (F := fun a => X7_readAs a v3 v7 h8) (fun a v h1 _ hv => M_X7_readAs ok.2.2.2.2.2.2.1 (d := 7) (Nat.le_refl _) hv) (by exact Nat.le_trans (by decide) hd) cw_X7_readAs q2488 q2490 qs132 dX7_says_92 [] rfl (Nat.le_of_ble_eq_true rfl) hf (fun v9 h10 hf => ?_)
  refine v_istore ok dX7_says_95 (by decide) ?_
  refine v_aload_n ok 0 dX7_says_97 rfl rfl ?_
  refine v_cVv ok (RX7, TX7, 117) cf_7.1 [] (F := fun a => X7_takesBack a h10) (fun a h1 _ hv => M_X7_takesBack ok.2.2.2.2.2.2.1 (d := 1) (Nat.le_refl _) hv) (by exact Nat.le_trans (by decide) hd) cw_X7_takesBack q2532 q2534 qs142 dX7_says_98 [] rfl (Nat.le_of_ble_eq_true rfl) hf (fun h11 hf => ?_)
  refine v_iload ok dX7_says_101 rfl ?_
  exact v_iret ok hr (by cases hf; exact hk) dX7_says_103
theorem W_X7_says_45 {G : GT} {X : CX} {d : Nat} {h0 : AH} {Q : State → Prop} (ok : Ok G X RX7 cX7_says 7 d h0) (hr : (cxm X).sig.returnType = (Option.some Jvm.ClassFile.FieldType.int)) (hd : 11 ≤ d) {a0 : Nat} {x1 : Int32} {x2 : Int32} {x3 : Int32} {x4 : Int32} {h : AH} {z : (Int32 × AH)} (hf : X7_says_45 a0 x1 x2 x3 x4 h = some z) (hk : Q = QM G X h0 (some (vi z.1)) z.2) {lv : List (Nat × AV)} (hl : lle lv [(0, vr (some a0)), (1, vi x1), (2, vi x2), (3, vi x3), (4, vi x4)]) : V G X 7 h0 Q h 45 lv [] := by
  refine V.sub hl ?_
  unfold X7_says_45 at hf
  refine v_aload_n ok 0 dX7_says_45 rfl rfl ?_
  refine v_aload_n ok 0 dX7_says_46 rfl rfl ?_
  refine v_iload_n ok 1 dX7_says_47 rfl rfl ?_
  refine v_cVi ok (RX7, TX7, 117) cf_7.1 [vi x1] (F := fun a => X7_wordOf a x1 h) (fun a v h1 _ hv => M_X7_wordOf ok.2.2.2.2.2.2.1 (d := 1) (Nat.le_refl _) hv) (by exact Nat.le_trans (by decide) hd) cw_X7_wordOf q2413 q2415 qs122 dX7_says_48 [vr (some a0)] rfl (Nat.le_of_ble_eq_true rfl) hf (fun v12 h13 hf => ?_)
  refine v_cVi ok (RX7, TX7, 117) cf_7.1 [vi v12] (F := fun a => X7_longOf a v12 h13) (fun a v h1 _ hv => M_X7_longOf ok.2.2.2.2.2.2.1 (d := 1) (Nat.le_refl _) hv) (by exact Nat.le_trans (by decide) hd) cw_X7_longOf q2337 q2339 qs109 dX7_says_51 [] rfl (Nat.le_of_ble_eq_true rfl) hf (fun v14 h15 hf => ?_)
  refine v_iconst ok 1 dX7_says_54 rfl ?_
  refine v_isub ok dX7_says_55 ?_
  refine v_iload ok dX7_says_56 rfl ?_
  refine v_isub ok dX7_says_58 ?_
  refine v_goto ok 64 dX7_says_59 rfl ?_
  exact W_X7_says_64 ok hr hd hf hk ⟨rfl, rfl, rfl, rfl, trivial⟩
theorem W_X7_says {G : GT} {X : CX} {d : Nat} {h0 : AH} {Q : State → Prop} (ok : Ok G X RX7 cX7_says 7 d h0) (hr : (cxm X).sig.returnType = (Option.some Jvm.ClassFile.FieldType.int)) (hd : 11 ≤ d) {a0 : Nat} {x1 : Int32} {x2 : Int32} {x3 : Int32} {x4 : Int32} {h : AH} {z : (Int32 × AH)} (hf : X7_says a0 x1 x2 x3 x4 h = some z) (hk : Q = QM G X h0 (some (vi z.1)) z.2) {lv : List (Nat × AV)} (hl : lle lv [(0, vr (some a0)), (1, vi x1), (2, vi x2), (3, vi x3), (4, vi x4)]) : V G X 7 h0 Q h 0 lv [] := by
  refine V.sub hl ?_
  unfold X7_says at hf
  refine v_aload_n ok 0 dX7_says_0 rfl rfl ?_
  refine v_iload_n ok 1 dX7_says_1 rfl rfl ?_
  refine v_iload ok dX7_says_2 rfl ?_
  refine v_cVi ok (RX7, TX7, 117) cf_7.1 [vi x1, vi x4] (F := fun a => X7_isPlace a x1 x4 h) (fun a v h1 _ hv => M_X7_isPlace ok.2.2.2.2.2.2.1 (d := 3) (Nat.le_refl _) hv) (by exact Nat.le_trans (by decide) hd) cw_X7_isPlace q2425 q2427 qs124 dX7_says_4 [] rfl (Nat.le_of_ble_eq_true rfl) hf (fun v16 h17 hf => ?_)
  refine v_if_eq ok 33 dX7_says_7 rfl hf (fun hf => ?_) (fun hf => ?_)
  ·
    refine v_iconst ok (-1) dX7_says_33 rfl ?_
    exact v_iret ok hr (by cases hf; exact hk) dX7_says_34
  ·
    refine v_iload_n ok 2 dX7_says_10 rfl rfl ?_
    refine v_i2l ok dX7_says_11 ?_
    refine v_lconst ok 0 dX7_says_12 rfl ?_
    refine v_ldc2 ok q2443 dX7_says_13 ?_
    refine v_cSi ok [vl (Int32.toInt64 x2), vl 0, vl 3] (F := X7_isIn (Int32.toInt64 x2) 0 3 h17) (fun v h1 hv => M_X7_isIn ok.2.2.2.2.2.2.1 (d := 1) (Nat.le_refl _) hv) (by exact Nat.le_trans (by decide) hd) cw_X7_isIn q2215 q2216 dX7_says_16 [] rfl (Nat.le_of_ble_eq_true rfl) hf (fun v18 h19 hf => ?_)
    refine v_if_eq ok 33 dX7_says_19 rfl hf (fun hf => ?_) (fun hf => ?_)
    ·
      refine v_iconst ok (-1) dX7_says_33 rfl ?_
      exact v_iret ok hr (by cases hf; exact hk) dX7_says_34
    ·
      refine v_aload_n ok 0 dX7_says_22 rfl rfl ?_
      refine v_iload_n ok 3 dX7_says_23 rfl rfl ?_
      refine v_iconst ok 0 dX7_says_24 rfl ?_
      refine v_bipush ok 60 dX7_says_25 rfl ?_
      refine v_cVi ok (RX7, TX7, 117) cf_7.1 [vi x3, vi 0, vi 60] (F := fun a => X7_isAhead a x3 0 60 h19) (fun a v h1 _ hv => M_X7_isAhead ok.2.2.2.2.2.2.1 (d := 2) (Nat.le_refl _) hv) (by exact Nat.le_trans (by decide) hd) cw_X7_isAhead q2496 q2498 qs133 dX7_says_27 [] rfl (Nat.le_of_ble_eq_true rfl) hf (fun v20 h21 hf => ?_)
      refine v_if_ne ok 35 dX7_says_30 rfl hf (fun hf => ?_) (fun hf => ?_)
      ·
        refine v_iload_n ok 2 dX7_says_35 rfl rfl ?_
        refine v_iconst ok 1 dX7_says_36 rfl ?_
        refine v_icmp_eq ok 45 dX7_says_37 rfl hf (fun hf => ?_) (fun hf => ?_)
        ·
          exact W_X7_says_45 ok hr hd hf hk ⟨rfl, rfl, rfl, rfl, rfl, trivial⟩
        ·
          refine v_iload_n ok 2 dX7_says_40 rfl rfl ?_
          refine v_iconst ok 3 dX7_says_41 rfl ?_
          refine v_icmp_ne ok 62 dX7_says_42 rfl hf (fun hf => ?_) (fun hf => ?_)
          ·
            refine v_iload ok dX7_says_62 rfl ?_
            exact W_X7_says_64 ok hr hd hf hk ⟨rfl, rfl, rfl, rfl, trivial⟩
          ·
            exact W_X7_says_45 ok hr hd hf hk ⟨rfl, rfl, rfl, rfl, rfl, trivial⟩
      ·
        refine v_iconst ok (-1) dX7_says_33 rfl ?_
        exact v_iret ok hr (by cases hf; exact hk) dX7_says_34
theorem M_X7_says {G : GT} {l : Launch} (hG : Glob G) {d : Nat} (hd : 11 ≤ d) {a0 : Nat} {x1 : Int32} {x2 : Int32} {x3 : Int32} {x4 : Int32} {h : AH} {v : Int32} {h' : AH} (hf : X7_says a0 x1 x2 x3 x4 h = some (v, h')) : MM G l yX7_says cX7_says 7 (Option.some Jvm.ClassFile.FieldType.int) d [vr (some a0), vi x1, vi x2, vi x3, vi x4] h (some (vi v)) h' := by
  refine mm_of hG (plainFor_of_name (by decide)) (Nat.le_of_ble_eq_true rfl) (fun X hX ok hr hnm => ?_)
  subst hX
  exact W_X7_says ok hr hd hf rfl ⟨rfl, rfl, rfl, rfl, rfl, trivial⟩
theorem cw_X7_canPaint : CW yX7_canPaint cX7_canPaint 4 (Option.some Jvm.ClassFile.FieldType.boolean) 2 := ⟨q2543, q185, ⟨by decide, by decide⟩, by decide +kernel, by decide⟩
def pkX7_canPaint_2 (G : GT) (X : CX) (h0 : AH) (Q : State → Prop) (a0 : Nat) (x1 : Int32) (x2 : Int32) (o : ((Int32 × AH) ⊕ (Int32 × AH))) : Prop := match o with
  | .inl s => ∀ lv : List (Nat × AV), lle lv [(0, vr (some a0)), (1, vi x1), (2, vi x2), (3, vi s.1)] → V G X 4 h0 Q s.2 2 lv []
  | .inr z => Q = QM G X h0 (some (vi z.1)) z.2
theorem W_X7_canPaint_2b {G : GT} {X : CX} {d : Nat} {h0 : AH} {Q : State → Prop} (ok : Ok G X RX7 cX7_canPaint 4 d h0) (hr : (cxm X).sig.returnType = (Option.some Jvm.ClassFile.FieldType.boolean)) (hd : 3 ≤ d) {a0 : Nat} {x1 : Int32} {x2 : Int32} {x3 : Int32} {h : AH} {z : ((Int32 × AH) ⊕ (Int32 × AH))} (hf : X7_canPaint_2b  a0 x1 x2 x3 h = some z) (hk : pkX7_canPaint_2 G X h0 Q a0 x1 x2 z) {lv : List (Nat × AV)} (hl : lle lv [(0, vr (some a0)), (1, vi x1), (2, vi x2), (3, vi x3)]) : V G X 4 h0 Q h 2 lv [] := by
  refine V.sub hl ?_
  unfold X7_canPaint_2b at hf
  refine v_iload_n ok 3 dX7_canPaint_2 rfl rfl ?_
  refine v_aload_n ok 0 dX7_canPaint_3 rfl rfl ?_
  refine v_iload_n ok 1 dX7_canPaint_4 rfl rfl ?_
  refine v_cVi ok (RX7, TX7, 117) cf_7.1 [vi x1] (F := fun a => X7_longOf a x1 h) (fun a v h1 _ hv => M_X7_longOf ok.2.2.2.2.2.2.1 (d := 1) (Nat.le_refl _) hv) (by exact Nat.le_trans (by decide) hd) cw_X7_longOf q2337 q2339 qs109 dX7_canPaint_5 [vi x3] rfl (Nat.le_of_ble_eq_true rfl) hf (fun v1 h2 hf => ?_)
  refine v_icmp_ge ok 34 dX7_canPaint_8 rfl hf (fun hf => ?_) (fun hf => ?_)
  ·
    refine v_iconst ok 1 dX7_canPaint_34 rfl ?_
    exact v_zretL ok hr (by decide) (by decide) (by cases hf; exact hk) dX7_canPaint_35
  ·
    refine v_aload_n ok 0 dX7_canPaint_11 rfl rfl ?_
    refine v_iload_n ok 2 dX7_canPaint_12 rfl rfl ?_
    refine v_aload_n ok 0 dX7_canPaint_13 rfl rfl ?_
    refine v_iload_n ok 1 dX7_canPaint_14 rfl rfl ?_
    refine v_iload_n ok 3 dX7_canPaint_15 rfl rfl ?_
    refine v_cVi ok (RX7, TX7, 117) cf_7.1 [vi x1, vi x3] (F := fun a => X7_letterOf a x1 x3 h2) (fun a v h1 _ hv => M_X7_letterOf ok.2.2.2.2.2.2.1 (d := 1) (Nat.le_refl _) hv) (by exact Nat.le_trans (by decide) hd) cw_X7_letterOf q2341 q2343 qs110 dX7_canPaint_16 [vi x2, vr (some a0)] rfl (Nat.le_of_ble_eq_true rfl) hf (fun v3 h4 hf => ?_)
    refine v_cVi ok (RX7, TX7, 117) cf_7.1 [vi x2, vi v3] (F := fun a => X7_letterAt a x2 v3 h4) (fun a v h1 _ hv => M_X7_letterAt ok.2.2.2.2.2.2.1 (d := 2) (Nat.le_refl _) hv) (by exact Nat.le_trans (by decide) hd) cw_X7_letterAt q2345 q2347 qs111 dX7_canPaint_19 [] rfl (Nat.le_of_ble_eq_true rfl) hf (fun v5 h6 hf => ?_)
    refine v_iconst ok (-1) dX7_canPaint_22 rfl ?_
    refine v_icmp_ne ok 28 dX7_canPaint_23 rfl hf (fun hf => ?_) (fun hf => ?_)
    ·
      refine v_iinc ok x3 (x3 + 1) dX7_canPaint_28 rfl rfl (by decide) ?_
      refine v_goto ok 2 dX7_canPaint_31 rfl ?_
      cases hf; exact hk _ ⟨rfl, rfl, rfl, rfl, trivial⟩
    ·
      refine v_iconst ok 0 dX7_canPaint_26 rfl ?_
      exact v_zretL ok hr (by decide) (by decide) (by cases hf; exact hk) dX7_canPaint_27
theorem W_X7_canPaint_2 {G : GT} {X : CX} {d : Nat} {h0 : AH} {Q : State → Prop} (ok : Ok G X RX7 cX7_canPaint 4 d h0) (hr : (cxm X).sig.returnType = (Option.some Jvm.ClassFile.FieldType.boolean)) (hd : 3 ≤ d) {a0 : Nat} {x1 : Int32} {x2 : Int32} {x3 : Int32} {h : AH} {z : (Int32 × AH)} (hf : X7_canPaint_2  a0 x1 x2 x3 h = some z) (hk : Q = QM G X h0 (some (vi z.1)) z.2) {lv : List (Nat × AV)} (hl : lle lv [(0, vr (some a0)), (1, vi x1), (2, vi x2), (3, vi x3)]) : V G X 4 h0 Q h 2 lv [] := by
  unfold X7_canPaint_2 at hf
  exact loopC_walk (Wh := fun s : Int32 × AH => ∀ lv : List (Nat × AV), lle lv [(0, vr (some a0)), (1, vi x1), (2, vi x2), (3, vi s.1)] → V G X 4 h0 Q s.2 2 lv []) (PK := fun z => Q = QM G X h0 (some (vi z.1)) z.2) (fun s o hf hk lv hl => W_X7_canPaint_2b ok hr hd hf (by cases o <;> exact hk) hl) _ z hf hk lv hl
theorem W_X7_canPaint {G : GT} {X : CX} {d : Nat} {h0 : AH} {Q : State → Prop} (ok : Ok G X RX7 cX7_canPaint 4 d h0) (hr : (cxm X).sig.returnType = (Option.some Jvm.ClassFile.FieldType.boolean)) (hd : 3 ≤ d) {a0 : Nat} {x1 : Int32} {x2 : Int32} {h : AH} {z : (Int32 × AH)} (hf : X7_canPaint a0 x1 x2 h = some z) (hk : Q = QM G X h0 (some (vi z.1)) z.2) {lv : List (Nat × AV)} (hl : lle lv [(0, vr (some a0)), (1, vi x1), (2, vi x2)]) : V G X 4 h0 Q h 0 lv [] := by
  refine V.sub hl ?_
  unfold X7_canPaint at hf
  refine v_iconst ok 0 dX7_canPaint_0 rfl ?_
  refine v_istore_n ok 3 dX7_canPaint_1 rfl (by decide) ?_
  exact W_X7_canPaint_2 ok hr hd hf hk ⟨rfl, rfl, rfl, rfl, trivial⟩
theorem M_X7_canPaint {G : GT} {l : Launch} (hG : Glob G) {d : Nat} (hd : 3 ≤ d) {a0 : Nat} {x1 : Int32} {x2 : Int32} {h : AH} {v : Int32} {h' : AH} (hf : X7_canPaint a0 x1 x2 h = some (v, h')) : MM G l yX7_canPaint cX7_canPaint 4 (Option.some Jvm.ClassFile.FieldType.boolean) d [vr (some a0), vi x1, vi x2] h (some (vi v)) h' := by
  refine mm_of hG (plainFor_of_name (by decide)) (Nat.le_of_ble_eq_true rfl) (fun X hX ok hr hnm => ?_)
  subst hX
  exact W_X7_canPaint ok hr hd hf rfl ⟨rfl, rfl, rfl, trivial⟩
theorem cw_X7_isSaid : CW yX7_isSaid cX7_isSaid 4 (Option.some Jvm.ClassFile.FieldType.boolean) 2 := ⟨q2547, q185, ⟨by decide, by decide⟩, by decide +kernel, by decide⟩
def pkX7_isSaid_13 (G : GT) (X : CX) (h0 : AH) (Q : State → Prop) (a0 : Nat) (x1 : Int32) (x2 : Int32) (o : ((Int32 × AH) ⊕ (Int32 × AH))) : Prop := match o with
  | .inl s => ∀ lv : List (Nat × AV), lle lv [(0, vr (some a0)), (1, vi x1), (2, vi x2), (3, vi s.1)] → V G X 4 h0 Q s.2 13 lv []
  | .inr z => Q = QM G X h0 (some (vi z.1)) z.2
theorem W_X7_isSaid_13b {G : GT} {X : CX} {d : Nat} {h0 : AH} {Q : State → Prop} (ok : Ok G X RX7 cX7_isSaid 4 d h0) (hr : (cxm X).sig.returnType = (Option.some Jvm.ClassFile.FieldType.boolean)) (hd : 2 ≤ d) {a0 : Nat} {x1 : Int32} {x2 : Int32} {x3 : Int32} {h : AH} {z : ((Int32 × AH) ⊕ (Int32 × AH))} (hf : X7_isSaid_13b  a0 x1 x2 x3 h = some z) (hk : pkX7_isSaid_13 G X h0 Q a0 x1 x2 z) {lv : List (Nat × AV)} (hl : lle lv [(0, vr (some a0)), (1, vi x1), (2, vi x2), (3, vi x3)]) : V G X 4 h0 Q h 13 lv [] := by
  refine V.sub hl ?_
  unfold X7_isSaid_13b at hf
  refine v_iload_n ok 3 dX7_isSaid_13 rfl rfl ?_
  refine v_iload_n ok 2 dX7_isSaid_14 rfl rfl ?_
  refine v_icmp_ge ok 41 dX7_isSaid_15 rfl hf (fun hf => ?_) (fun hf => ?_)
  ·
    refine v_iconst ok 1 dX7_isSaid_41 rfl ?_
    exact v_zretL ok hr (by decide) (by decide) (by cases hf; exact hk) dX7_isSaid_42
  ·
    refine v_aload_n ok 0 dX7_isSaid_18 rfl rfl ?_
    refine v_iload_n ok 1 dX7_isSaid_19 rfl rfl ?_
    refine v_iload_n ok 3 dX7_isSaid_20 rfl rfl ?_
    refine v_cVi ok (RX7, TX7, 117) cf_7.1 [vi x1, vi x3] (F := fun a => X7_letterOf a x1 x3 h) (fun a v h1 _ hv => M_X7_letterOf ok.2.2.2.2.2.2.1 (d := 1) (Nat.le_refl _) hv) (by exact Nat.le_trans (by decide) hd) cw_X7_letterOf q2341 q2343 qs110 dX7_isSaid_21 [] rfl (Nat.le_of_ble_eq_true rfl) hf (fun v1 h2 hf => ?_)
    refine v_aload_n ok 0 dX7_isSaid_24 rfl rfl ?_
    refine v_gR ok fl_X7_141 (by first | exact Or.inl ⟨_, rfl⟩ | exact Or.inr ⟨_, rfl⟩) dX7_isSaid_25 hf (fun v3 hf => ?_)
    refine v_iload_n ok 3 dX7_isSaid_28 rfl rfl ?_
    refine v_iald ok rfl dX7_isSaid_29 hf (fun v4 hf => ?_)
    refine v_icmp_eq ok 35 dX7_isSaid_30 rfl hf (fun hf => ?_) (fun hf => ?_)
    ·
      refine v_iinc ok x3 (x3 + 1) dX7_isSaid_35 rfl rfl (by decide) ?_
      refine v_goto ok 13 dX7_isSaid_38 rfl ?_
      cases hf; exact hk _ ⟨rfl, rfl, rfl, rfl, trivial⟩
    ·
      refine v_iconst ok 0 dX7_isSaid_33 rfl ?_
      exact v_zretL ok hr (by decide) (by decide) (by cases hf; exact hk) dX7_isSaid_34
theorem W_X7_isSaid_13 {G : GT} {X : CX} {d : Nat} {h0 : AH} {Q : State → Prop} (ok : Ok G X RX7 cX7_isSaid 4 d h0) (hr : (cxm X).sig.returnType = (Option.some Jvm.ClassFile.FieldType.boolean)) (hd : 2 ≤ d) {a0 : Nat} {x1 : Int32} {x2 : Int32} {x3 : Int32} {h : AH} {z : (Int32 × AH)} (hf : X7_isSaid_13  a0 x1 x2 x3 h = some z) (hk : Q = QM G X h0 (some (vi z.1)) z.2) {lv : List (Nat × AV)} (hl : lle lv [(0, vr (some a0)), (1, vi x1), (2, vi x2), (3, vi x3)]) : V G X 4 h0 Q h 13 lv [] := by
  unfold X7_isSaid_13 at hf
  exact loopC_walk (Wh := fun s : Int32 × AH => ∀ lv : List (Nat × AV), lle lv [(0, vr (some a0)), (1, vi x1), (2, vi x2), (3, vi s.1)] → V G X 4 h0 Q s.2 13 lv []) (PK := fun z => Q = QM G X h0 (some (vi z.1)) z.2) (fun s o hf hk lv hl => W_X7_isSaid_13b ok hr hd hf (by cases o <;> exact hk) hl) _ z hf hk lv hl
theorem W_X7_isSaid {G : GT} {X : CX} {d : Nat} {h0 : AH} {Q : State → Prop} (ok : Ok G X RX7 cX7_isSaid 4 d h0) (hr : (cxm X).sig.returnType = (Option.some Jvm.ClassFile.FieldType.boolean)) (hd : 2 ≤ d) {a0 : Nat} {x1 : Int32} {x2 : Int32} {h : AH} {z : (Int32 × AH)} (hf : X7_isSaid a0 x1 x2 h = some z) (hk : Q = QM G X h0 (some (vi z.1)) z.2) {lv : List (Nat × AV)} (hl : lle lv [(0, vr (some a0)), (1, vi x1), (2, vi x2)]) : V G X 4 h0 Q h 0 lv [] := by
  refine V.sub hl ?_
  unfold X7_isSaid at hf
  refine v_aload_n ok 0 dX7_isSaid_0 rfl rfl ?_
  refine v_iload_n ok 1 dX7_isSaid_1 rfl rfl ?_
  refine v_cVi ok (RX7, TX7, 117) cf_7.1 [vi x1] (F := fun a => X7_longOf a x1 h) (fun a v h1 _ hv => M_X7_longOf ok.2.2.2.2.2.2.1 (d := 1) (Nat.le_refl _) hv) (by exact Nat.le_trans (by decide) hd) cw_X7_longOf q2337 q2339 qs109 dX7_isSaid_2 [] rfl (Nat.le_of_ble_eq_true rfl) hf (fun v5 h6 hf => ?_)
  refine v_iload_n ok 2 dX7_isSaid_5 rfl rfl ?_
  refine v_icmp_eq ok 11 dX7_isSaid_6 rfl hf (fun hf => ?_) (fun hf => ?_)
  ·
    refine v_iconst ok 0 dX7_isSaid_11 rfl ?_
    refine v_istore_n ok 3 dX7_isSaid_12 rfl (by decide) ?_
    exact W_X7_isSaid_13 ok hr hd hf hk ⟨rfl, rfl, rfl, rfl, trivial⟩
  ·
    refine v_iconst ok 0 dX7_isSaid_9 rfl ?_
    exact v_zretL ok hr (by decide) (by decide) (by cases hf; exact hk) dX7_isSaid_10
theorem M_X7_isSaid {G : GT} {l : Launch} (hG : Glob G) {d : Nat} (hd : 2 ≤ d) {a0 : Nat} {x1 : Int32} {x2 : Int32} {h : AH} {v : Int32} {h' : AH} (hf : X7_isSaid a0 x1 x2 h = some (v, h')) : MM G l yX7_isSaid cX7_isSaid 4 (Option.some Jvm.ClassFile.FieldType.boolean) d [vr (some a0), vi x1, vi x2] h (some (vi v)) h' := by
  refine mm_of hG (plainFor_of_name (by decide)) (Nat.le_of_ble_eq_true rfl) (fun X hX ok hr hnm => ?_)
  subst hX
  exact W_X7_isSaid ok hr hd hf rfl ⟨rfl, rfl, rfl, trivial⟩
theorem cw_X7_becomes : CW yX7_becomes cX7_becomes 7 (Option.some Jvm.ClassFile.FieldType.int) 3 := ⟨q2539, q185, ⟨by decide, by decide⟩, by decide +kernel, by decide⟩
def pkX7_becomes_123 (G : GT) (X : CX) (h0 : AH) (Q : State → Prop) (a0 : Nat) (x4 : Int32) (o : ((Int32 × AH) ⊕ (Int32 × AH))) : Prop := match o with
  | .inl s => ∀ lv : List (Nat × AV), lle lv [(0, vr (some a0)), (4, vi x4), (5, vi s.1)] → V G X 7 h0 Q s.2 123 lv []
  | .inr z => Q = QM G X h0 (some (vi z.1)) z.2
def pkX7_becomes_50 (G : GT) (X : CX) (h0 : AH) (Q : State → Prop) (a0 : Nat) (x1 : Int32) (x2 : Int32) (x3 : Int32) (x4 : Int32) (o : ((Int32 × AH) ⊕ (Int32 × AH))) : Prop := match o with
  | .inl s => ∀ lv : List (Nat × AV), lle lv [(0, vr (some a0)), (1, vi x1), (2, vi x2), (3, vi x3), (4, vi x4), (5, vi s.1)] → V G X 7 h0 Q s.2 50 lv []
  | .inr z => Q = QM G X h0 (some (vi z.1)) z.2
theorem W_X7_becomes_79 {G : GT} {X : CX} {d : Nat} {h0 : AH} {Q : State → Prop} (ok : Ok G X RX7 cX7_becomes 7 d h0) (hr : (cxm X).sig.returnType = (Option.some Jvm.ClassFile.FieldType.int)) (hd : 8 ≤ d) {a0 : Nat} {x1 : Int32} {x2 : Int32} {x3 : Int32} {x4 : Int32} {x5 : Int32} {s0 : Int32} {h : AH} {z : ((Int32 × AH) ⊕ (Int32 × AH))} (hf : X7_becomes_79 a0 x1 x2 x3 x4 x5 s0 h = some z) (hk : pkX7_becomes_50 G X h0 Q a0 x1 x2 x3 x4 z) {lv : List (Nat × AV)} (hl : lle lv [(0, vr (some a0)), (1, vi x1), (2, vi x2), (3, vi x3), (4, vi x4), (5, vi x5)]) : V G X 7 h0 Q h 79 lv [vi s0] := by
  refine V.sub hl ?_
  unfold X7_becomes_79 at hf
  refine v_istore ok dX7_becomes_79 (by decide) ?_
  refine v_aload_n ok 0 dX7_becomes_81 rfl rfl ?_
  refine v_gR ok fl_X7_141 (by first | exact Or.inl ⟨_, rfl⟩ | exact Or.inr ⟨_, rfl⟩) dX7_becomes_82 hf (fun v1 hf => ?_)
  refine v_iload ok dX7_becomes_85 rfl ?_
  refine v_aload_n ok 0 dX7_becomes_87 rfl rfl ?_
  refine v_iload_n ok 2 dX7_becomes_88 rfl rfl ?_
  refine v_aload_n ok 0 dX7_becomes_89 rfl rfl ?_
  refine v_iload_n ok 2 dX7_becomes_90 rfl rfl ?_
  refine v_aload_n ok 0 dX7_becomes_91 rfl rfl ?_
  refine v_iload_n ok 2 dX7_becomes_92 rfl rfl ?_
  refine v_aload_n ok 0 dX7_becomes_93 rfl rfl ?_
  refine v_iload_n ok 1 dX7_becomes_94 rfl rfl ?_
  refine v_iload ok dX7_becomes_95 rfl ?_
  refine v_cVi ok (RX7, TX7, 117) cf_7.1 [vi x1, vi s0] (F := fun a => X7_letterOf a x1 s0 h) (fun a v h1 _ hv => M_X7_letterOf ok.2.2.2.2.2.2.1 (d := 1) (Nat.le_refl _) hv) (by exact Nat.le_trans (by decide) hd) cw_X7_letterOf q2341 q2343 qs110 dX7_becomes_97 [vi x2, vr (some a0), vi x2, vr (some a0), vi x2, vr (some a0), vi x5, vr v1] rfl (Nat.le_of_ble_eq_true rfl) hf (fun v2 h3 hf => ?_)
  refine v_cVi ok (RX7, TX7, 117) cf_7.1 [vi x2, vi v2] (F := fun a => X7_letterAt a x2 v2 h3) (fun a v h1 _ hv => M_X7_letterAt ok.2.2.2.2.2.2.1 (d := 2) (Nat.le_refl _) hv) (by exact Nat.le_trans (by decide) hd) cw_X7_letterAt q2345 q2347 qs111 dX7_becomes_100 [vi x2, vr (some a0), vi x2, vr (some a0), vi x5, vr v1] rfl (Nat.le_of_ble_eq_true rfl) hf (fun v4 h5 hf => ?_)
  refine v_cVi ok (RX7, TX7, 117) cf_7.1 [vi x2, vi v4] (F := fun a => X7_glyphOf a x2 v4 h5) (fun a v h1 _ hv => M_X7_glyphOf ok.2.2.2.2.2.2.1 (d := 1) (Nat.le_refl _) hv) (by exact Nat.le_trans (by decide) hd) cw_X7_glyphOf q2353 q2355 qs113 dX7_becomes_103 [vi x2, vr (some a0), vi x5, vr v1] rfl (Nat.le_of_ble_eq_true rfl) hf (fun v6 h7 hf => ?_)
  refine v_iload_n ok 3 dX7_becomes_106 rfl rfl ?_
  refine v_cSi ok [vi v6, vi x3] (F := X7_seenBy v6 x3 h7) (fun v h1 hv => M_X7_seenBy ok.2.2.2.2.2.2.1 (d := 1) (Nat.le_refl _) hv) (by exact Nat.le_trans (by decide) hd) cw_X7_seenBy q2444 q2445 dX7_becomes_107 [vi x2, vr (some a0), vi x5, vr v1] rfl (Nat.le_of_ble_eq_true rfl) hf (fun v8 h9 hf => ?_)
  refine v_cVi ok (RX7, TX7, 117) cf_7.1 [vi x2, vi v8] (F := fun a => X7_readAs a x2 v8 h9) (fun a v h1 _ hv => M_X7_readAs ok.2.2.2.2.2.2.1 (d := 7) (Nat.le_refl _) hv) (by exact Nat.le_trans (by decide) hd) cw_X7_readAs q2488 q2490 qs132 dX7_becomes_110 [vi x5, vr v1] rfl (Nat.le_of_ble_eq_true rfl) hf (fun v10 h11 hf => ?_)
  refine v_iast ok rfl dX7_becomes_113 hf (fun h12 hf => ?_)
  refine v_iinc ok x5 (x5 + 1) dX7_becomes_114 rfl rfl (by decide) ?_
  refine v_goto ok 50 dX7_becomes_117 rfl ?_
  cases hf; exact hk _ ⟨rfl, rfl, rfl, rfl, rfl, rfl, trivial⟩
theorem W_X7_becomes_67 {G : GT} {X : CX} {d : Nat} {h0 : AH} {Q : State → Prop} (ok : Ok G X RX7 cX7_becomes 7 d h0) (hr : (cxm X).sig.returnType = (Option.some Jvm.ClassFile.FieldType.int)) (hd : 8 ≤ d) {a0 : Nat} {x1 : Int32} {x2 : Int32} {x3 : Int32} {x4 : Int32} {x5 : Int32} {h : AH} {z : ((Int32 × AH) ⊕ (Int32 × AH))} (hf : X7_becomes_67 a0 x1 x2 x3 x4 x5 h = some z) (hk : pkX7_becomes_50 G X h0 Q a0 x1 x2 x3 x4 z) {lv : List (Nat × AV)} (hl : lle lv [(0, vr (some a0)), (1, vi x1), (2, vi x2), (3, vi x3), (4, vi x4), (5, vi x5)]) : V G X 7 h0 Q h 67 lv [] := by
  refine V.sub hl ?_
  unfold X7_becomes_67 at hf
  refine v_iload ok dX7_becomes_67 rfl ?_
  refine v_iconst ok 1 dX7_becomes_69 rfl ?_
  refine v_isub ok dX7_becomes_70 ?_
  refine v_iload ok dX7_becomes_71 rfl ?_
  refine v_isub ok dX7_becomes_73 ?_
  refine v_goto ok 79 dX7_becomes_74 rfl ?_
  exact W_X7_becomes_79 ok hr hd hf hk ⟨rfl, rfl, rfl, rfl, rfl, rfl, trivial⟩
theorem W_X7_becomes_123b {G : GT} {X : CX} {d : Nat} {h0 : AH} {Q : State → Prop} (ok : Ok G X RX7 cX7_becomes 7 d h0) (hr : (cxm X).sig.returnType = (Option.some Jvm.ClassFile.FieldType.int)) (hd : 8 ≤ d) {a0 : Nat} {x4 : Int32} {x5 : Int32} {h : AH} {z : ((Int32 × AH) ⊕ (Int32 × AH))} (hf : X7_becomes_123b  a0 x4 x5 h = some z) (hk : pkX7_becomes_123 G X h0 Q a0 x4 z) {lv : List (Nat × AV)} (hl : lle lv [(0, vr (some a0)), (4, vi x4), (5, vi x5)]) : V G X 7 h0 Q h 123 lv [] := by
  refine V.sub hl ?_
  unfold X7_becomes_123b at hf
  refine v_iload ok dX7_becomes_123 rfl ?_
  refine v_aload_n ok 0 dX7_becomes_125 rfl rfl ?_
  refine v_cVi ok (RX7, TX7, 117) cf_7.1 [] (F := fun a => X7_wordMany a h) (fun a v h1 _ hv => M_X7_wordMany ok.2.2.2.2.2.2.1 (d := 1) (Nat.le_refl _) hv) (by exact Nat.le_trans (by decide) hd) cw_X7_wordMany q2365 q2367 qs114 dX7_becomes_126 [vi x5] rfl (Nat.le_of_ble_eq_true rfl) hf (fun v13 h14 hf => ?_)
  refine v_icmp_ge ok 152 dX7_becomes_129 rfl hf (fun hf => ?_) (fun hf => ?_)
  ·
    refine v_iconst ok (-1) dX7_becomes_152 rfl ?_
    exact v_iret ok hr (by cases hf; exact hk) dX7_becomes_153
  ·
    refine v_aload_n ok 0 dX7_becomes_132 rfl rfl ?_
    refine v_iload ok dX7_becomes_133 rfl ?_
    refine v_iload ok dX7_becomes_135 rfl ?_
    refine v_cVi ok (RX7, TX7, 117) cf_7.1 [vi x5, vi x4] (F := fun a => X7_isSaid a x5 x4 h14) (fun a v h1 _ hv => M_X7_isSaid ok.2.2.2.2.2.2.1 (d := 2) (Nat.le_refl _) hv) (by exact Nat.le_trans (by decide) hd) cw_X7_isSaid q2544 q2546 qs144 dX7_becomes_137 [] rfl (Nat.le_of_ble_eq_true rfl) hf (fun v15 h16 hf => ?_)
    refine v_if_eq ok 146 dX7_becomes_140 rfl hf (fun hf => ?_) (fun hf => ?_)
    ·
      refine v_iinc ok x5 (x5 + 1) dX7_becomes_146 rfl rfl (by decide) ?_
      refine v_goto ok 123 dX7_becomes_149 rfl ?_
      cases hf; exact hk _ ⟨rfl, rfl, rfl, trivial⟩
    ·
      refine v_iload ok dX7_becomes_143 rfl ?_
      exact v_iret ok hr (by cases hf; exact hk) dX7_becomes_145
theorem W_X7_becomes_123 {G : GT} {X : CX} {d : Nat} {h0 : AH} {Q : State → Prop} (ok : Ok G X RX7 cX7_becomes 7 d h0) (hr : (cxm X).sig.returnType = (Option.some Jvm.ClassFile.FieldType.int)) (hd : 8 ≤ d) {a0 : Nat} {x4 : Int32} {x5 : Int32} {h : AH} {z : (Int32 × AH)} (hf : X7_becomes_123  a0 x4 x5 h = some z) (hk : Q = QM G X h0 (some (vi z.1)) z.2) {lv : List (Nat × AV)} (hl : lle lv [(0, vr (some a0)), (4, vi x4), (5, vi x5)]) : V G X 7 h0 Q h 123 lv [] := by
  unfold X7_becomes_123 at hf
  exact loopC_walk (Wh := fun s : Int32 × AH => ∀ lv : List (Nat × AV), lle lv [(0, vr (some a0)), (4, vi x4), (5, vi s.1)] → V G X 7 h0 Q s.2 123 lv []) (PK := fun z => Q = QM G X h0 (some (vi z.1)) z.2) (fun s o hf hk lv hl => W_X7_becomes_123b ok hr hd hf (by cases o <;> exact hk) hl) _ z hf hk lv hl
theorem W_X7_becomes_50b {G : GT} {X : CX} {d : Nat} {h0 : AH} {Q : State → Prop} (ok : Ok G X RX7 cX7_becomes 7 d h0) (hr : (cxm X).sig.returnType = (Option.some Jvm.ClassFile.FieldType.int)) (hd : 8 ≤ d) {a0 : Nat} {x1 : Int32} {x2 : Int32} {x3 : Int32} {x4 : Int32} {x5 : Int32} {h : AH} {z : ((Int32 × AH) ⊕ (Int32 × AH))} (hf : X7_becomes_50b  a0 x1 x2 x3 x4 x5 h = some z) (hk : pkX7_becomes_50 G X h0 Q a0 x1 x2 x3 x4 z) {lv : List (Nat × AV)} (hl : lle lv [(0, vr (some a0)), (1, vi x1), (2, vi x2), (3, vi x3), (4, vi x4), (5, vi x5)]) : V G X 7 h0 Q h 50 lv [] := by
  refine V.sub hl ?_
  unfold X7_becomes_50b at hf
  refine v_iload ok dX7_becomes_50 rfl ?_
  refine v_iload ok dX7_becomes_52 rfl ?_
  refine v_icmp_ge ok 120 dX7_becomes_54 rfl hf (fun hf => ?_) (fun hf => ?_)
  ·
    refine v_iconst ok 0 dX7_becomes_120 rfl ?_
    refine v_istore ok dX7_becomes_121 (by decide) ?_
    obtain ⟨o, ho, hz⟩ := ob hf
    cases hz; exact W_X7_becomes_123 ok hr hd ho hk ⟨rfl, rfl, rfl, trivial⟩
  ·
    refine v_iload_n ok 3 dX7_becomes_57 rfl rfl ?_
    refine v_iconst ok 1 dX7_becomes_58 rfl ?_
    refine v_icmp_eq ok 67 dX7_becomes_59 rfl hf (fun hf => ?_) (fun hf => ?_)
    ·
      exact W_X7_becomes_67 ok hr hd hf hk ⟨rfl, rfl, rfl, rfl, rfl, rfl, trivial⟩
    ·
      refine v_iload_n ok 3 dX7_becomes_62 rfl rfl ?_
      refine v_iconst ok 3 dX7_becomes_63 rfl ?_
      refine v_icmp_ne ok 77 dX7_becomes_64 rfl hf (fun hf => ?_) (fun hf => ?_)
      ·
        refine v_iload ok dX7_becomes_77 rfl ?_
        exact W_X7_becomes_79 ok hr hd hf hk ⟨rfl, rfl, rfl, rfl, rfl, rfl, trivial⟩
      ·
        exact W_X7_becomes_67 ok hr hd hf hk ⟨rfl, rfl, rfl, rfl, rfl, rfl, trivial⟩
theorem W_X7_becomes_50 {G : GT} {X : CX} {d : Nat} {h0 : AH} {Q : State → Prop} (ok : Ok G X RX7 cX7_becomes 7 d h0) (hr : (cxm X).sig.returnType = (Option.some Jvm.ClassFile.FieldType.int)) (hd : 8 ≤ d) {a0 : Nat} {x1 : Int32} {x2 : Int32} {x3 : Int32} {x4 : Int32} {x5 : Int32} {h : AH} {z : (Int32 × AH)} (hf : X7_becomes_50  a0 x1 x2 x3 x4 x5 h = some z) (hk : Q = QM G X h0 (some (vi z.1)) z.2) {lv : List (Nat × AV)} (hl : lle lv [(0, vr (some a0)), (1, vi x1), (2, vi x2), (3, vi x3), (4, vi x4), (5, vi x5)]) : V G X 7 h0 Q h 50 lv [] := by
  unfold X7_becomes_50 at hf
  exact loopC_walk (Wh := fun s : Int32 × AH => ∀ lv : List (Nat × AV), lle lv [(0, vr (some a0)), (1, vi x1), (2, vi x2), (3, vi x3), (4, vi x4), (5, vi s.1)] → V G X 7 h0 Q s.2 50 lv []) (PK := fun z => Q = QM G X h0 (some (vi z.1)) z.2) (fun s o hf hk lv hl => W_X7_becomes_50b ok hr hd hf (by cases o <;> exact hk) hl) _ z hf hk lv hl
theorem W_X7_becomes {G : GT} {X : CX} {d : Nat} {h0 : AH} {Q : State → Prop} (ok : Ok G X RX7 cX7_becomes 7 d h0) (hr : (cxm X).sig.returnType = (Option.some Jvm.ClassFile.FieldType.int)) (hd : 8 ≤ d) {a0 : Nat} {x1 : Int32} {x2 : Int32} {x3 : Int32} {h : AH} {z : (Int32 × AH)} (hf : X7_becomes a0 x1 x2 x3 h = some z) (hk : Q = QM G X h0 (some (vi z.1)) z.2) {lv : List (Nat × AV)} (hl : lle lv [(0, vr (some a0)), (1, vi x1), (2, vi x2), (3, vi x3)]) : V G X 7 h0 Q h 0 lv [] := by
  refine V.sub hl ?_
  unfold X7_becomes at hf
  refine v_aload_n ok 0 dX7_becomes_0 rfl rfl ?_
  refine v_iload_n ok 1 dX7_becomes_1 rfl rfl ?_
  refine v_i2l ok dX7_becomes_2 ?_
  refine v_cVi ok (RX7, TX7, 117) cf_7.1 [vl (Int32.toInt64 x1)] (F := fun a => X7_isWord a (Int32.toInt64 x1) h) (fun a v h1 _ hv => M_X7_isWord ok.2.2.2.2.2.2.1 (d := 2) (Nat.le_refl _) hv) (by exact Nat.le_trans (by decide) hd) cw_X7_isWord q2400 q2402 qs120 dX7_becomes_3 [] rfl (Nat.le_of_ble_eq_true rfl) hf (fun v17 h18 hf => ?_)
  refine v_if_eq ok 38 dX7_becomes_6 rfl hf (fun hf => ?_) (fun hf => ?_)
  ·
    refine v_iconst ok (-1) dX7_becomes_38 rfl ?_
    exact v_iret ok hr (by cases hf; exact hk) dX7_becomes_39
  ·
    refine v_aload_n ok 0 dX7_becomes_9 rfl rfl ?_
    refine v_iload_n ok 2 dX7_becomes_10 rfl rfl ?_
    refine v_cVi ok (RX7, TX7, 117) cf_7.1 [vi x2] (F := fun a => X7_isHand a x2 h18) (fun a v h1 _ hv => M_X7_isHand ok.2.2.2.2.2.2.1 (d := 2) (Nat.le_refl _) hv) (by exact Nat.le_trans (by decide) hd) cw_X7_isHand q2392 q2394 qs119 dX7_becomes_11 [] rfl (Nat.le_of_ble_eq_true rfl) hf (fun v19 h20 hf => ?_)
    refine v_if_eq ok 38 dX7_becomes_14 rfl hf (fun hf => ?_) (fun hf => ?_)
    ·
      refine v_iconst ok (-1) dX7_becomes_38 rfl ?_
      exact v_iret ok hr (by cases hf; exact hk) dX7_becomes_39
    ·
      refine v_iload_n ok 3 dX7_becomes_17 rfl rfl ?_
      refine v_i2l ok dX7_becomes_18 ?_
      refine v_lconst ok 0 dX7_becomes_19 rfl ?_
      refine v_ldc2 ok q2443 dX7_becomes_20 ?_
      refine v_cSi ok [vl (Int32.toInt64 x3), vl 0, vl 3] (F := X7_isIn (Int32.toInt64 x3) 0 3 h20) (fun v h1 hv => M_X7_isIn ok.2.2.2.2.2.2.1 (d := 1) (Nat.le_refl _) hv) (by exact Nat.le_trans (by decide) hd) cw_X7_isIn q2215 q2216 dX7_becomes_23 [] rfl (Nat.le_of_ble_eq_true rfl) hf (fun v21 h22 hf => ?_)
      refine v_if_eq ok 38 dX7_becomes_26 rfl hf (fun hf => ?_) (fun hf => ?_)
      ·
        refine v_iconst ok (-1) dX7_becomes_38 rfl ?_
        exact v_iret ok hr (by cases hf; exact hk) dX7_becomes_39
      ·
        refine v_aload_n ok 0 dX7_becomes_29 rfl rfl ?_
        refine v_iload_n ok 1 dX7_becomes_30 rfl rfl ?_
        refine v_iload_n ok 2 dX7_becomes_31 rfl rfl ?_
        refine v_cVi ok (RX7, TX7, 117) cf_7.1 [vi x1, vi x2] (F := fun a => X7_canPaint a x1 x2 h22) (fun a v h1 _ hv => M_X7_canPaint ok.2.2.2.2.2.2.1 (d := 3) (Nat.le_refl _) hv) (by exact Nat.le_trans (by decide) hd) cw_X7_canPaint q2540 q2542 qs143 dX7_becomes_32 [] rfl (Nat.le_of_ble_eq_true rfl) hf (fun v23 h24 hf => ?_)
        refine v_if_ne ok 40 dX7_becomes_35 rfl hf (fun hf => ?_) (fun hf => ?_)
        ·
          refine v_aload_n ok 0 dX7_becomes_40 rfl rfl ?_
          refine v_iload_n ok 1 dX7_becomes_41 rfl rfl ?_
          refine v_cVi ok (RX7, TX7, 117) cf_7.1 [vi x1] (F := fun a => X7_longOf a x1 h24) (fun a v h1 _ hv => M_X7_longOf ok.2.2.2.2.2.2.1 (d := 1) (Nat.le_refl _) hv) (by exact Nat.le_trans (by decide) hd) cw_X7_longOf q2337 q2339 qs109 dX7_becomes_42 [] rfl (Nat.le_of_ble_eq_true rfl) hf (fun v25 h26 hf => ?_)
          refine v_istore ok dX7_becomes_45 (by decide) ?_
          refine v_iconst ok 0 dX7_becomes_47 rfl ?_
          refine v_istore ok dX7_becomes_48 (by decide) ?_
          exact W_X7_becomes_50 ok hr hd hf hk ⟨rfl, rfl, rfl, rfl, rfl, rfl, trivial⟩
        ·
          refine v_iconst ok (-1) dX7_becomes_38 rfl ?_
          exact v_iret ok hr (by cases hf; exact hk) dX7_becomes_39
theorem M_X7_becomes {G : GT} {l : Launch} (hG : Glob G) {d : Nat} (hd : 8 ≤ d) {a0 : Nat} {x1 : Int32} {x2 : Int32} {x3 : Int32} {h : AH} {v : Int32} {h' : AH} (hf : X7_becomes a0 x1 x2 x3 h = some (v, h')) : MM G l yX7_becomes cX7_becomes 7 (Option.some Jvm.ClassFile.FieldType.int) d [vr (some a0), vi x1, vi x2, vi x3] h (some (vi v)) h' := by
  refine mm_of hG (plainFor_of_name (by decide)) (Nat.le_of_ble_eq_true rfl) (fun X hX ok hr hnm => ?_)
  subst hX
  exact W_X7_becomes ok hr hd hf rfl ⟨rfl, rfl, rfl, rfl, trivial⟩
theorem cw_X7_areWords : CW yX7_areWords cX7_areWords 3 (Option.some Jvm.ClassFile.FieldType.boolean) 2 := ⟨q2555, q185, ⟨by decide, by decide⟩, by decide +kernel, by decide⟩
theorem W_X7_areWords {G : GT} {X : CX} {d : Nat} {h0 : AH} {Q : State → Prop} (ok : Ok G X RX7 cX7_areWords 3 d h0) (hr : (cxm X).sig.returnType = (Option.some Jvm.ClassFile.FieldType.boolean)) (hd : 3 ≤ d) {a0 : Nat} {x1 : Int32} {x2 : Int32} {h : AH} {z : (Int32 × AH)} (hf : X7_areWords a0 x1 x2 h = some z) (hk : Q = QM G X h0 (some (vi z.1)) z.2) {lv : List (Nat × AV)} (hl : lle lv [(0, vr (some a0)), (1, vi x1), (2, vi x2)]) : V G X 3 h0 Q h 0 lv [] := by
  refine V.sub hl ?_
  unfold X7_areWords at hf
  refine v_aload_n ok 0 dX7_areWords_0 rfl rfl ?_
  refine v_iload_n ok 1 dX7_areWords_1 rfl rfl ?_
  refine v_i2l ok dX7_areWords_2 ?_
  refine v_cVi ok (RX7, TX7, 117) cf_7.1 [vl (Int32.toInt64 x1)] (F := fun a => X7_isWord a (Int32.toInt64 x1) h) (fun a v h1 _ hv => M_X7_isWord ok.2.2.2.2.2.2.1 (d := 2) (Nat.le_refl _) hv) (by exact Nat.le_trans (by decide) hd) cw_X7_isWord q2400 q2402 qs120 dX7_areWords_3 [] rfl (Nat.le_of_ble_eq_true rfl) hf (fun v1 h2 hf => ?_)
  refine v_if_eq ok 22 dX7_areWords_6 rfl hf (fun hf => ?_) (fun hf => ?_)
  ·
    refine v_iconst ok 0 dX7_areWords_22 rfl ?_
    exact v_zretL ok hr (by decide) (by decide) (by cases hf; exact hk) dX7_areWords_23
  ·
    refine v_aload_n ok 0 dX7_areWords_9 rfl rfl ?_
    refine v_iload_n ok 2 dX7_areWords_10 rfl rfl ?_
    refine v_i2l ok dX7_areWords_11 ?_
    refine v_cVi ok (RX7, TX7, 117) cf_7.1 [vl (Int32.toInt64 x2)] (F := fun a => X7_isWord a (Int32.toInt64 x2) h2) (fun a v h1 _ hv => M_X7_isWord ok.2.2.2.2.2.2.1 (d := 2) (Nat.le_refl _) hv) (by exact Nat.le_trans (by decide) hd) cw_X7_isWord q2400 q2402 qs120 dX7_areWords_12 [] rfl (Nat.le_of_ble_eq_true rfl) hf (fun v3 h4 hf => ?_)
    refine v_if_eq ok 22 dX7_areWords_15 rfl hf (fun hf => ?_) (fun hf => ?_)
    ·
      refine v_iconst ok 0 dX7_areWords_22 rfl ?_
      exact v_zretL ok hr (by decide) (by decide) (by cases hf; exact hk) dX7_areWords_23
    ·
      refine v_iconst ok 1 dX7_areWords_18 rfl ?_
      refine v_goto ok 23 dX7_areWords_19 rfl ?_
      exact v_zretL ok hr (by decide) (by decide) (by cases hf; exact hk) dX7_areWords_23
theorem M_X7_areWords {G : GT} {l : Launch} (hG : Glob G) {d : Nat} (hd : 3 ≤ d) {a0 : Nat} {x1 : Int32} {x2 : Int32} {h : AH} {v : Int32} {h' : AH} (hf : X7_areWords a0 x1 x2 h = some (v, h')) : MM G l yX7_areWords cX7_areWords 3 (Option.some Jvm.ClassFile.FieldType.boolean) d [vr (some a0), vi x1, vi x2] h (some (vi v)) h' := by
  refine mm_of hG (plainFor_of_name (by decide)) (Nat.le_of_ble_eq_true rfl) (fun X hX ok hr hnm => ?_)
  subst hX
  exact W_X7_areWords ok hr hd hf rfl ⟨rfl, rfl, rfl, trivial⟩
theorem cw_X7_glyphBy : CW yX7_glyphBy cX7_glyphBy 3 (Option.some Jvm.ClassFile.FieldType.int) 3 := ⟨q2574, q185, ⟨by decide, by decide⟩, by decide +kernel, by decide⟩
theorem W_X7_glyphBy_48 {G : GT} {X : CX} {d : Nat} {h0 : AH} {Q : State → Prop} (ok : Ok G X RX7 cX7_glyphBy 3 d h0) (hr : (cxm X).sig.returnType = (Option.some Jvm.ClassFile.FieldType.int)) (hd : 1 ≤ d) {x1 : Int32} {x2 : Int32} {h : AH} {z : (Int32 × AH)} (hf : X7_glyphBy_48 x1 x2 h = some z) (hk : Q = QM G X h0 (some (vi z.1)) z.2) {lv : List (Nat × AV)} (hl : lle lv [(1, vi x1), (2, vi x2)]) : V G X 3 h0 Q h 48 lv [] := by
  refine V.sub hl ?_
  unfold X7_glyphBy_48 at hf
  refine v_iload_n ok 1 dX7_glyphBy_48 rfl rfl ?_
  refine v_iload_n ok 2 dX7_glyphBy_49 rfl rfl ?_
  refine v_iand ok dX7_glyphBy_50 ?_
  exact v_iret ok hr (by cases hf; exact hk) dX7_glyphBy_51
theorem W_X7_glyphBy {G : GT} {X : CX} {d : Nat} {h0 : AH} {Q : State → Prop} (ok : Ok G X RX7 cX7_glyphBy 3 d h0) (hr : (cxm X).sig.returnType = (Option.some Jvm.ClassFile.FieldType.int)) (hd : 1 ≤ d) {x0 : Int32} {x1 : Int32} {x2 : Int32} {h : AH} {z : (Int32 × AH)} (hf : X7_glyphBy x0 x1 x2 h = some z) (hk : Q = QM G X h0 (some (vi z.1)) z.2) {lv : List (Nat × AV)} (hl : lle lv [(0, vi x0), (1, vi x1), (2, vi x2)]) : V G X 3 h0 Q h 0 lv [] := by
  refine V.sub hl ?_
  unfold X7_glyphBy at hf
  refine v_iload_n ok 0 dX7_glyphBy_0 rfl rfl ?_
  refine sw_if (v := 0) hf (fun e_ hf => ?_) (fun n1 hf => ?_)
  ·
    refine v_tableIn ok 0 40 dX7_glyphBy_1 e_ (by decide) (by decide) rfl rfl ?_
    refine v_iload_n ok 1 dX7_glyphBy_40 rfl rfl ?_
    exact v_iret ok hr (by cases hf; exact hk) dX7_glyphBy_41
  ·
    refine sw_if (v := 1) hf (fun e_ hf => ?_) (fun n2 hf => ?_)
    ·
      refine v_tableIn ok 1 42 dX7_glyphBy_1 e_ (by decide) (by decide) rfl rfl ?_
      refine v_iload_n ok 2 dX7_glyphBy_42 rfl rfl ?_
      exact v_iret ok hr (by cases hf; exact hk) dX7_glyphBy_43
    ·
      refine sw_if (v := 2) hf (fun e_ hf => ?_) (fun n3 hf => ?_)
      ·
        refine v_tableIn ok 2 44 dX7_glyphBy_1 e_ (by decide) (by decide) rfl rfl ?_
        refine v_iload_n ok 1 dX7_glyphBy_44 rfl rfl ?_
        refine v_iload_n ok 2 dX7_glyphBy_45 rfl rfl ?_
        refine v_ior ok dX7_glyphBy_46 ?_
        exact v_iret ok hr (by cases hf; exact hk) dX7_glyphBy_47
      ·
        refine sw_if (v := 3) hf (fun e_ hf => ?_) (fun n4 hf => ?_)
        ·
          refine v_tableIn ok 3 48 dX7_glyphBy_1 e_ (by decide) (by decide) rfl rfl ?_
          exact W_X7_glyphBy_48 ok hr hd hf hk ⟨rfl, rfl, trivial⟩
        ·
          refine sw_if (v := 4) hf (fun e_ hf => ?_) (fun n5 hf => ?_)
          ·
            refine v_tableIn ok 4 40 dX7_glyphBy_1 e_ (by decide) (by decide) rfl rfl ?_
            refine v_iload_n ok 1 dX7_glyphBy_40 rfl rfl ?_
            exact v_iret ok hr (by cases hf; exact hk) dX7_glyphBy_41
          ·
            refine sw_if (v := 5) hf (fun e_ hf => ?_) (fun n6 hf => ?_)
            ·
              refine v_tableIn ok 5 42 dX7_glyphBy_1 e_ (by decide) (by decide) rfl rfl ?_
              refine v_iload_n ok 2 dX7_glyphBy_42 rfl rfl ?_
              exact v_iret ok hr (by cases hf; exact hk) dX7_glyphBy_43
            ·
              have n1 := ne_toI 0 (by decide) n1
              have n2 := ne_toI 1 (by decide) n2
              have n3 := ne_toI 2 (by decide) n3
              have n4 := ne_toI 3 (by decide) n4
              have n5 := ne_toI 4 (by decide) n5
              have n6 := ne_toI 5 (by decide) n6
              refine v_tableOut ok 48 dX7_glyphBy_1 (by omega) rfl ?_
              exact W_X7_glyphBy_48 ok hr hd hf hk ⟨rfl, rfl, trivial⟩
theorem M_X7_glyphBy {G : GT} {l : Launch} (hG : Glob G) {d : Nat} (hd : 1 ≤ d) {x0 : Int32} {x1 : Int32} {x2 : Int32} {h : AH} {v : Int32} {h' : AH} (hf : X7_glyphBy x0 x1 x2 h = some (v, h')) : MM G l yX7_glyphBy cX7_glyphBy 3 (Option.some Jvm.ClassFile.FieldType.int) d [vi x0, vi x1, vi x2] h (some (vi v)) h' := by
  refine mm_of hG (plainFor_of_name (by decide)) (Nat.le_of_ble_eq_true rfl) (fun X hX ok hr hnm => ?_)
  subst hX
  exact W_X7_glyphBy ok hr hd hf rfl ⟨rfl, rfl, rfl, trivial⟩
theorem cw_X7_bothDoubt : CW yX7_bothDoubt cX7_bothDoubt 7 (Option.some Jvm.ClassFile.FieldType.int) 4 := ⟨q2578, q185, ⟨by decide, by decide⟩, by decide +kernel, by decide⟩
theorem W_X7_bothDoubt {G : GT} {X : CX} {d : Nat} {h0 : AH} {Q : State → Prop} (ok : Ok G X RX7 cX7_bothDoubt 7 d h0) (hr : (cxm X).sig.returnType = (Option.some Jvm.ClassFile.FieldType.int)) (hd : 7 ≤ d) {a0 : Nat} {x1 : Int32} {x2 : Int32} {x3 : Int32} {x4 : Int32} {h : AH} {z : (Int32 × AH)} (hf : X7_bothDoubt a0 x1 x2 x3 x4 h = some z) (hk : Q = QM G X h0 (some (vi z.1)) z.2) {lv : List (Nat × AV)} (hl : lle lv [(0, vr (some a0)), (1, vi x1), (2, vi x2), (3, vi x3), (4, vi x4)]) : V G X 7 h0 Q h 0 lv [] := by
  refine V.sub hl ?_
  unfold X7_bothDoubt at hf
  refine v_aload_n ok 0 dX7_bothDoubt_0 rfl rfl ?_
  refine v_iload_n ok 1 dX7_bothDoubt_1 rfl rfl ?_
  refine v_iload_n ok 2 dX7_bothDoubt_2 rfl rfl ?_
  refine v_iload ok dX7_bothDoubt_3 rfl ?_
  refine v_cVi ok (RX7, TX7, 117) cf_7.1 [vi x1, vi x2, vi x4] (F := fun a => X7_doubtOf a x1 x2 x4 h) (fun a v h1 _ hv => M_X7_doubtOf ok.2.2.2.2.2.2.1 (d := 6) (Nat.le_refl _) hv) (by exact Nat.le_trans (by decide) hd) cw_X7_doubtOf q2451 q2453 qs126 dX7_bothDoubt_5 [] rfl (Nat.le_of_ble_eq_true rfl) hf (fun v1 h2 hf => ?_)
  refine v_istore ok dX7_bothDoubt_8 (by decide) ?_
  refine v_aload_n ok 0 dX7_bothDoubt_10 rfl rfl ?_
  refine v_iload_n ok 1 dX7_bothDoubt_11 rfl rfl ?_
  refine v_iload_n ok 3 dX7_bothDoubt_12 rfl rfl ?_
  refine v_iload ok dX7_bothDoubt_13 rfl ?_
  refine v_iconst ok 1 dX7_bothDoubt_15 rfl ?_
  refine v_cSi ok [vi x4, vi 1] (F := X7_seenBy x4 1 h2) (fun v h1 hv => M_X7_seenBy ok.2.2.2.2.2.2.1 (d := 1) (Nat.le_refl _) hv) (by exact Nat.le_trans (by decide) hd) cw_X7_seenBy q2444 q2445 dX7_bothDoubt_16 [vi x3, vi x1, vr (some a0)] rfl (Nat.le_of_ble_eq_true rfl) hf (fun v3 h4 hf => ?_)
  refine v_cVi ok (RX7, TX7, 117) cf_7.1 [vi x1, vi x3, vi v3] (F := fun a => X7_doubtOf a x1 x3 v3 h4) (fun a v h1 _ hv => M_X7_doubtOf ok.2.2.2.2.2.2.1 (d := 6) (Nat.le_refl _) hv) (by exact Nat.le_trans (by decide) hd) cw_X7_doubtOf q2451 q2453 qs126 dX7_bothDoubt_19 [] rfl (Nat.le_of_ble_eq_true rfl) hf (fun v5 h6 hf => ?_)
  refine v_istore ok dX7_bothDoubt_22 (by decide) ?_
  refine v_iload ok dX7_bothDoubt_24 rfl ?_
  refine v_aload_n ok 0 dX7_bothDoubt_26 rfl rfl ?_
  refine v_gR ok fl_X7_120 (by first | exact Or.inl ⟨_, rfl⟩ | exact Or.inr ⟨_, rfl⟩) dX7_bothDoubt_27 hf (fun v7 hf => ?_)
  refine v_iconst ok 3 dX7_bothDoubt_30 rfl ?_
  refine v_iald ok rfl dX7_bothDoubt_31 hf (fun v8 hf => ?_)
  refine v_icmp_gt ok 46 dX7_bothDoubt_32 rfl hf (fun hf => ?_) (fun hf => ?_)
  ·
    refine v_iconst ok (-1) dX7_bothDoubt_46 rfl ?_
    refine v_goto ok 55 dX7_bothDoubt_47 rfl ?_
    exact v_iret ok hr (by cases hf; exact hk) dX7_bothDoubt_55
  ·
    refine v_iload ok dX7_bothDoubt_35 rfl ?_
    refine v_aload_n ok 0 dX7_bothDoubt_37 rfl rfl ?_
    refine v_gR ok fl_X7_120 (by first | exact Or.inl ⟨_, rfl⟩ | exact Or.inr ⟨_, rfl⟩) dX7_bothDoubt_38 hf (fun v9 hf => ?_)
    refine v_iconst ok 3 dX7_bothDoubt_41 rfl ?_
    refine v_iald ok rfl dX7_bothDoubt_42 hf (fun v10 hf => ?_)
    refine v_icmp_le ok 50 dX7_bothDoubt_43 rfl hf (fun hf => ?_) (fun hf => ?_)
    ·
      refine v_iload ok dX7_bothDoubt_50 rfl ?_
      refine v_iload ok dX7_bothDoubt_52 rfl ?_
      refine v_iadd ok dX7_bothDoubt_54 ?_
      exact v_iret ok hr (by cases hf; exact hk) dX7_bothDoubt_55
    ·
      refine v_iconst ok (-1) dX7_bothDoubt_46 rfl ?_
      refine v_goto ok 55 dX7_bothDoubt_47 rfl ?_
      exact v_iret ok hr (by cases hf; exact hk) dX7_bothDoubt_55
theorem M_X7_bothDoubt {G : GT} {l : Launch} (hG : Glob G) {d : Nat} (hd : 7 ≤ d) {a0 : Nat} {x1 : Int32} {x2 : Int32} {x3 : Int32} {x4 : Int32} {h : AH} {v : Int32} {h' : AH} (hf : X7_bothDoubt a0 x1 x2 x3 x4 h = some (v, h')) : MM G l yX7_bothDoubt cX7_bothDoubt 7 (Option.some Jvm.ClassFile.FieldType.int) d [vr (some a0), vi x1, vi x2, vi x3, vi x4] h (some (vi v)) h' := by
  refine mm_of hG (plainFor_of_name (by decide)) (Nat.le_of_ble_eq_true rfl) (fun X hX ok hr hnm => ?_)
  subst hX
  exact W_X7_bothDoubt ok hr hd hf rfl ⟨rfl, rfl, rfl, rfl, rfl, trivial⟩
theorem cw_X7_oneAt : CW yX7_oneAt cX7_oneAt 4 (Option.some Jvm.ClassFile.FieldType.int) 3 := ⟨q2567, q185, ⟨by decide, by decide⟩, by decide +kernel, by decide⟩
theorem W_X7_oneAt {G : GT} {X : CX} {d : Nat} {h0 : AH} {Q : State → Prop} (ok : Ok G X RX7 cX7_oneAt 4 d h0) (hr : (cxm X).sig.returnType = (Option.some Jvm.ClassFile.FieldType.int)) (hd : 3 ≤ d) {a0 : Nat} {x1 : Int32} {x2 : Int32} {x3 : Int32} {h : AH} {z : (Int32 × AH)} (hf : X7_oneAt a0 x1 x2 x3 h = some z) (hk : Q = QM G X h0 (some (vi z.1)) z.2) {lv : List (Nat × AV)} (hl : lle lv [(0, vr (some a0)), (1, vi x1), (2, vi x2), (3, vi x3)]) : V G X 4 h0 Q h 0 lv [] := by
  refine V.sub hl ?_
  unfold X7_oneAt at hf
  refine v_iload_n ok 3 dX7_oneAt_0 rfl rfl ?_
  refine v_aload_n ok 0 dX7_oneAt_1 rfl rfl ?_
  refine v_iload_n ok 1 dX7_oneAt_2 rfl rfl ?_
  refine v_cVi ok (RX7, TX7, 117) cf_7.1 [vi x1] (F := fun a => X7_longOf a x1 h) (fun a v h1 _ hv => M_X7_longOf ok.2.2.2.2.2.2.1 (d := 1) (Nat.le_refl _) hv) (by exact Nat.le_trans (by decide) hd) cw_X7_longOf q2337 q2339 qs109 dX7_oneAt_3 [vi x3] rfl (Nat.le_of_ble_eq_true rfl) hf (fun v1 h2 hf => ?_)
  refine v_icmp_ge ok 23 dX7_oneAt_6 rfl hf (fun hf => ?_) (fun hf => ?_)
  ·
    refine v_iconst ok (-1) dX7_oneAt_23 rfl ?_
    exact v_iret ok hr (by cases hf; exact hk) dX7_oneAt_24
  ·
    refine v_aload_n ok 0 dX7_oneAt_9 rfl rfl ?_
    refine v_iload_n ok 2 dX7_oneAt_10 rfl rfl ?_
    refine v_aload_n ok 0 dX7_oneAt_11 rfl rfl ?_
    refine v_iload_n ok 1 dX7_oneAt_12 rfl rfl ?_
    refine v_iload_n ok 3 dX7_oneAt_13 rfl rfl ?_
    refine v_cVi ok (RX7, TX7, 117) cf_7.1 [vi x1, vi x3] (F := fun a => X7_letterOf a x1 x3 h2) (fun a v h1 _ hv => M_X7_letterOf ok.2.2.2.2.2.2.1 (d := 1) (Nat.le_refl _) hv) (by exact Nat.le_trans (by decide) hd) cw_X7_letterOf q2341 q2343 qs110 dX7_oneAt_14 [vi x2, vr (some a0)] rfl (Nat.le_of_ble_eq_true rfl) hf (fun v3 h4 hf => ?_)
    refine v_cVi ok (RX7, TX7, 117) cf_7.1 [vi x2, vi v3] (F := fun a => X7_letterAt a x2 v3 h4) (fun a v h1 _ hv => M_X7_letterAt ok.2.2.2.2.2.2.1 (d := 2) (Nat.le_refl _) hv) (by exact Nat.le_trans (by decide) hd) cw_X7_letterAt q2345 q2347 qs111 dX7_oneAt_17 [] rfl (Nat.le_of_ble_eq_true rfl) hf (fun v5 h6 hf => ?_)
    refine v_goto ok 24 dX7_oneAt_20 rfl ?_
    exact v_iret ok hr (by cases hf; exact hk) dX7_oneAt_24
theorem M_X7_oneAt {G : GT} {l : Launch} (hG : Glob G) {d : Nat} (hd : 3 ≤ d) {a0 : Nat} {x1 : Int32} {x2 : Int32} {x3 : Int32} {h : AH} {v : Int32} {h' : AH} (hf : X7_oneAt a0 x1 x2 x3 h = some (v, h')) : MM G l yX7_oneAt cX7_oneAt 4 (Option.some Jvm.ClassFile.FieldType.int) d [vr (some a0), vi x1, vi x2, vi x3] h (some (vi v)) h' := by
  refine mm_of hG (plainFor_of_name (by decide)) (Nat.le_of_ble_eq_true rfl) (fun X hX ok hr hnm => ?_)
  subst hX
  exact W_X7_oneAt ok hr hd hf rfl ⟨rfl, rfl, rfl, rfl, trivial⟩
