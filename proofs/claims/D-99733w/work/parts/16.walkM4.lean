set_option maxRecDepth 100000
theorem cw_X7_strokeMany : CW yX7_strokeMany cX7_strokeMany 4 (Option.some Jvm.ClassFile.FieldType.int) 0 := ⟨q2376, q185, ⟨by decide, by decide⟩, by decide +kernel, by decide⟩
def pkX7_strokeMany_4 (G : GT) (X : CX) (h0 : AH) (Q : State → Prop) (a0 : Nat) (o : ((Int32 × Int32 × AH) ⊕ (Int32 × AH))) : Prop := match o with
  | .inl s => ∀ lv : List (Nat × AV), lle lv [(0, vr (some a0)), (1, vi s.1), (2, vi s.2.1)] → V G X 4 h0 Q s.2.2 4 lv []
  | .inr z => Q = QM G X h0 (some (vi z.1)) z.2
def pkX7_strokeMany_14 (G : GT) (X : CX) (h0 : AH) (Q : State → Prop) (a0 : Nat) (x2 : Int32) (o : ((Int32 × Int32 × AH) ⊕ ((Int32 × Int32 × AH) ⊕ (Int32 × AH)))) : Prop := match o with
  | .inl s => ∀ lv : List (Nat × AV), lle lv [(0, vr (some a0)), (1, vi s.1), (2, vi x2), (3, vi s.2.1)] → V G X 4 h0 Q s.2.2 14 lv []
  | .inr z => pkX7_strokeMany_4 G X h0 Q a0 z
theorem W_X7_strokeMany_14b {G : GT} {X : CX} {d : Nat} {h0 : AH} {Q : State → Prop} (ok : Ok G X RX7 cX7_strokeMany 4 d h0) (hr : (cxm X).sig.returnType = (Option.some Jvm.ClassFile.FieldType.int)) (hd : 2 ≤ d) {a0 : Nat} {x2 : Int32} {x1 : Int32} {x3 : Int32} {h : AH} {z : ((Int32 × Int32 × AH) ⊕ ((Int32 × Int32 × AH) ⊕ (Int32 × AH)))} (hf : X7_strokeMany_14b  a0 x2 x1 x3 h = some z) (hk : pkX7_strokeMany_14 G X h0 Q a0 x2 z) {lv : List (Nat × AV)} (hl : lle lv [(0, vr (some a0)), (1, vi x1), (2, vi x2), (3, vi x3)]) : V G X 4 h0 Q h 14 lv [] := by
  refine V.sub hl ?_
  unfold X7_strokeMany_14b at hf
  refine v_iload_n ok 3 dX7_strokeMany_14 rfl rfl ?_
  refine v_bipush ok 6 dX7_strokeMany_15 rfl ?_
  refine v_icmp_ge ok 38 dX7_strokeMany_17 rfl hf (fun hf => ?_) (fun hf => ?_)
  ·
    refine v_iinc ok x2 (x2 + 1) dX7_strokeMany_38 rfl rfl (by decide) ?_
    refine v_goto ok 4 dX7_strokeMany_41 rfl ?_
    cases hf; exact hk _ ⟨rfl, rfl, rfl, trivial⟩
  ·
    refine v_iload_n ok 1 dX7_strokeMany_20 rfl rfl ?_
    refine v_aload_n ok 0 dX7_strokeMany_21 rfl rfl ?_
    refine v_iload_n ok 2 dX7_strokeMany_22 rfl rfl ?_
    refine v_iload_n ok 3 dX7_strokeMany_23 rfl rfl ?_
    refine v_cVi ok (RX7, TX7, 117) cf_7.1 [vi x2, vi x3] (F := fun a => X7_glyphAt a x2 x3 h) (fun a v h1 _ hv => M_X7_glyphAt ok.2.2.2.2.2.2.1 (d := 1) (Nat.le_refl _) hv) (by exact Nat.le_trans (by decide) hd) cw_X7_glyphAt q2377 q2379 qs117 dX7_strokeMany_24 [vi x1] rfl (Nat.le_of_ble_eq_true rfl) hf (fun v1 h2 hf => ?_)
    refine v_cSi ok [vi v1] (F := X7_bits v1 h2) (fun v h1 hv => M_X7_bits ok.2.2.2.2.2.2.1 (d := 1) (Nat.le_refl _) hv) (by exact Nat.le_trans (by decide) hd) cw_X7_bits q2381 q2382 dX7_strokeMany_27 [vi x1] rfl (Nat.le_of_ble_eq_true rfl) hf (fun v3 h4 hf => ?_)
    refine v_iadd ok dX7_strokeMany_30 ?_
    refine v_istore_n ok 1 dX7_strokeMany_31 rfl (by decide) ?_
    refine v_iinc ok x3 (x3 + 1) dX7_strokeMany_32 rfl rfl (by decide) ?_
    refine v_goto ok 14 dX7_strokeMany_35 rfl ?_
    cases hf; exact hk _ ⟨rfl, rfl, rfl, rfl, trivial⟩
theorem W_X7_strokeMany_14 {G : GT} {X : CX} {d : Nat} {h0 : AH} {Q : State → Prop} (ok : Ok G X RX7 cX7_strokeMany 4 d h0) (hr : (cxm X).sig.returnType = (Option.some Jvm.ClassFile.FieldType.int)) (hd : 2 ≤ d) {a0 : Nat} {x1 : Int32} {x2 : Int32} {x3 : Int32} {h : AH} {z : ((Int32 × Int32 × AH) ⊕ (Int32 × AH))} (hf : X7_strokeMany_14  a0 x1 x2 x3 h = some z) (hk : pkX7_strokeMany_4 G X h0 Q a0 z) {lv : List (Nat × AV)} (hl : lle lv [(0, vr (some a0)), (1, vi x1), (2, vi x2), (3, vi x3)]) : V G X 4 h0 Q h 14 lv [] := by
  unfold X7_strokeMany_14 at hf
  exact loopC_walk (Wh := fun s : Int32 × Int32 × AH => ∀ lv : List (Nat × AV), lle lv [(0, vr (some a0)), (1, vi s.1), (2, vi x2), (3, vi s.2.1)] → V G X 4 h0 Q s.2.2 14 lv []) (PK := fun z => pkX7_strokeMany_4 G X h0 Q a0 z) (fun s o hf hk lv hl => W_X7_strokeMany_14b ok hr hd hf (by cases o <;> exact hk) hl) _ z hf hk lv hl
theorem W_X7_strokeMany_4b {G : GT} {X : CX} {d : Nat} {h0 : AH} {Q : State → Prop} (ok : Ok G X RX7 cX7_strokeMany 4 d h0) (hr : (cxm X).sig.returnType = (Option.some Jvm.ClassFile.FieldType.int)) (hd : 2 ≤ d) {a0 : Nat} {x1 : Int32} {x2 : Int32} {h : AH} {z : ((Int32 × Int32 × AH) ⊕ (Int32 × AH))} (hf : X7_strokeMany_4b  a0 x1 x2 h = some z) (hk : pkX7_strokeMany_4 G X h0 Q a0 z) {lv : List (Nat × AV)} (hl : lle lv [(0, vr (some a0)), (1, vi x1), (2, vi x2)]) : V G X 4 h0 Q h 4 lv [] := by
  refine V.sub hl ?_
  unfold X7_strokeMany_4b at hf
  refine v_iload_n ok 2 dX7_strokeMany_4 rfl rfl ?_
  refine v_aload_n ok 0 dX7_strokeMany_5 rfl rfl ?_
  refine v_cVi ok (RX7, TX7, 117) cf_7.1 [] (F := fun a => X7_boardMany a h) (fun a v h1 _ hv => M_X7_boardMany ok.2.2.2.2.2.2.1 (d := 1) (Nat.le_refl _) hv) (by exact Nat.le_trans (by decide) hd) cw_X7_boardMany q2369 q2371 qs115 dX7_strokeMany_6 [vi x2] rfl (Nat.le_of_ble_eq_true rfl) hf (fun v5 h6 hf => ?_)
  refine v_icmp_ge ok 44 dX7_strokeMany_9 rfl hf (fun hf => ?_) (fun hf => ?_)
  ·
    refine v_iload_n ok 1 dX7_strokeMany_44 rfl rfl ?_
    exact v_iret ok hr (by cases hf; exact hk) dX7_strokeMany_45
  ·
    refine v_iconst ok 0 dX7_strokeMany_12 rfl ?_
    refine v_istore_n ok 3 dX7_strokeMany_13 rfl (by decide) ?_
    exact W_X7_strokeMany_14 ok hr hd hf hk ⟨rfl, rfl, rfl, rfl, trivial⟩
theorem W_X7_strokeMany_4 {G : GT} {X : CX} {d : Nat} {h0 : AH} {Q : State → Prop} (ok : Ok G X RX7 cX7_strokeMany 4 d h0) (hr : (cxm X).sig.returnType = (Option.some Jvm.ClassFile.FieldType.int)) (hd : 2 ≤ d) {a0 : Nat} {x1 : Int32} {x2 : Int32} {h : AH} {z : (Int32 × AH)} (hf : X7_strokeMany_4  a0 x1 x2 h = some z) (hk : Q = QM G X h0 (some (vi z.1)) z.2) {lv : List (Nat × AV)} (hl : lle lv [(0, vr (some a0)), (1, vi x1), (2, vi x2)]) : V G X 4 h0 Q h 4 lv [] := by
  unfold X7_strokeMany_4 at hf
  exact loopC_walk (Wh := fun s : Int32 × Int32 × AH => ∀ lv : List (Nat × AV), lle lv [(0, vr (some a0)), (1, vi s.1), (2, vi s.2.1)] → V G X 4 h0 Q s.2.2 4 lv []) (PK := fun z => Q = QM G X h0 (some (vi z.1)) z.2) (fun s o hf hk lv hl => W_X7_strokeMany_4b ok hr hd hf (by cases o <;> exact hk) hl) _ z hf hk lv hl
theorem W_X7_strokeMany {G : GT} {X : CX} {d : Nat} {h0 : AH} {Q : State → Prop} (ok : Ok G X RX7 cX7_strokeMany 4 d h0) (hr : (cxm X).sig.returnType = (Option.some Jvm.ClassFile.FieldType.int)) (hd : 2 ≤ d) {a0 : Nat} {h : AH} {z : (Int32 × AH)} (hf : X7_strokeMany a0 h = some z) (hk : Q = QM G X h0 (some (vi z.1)) z.2) {lv : List (Nat × AV)} (hl : lle lv [(0, vr (some a0))]) : V G X 4 h0 Q h 0 lv [] := by
  refine V.sub hl ?_
  unfold X7_strokeMany at hf
  refine v_iconst ok 0 dX7_strokeMany_0 rfl ?_
  refine v_istore_n ok 1 dX7_strokeMany_1 rfl (by decide) ?_
  refine v_iconst ok 0 dX7_strokeMany_2 rfl ?_
  refine v_istore_n ok 2 dX7_strokeMany_3 rfl (by decide) ?_
  exact W_X7_strokeMany_4 ok hr hd hf hk ⟨rfl, rfl, rfl, trivial⟩
theorem M_X7_strokeMany {G : GT} {l : Launch} (hG : Glob G) {d : Nat} (hd : 2 ≤ d) {a0 : Nat} {h : AH} {v : Int32} {h' : AH} (hf : X7_strokeMany a0 h = some (v, h')) : MM G l yX7_strokeMany cX7_strokeMany 4 (Option.some Jvm.ClassFile.FieldType.int) d [vr (some a0)] h (some (vi v)) h' := by
  refine mm_of hG (plainFor_of_name (by decide)) (Nat.le_of_ble_eq_true rfl) (fun X hX ok hr hnm => ?_)
  subst hX
  exact W_X7_strokeMany ok hr hd hf rfl ⟨rfl, trivial⟩
theorem cw_X7_wordMany : CW yX7_wordMany cX7_wordMany 1 (Option.some Jvm.ClassFile.FieldType.int) 0 := ⟨q2368, q185, ⟨by decide, by decide⟩, by decide +kernel, by decide⟩
theorem W_X7_wordMany {G : GT} {X : CX} {d : Nat} {h0 : AH} {Q : State → Prop} (ok : Ok G X RX7 cX7_wordMany 1 d h0) (hr : (cxm X).sig.returnType = (Option.some Jvm.ClassFile.FieldType.int)) (hd : 1 ≤ d) {a0 : Nat} {h : AH} {z : (Int32 × AH)} (hf : X7_wordMany a0 h = some z) (hk : Q = QM G X h0 (some (vi z.1)) z.2) {lv : List (Nat × AV)} (hl : lle lv [(0, vr (some a0))]) : V G X 1 h0 Q h 0 lv [] := by
  refine V.sub hl ?_
  unfold X7_wordMany at hf
  refine v_aload_n ok 0 dX7_wordMany_0 rfl rfl ?_
  refine v_gI ok fl_X7_392 (fun _ _ _ => rfl) dX7_wordMany_1 hf (fun v1 hf => ?_)
  exact v_iret ok hr (by cases hf; exact hk) dX7_wordMany_4
theorem M_X7_wordMany {G : GT} {l : Launch} (hG : Glob G) {d : Nat} (hd : 1 ≤ d) {a0 : Nat} {h : AH} {v : Int32} {h' : AH} (hf : X7_wordMany a0 h = some (v, h')) : MM G l yX7_wordMany cX7_wordMany 1 (Option.some Jvm.ClassFile.FieldType.int) d [vr (some a0)] h (some (vi v)) h' := by
  refine mm_of hG (plainFor_of_name (by decide)) (Nat.le_of_ble_eq_true rfl) (fun X hX ok hr hnm => ?_)
  subst hX
  exact W_X7_wordMany ok hr hd hf rfl ⟨rfl, trivial⟩
theorem cw_X7_has : CW yX7_has cX7_has 2 (Option.some Jvm.ClassFile.FieldType.int) 1 := ⟨q2364, q185, ⟨by decide, by decide⟩, by decide +kernel, by decide⟩
theorem W_X7_has_48 {G : GT} {X : CX} {d : Nat} {h0 : AH} {Q : State → Prop} (ok : Ok G X RX7 cX7_has 2 d h0) (hr : (cxm X).sig.returnType = (Option.some Jvm.ClassFile.FieldType.int)) (hd : 3 ≤ d) {a0 : Nat} {x1 : Int32} {h : AH} {z : (Int32 × AH)} (hf : X7_has_48 a0 x1 h = some z) (hk : Q = QM G X h0 (some (vi z.1)) z.2) {lv : List (Nat × AV)} (hl : lle lv [(0, vr (some a0)), (1, vi x1)]) : V G X 2 h0 Q h 48 lv [] := by
  refine V.sub hl ?_
  unfold X7_has_48 at hf
  refine v_aload_n ok 0 dX7_has_48 rfl rfl ?_
  refine v_gR ok fl_X7_108 (by first | exact Or.inl ⟨_, rfl⟩ | exact Or.inr ⟨_, rfl⟩) dX7_has_49 hf (fun v1 hf => ?_)
  refine v_iconst ok 2 dX7_has_52 rfl ?_
  refine v_iload_n ok 1 dX7_has_53 rfl rfl ?_
  refine v_iadd ok dX7_has_54 ?_
  refine v_iald ok rfl dX7_has_55 hf (fun v2 hf => ?_)
  exact v_iret ok hr (by cases hf; exact hk) dX7_has_56
theorem W_X7_has {G : GT} {X : CX} {d : Nat} {h0 : AH} {Q : State → Prop} (ok : Ok G X RX7 cX7_has 2 d h0) (hr : (cxm X).sig.returnType = (Option.some Jvm.ClassFile.FieldType.int)) (hd : 3 ≤ d) {a0 : Nat} {x1 : Int32} {h : AH} {z : (Int32 × AH)} (hf : X7_has a0 x1 h = some z) (hk : Q = QM G X h0 (some (vi z.1)) z.2) {lv : List (Nat × AV)} (hl : lle lv [(0, vr (some a0)), (1, vi x1)]) : V G X 2 h0 Q h 0 lv [] := by
  refine V.sub hl ?_
  unfold X7_has at hf
  refine v_iload_n ok 1 dX7_has_0 rfl rfl ?_
  refine sw_if (v := 0) hf (fun e_ hf => ?_) (fun n3 hf => ?_)
  ·
    refine v_tableIn ok 0 48 dX7_has_1 e_ (by decide) (by decide) rfl rfl ?_
    exact W_X7_has_48 ok hr hd hf hk ⟨rfl, rfl, trivial⟩
  ·
    refine sw_if (v := 1) hf (fun e_ hf => ?_) (fun n4 hf => ?_)
    ·
      refine v_tableIn ok 1 48 dX7_has_1 e_ (by decide) (by decide) rfl rfl ?_
      exact W_X7_has_48 ok hr hd hf hk ⟨rfl, rfl, trivial⟩
    ·
      refine sw_if (v := 2) hf (fun e_ hf => ?_) (fun n5 hf => ?_)
      ·
        refine v_tableIn ok 2 57 dX7_has_1 e_ (by decide) (by decide) rfl rfl ?_
        refine v_aload_n ok 0 dX7_has_57 rfl rfl ?_
        refine v_cVi ok (RX7, TX7, 117) cf_7.1 [] (F := fun a => X7_wordMany a h) (fun a v h1 _ hv => M_X7_wordMany ok.2.2.2.2.2.2.1 (d := 1) (Nat.le_refl _) hv) (by exact Nat.le_trans (by decide) hd) cw_X7_wordMany q2365 q2367 qs114 dX7_has_58 [] rfl (Nat.le_of_ble_eq_true rfl) hf (fun v6 h7 hf => ?_)
        exact v_iret ok hr (by cases hf; exact hk) dX7_has_61
      ·
        refine sw_if (v := 3) hf (fun e_ hf => ?_) (fun n8 hf => ?_)
        ·
          refine v_tableIn ok 3 62 dX7_has_1 e_ (by decide) (by decide) rfl rfl ?_
          refine v_aload_n ok 0 dX7_has_62 rfl rfl ?_
          refine v_cVi ok (RX7, TX7, 117) cf_7.1 [] (F := fun a => X7_boardMany a h) (fun a v h1 _ hv => M_X7_boardMany ok.2.2.2.2.2.2.1 (d := 1) (Nat.le_refl _) hv) (by exact Nat.le_trans (by decide) hd) cw_X7_boardMany q2369 q2371 qs115 dX7_has_63 [] rfl (Nat.le_of_ble_eq_true rfl) hf (fun v9 h10 hf => ?_)
          exact v_iret ok hr (by cases hf; exact hk) dX7_has_66
        ·
          refine sw_if (v := 4) hf (fun e_ hf => ?_) (fun n11 hf => ?_)
          ·
            refine v_tableIn ok 4 67 dX7_has_1 e_ (by decide) (by decide) rfl rfl ?_
            refine v_aload_n ok 0 dX7_has_67 rfl rfl ?_
            refine v_gR ok fl_X7_132 (by first | exact Or.inl ⟨_, rfl⟩ | exact Or.inr ⟨_, rfl⟩) dX7_has_68 hf (fun v12 hf => ?_)
            refine v_iconst ok 0 dX7_has_71 rfl ?_
            refine v_iald ok rfl dX7_has_72 hf (fun v13 hf => ?_)
            exact v_iret ok hr (by cases hf; exact hk) dX7_has_73
          ·
            refine sw_if (v := 5) hf (fun e_ hf => ?_) (fun n14 hf => ?_)
            ·
              refine v_tableIn ok 5 74 dX7_has_1 e_ (by decide) (by decide) rfl rfl ?_
              refine v_aload_n ok 0 dX7_has_74 rfl rfl ?_
              refine v_cVi ok (RX7, TX7, 117) cf_7.1 [] (F := fun a => X7_strokeMany a h) (fun a v h1 _ hv => M_X7_strokeMany ok.2.2.2.2.2.2.1 (d := 2) (Nat.le_refl _) hv) (by exact Nat.le_trans (by decide) hd) cw_X7_strokeMany q2373 q2375 qs116 dX7_has_75 [] rfl (Nat.le_of_ble_eq_true rfl) hf (fun v15 h16 hf => ?_)
              exact v_iret ok hr (by cases hf; exact hk) dX7_has_78
            ·
              refine sw_if (v := 6) hf (fun e_ hf => ?_) (fun n17 hf => ?_)
              ·
                refine v_tableIn ok 6 79 dX7_has_1 e_ (by decide) (by decide) rfl rfl ?_
                refine v_aload_n ok 0 dX7_has_79 rfl rfl ?_
                refine v_gR ok fl_X7_132 (by first | exact Or.inl ⟨_, rfl⟩ | exact Or.inr ⟨_, rfl⟩) dX7_has_80 hf (fun v18 hf => ?_)
                refine v_bipush ok 33 dX7_has_83 rfl ?_
                refine v_iald ok rfl dX7_has_85 hf (fun v19 hf => ?_)
                exact v_iret ok hr (by cases hf; exact hk) dX7_has_86
              ·
                refine sw_if (v := 7) hf (fun e_ hf => ?_) (fun n20 hf => ?_)
                ·
                  refine v_tableIn ok 7 87 dX7_has_1 e_ (by decide) (by decide) rfl rfl ?_
                  refine v_aload_n ok 0 dX7_has_87 rfl rfl ?_
                  refine v_gI ok fl_X7_402 (fun _ _ _ => rfl) dX7_has_88 hf (fun v21 hf => ?_)
                  exact v_iret ok hr (by cases hf; exact hk) dX7_has_91
                ·
                  have n3 := ne_toI 0 (by decide) n3
                  have n4 := ne_toI 1 (by decide) n4
                  have n5 := ne_toI 2 (by decide) n5
                  have n8 := ne_toI 3 (by decide) n8
                  have n11 := ne_toI 4 (by decide) n11
                  have n14 := ne_toI 5 (by decide) n14
                  have n17 := ne_toI 6 (by decide) n17
                  have n20 := ne_toI 7 (by decide) n20
                  refine v_tableOut ok 92 dX7_has_1 (by omega) rfl ?_
                  refine v_iconst ok (-1) dX7_has_92 rfl ?_
                  exact v_iret ok hr (by cases hf; exact hk) dX7_has_93
theorem M_X7_has {G : GT} {l : Launch} (hG : Glob G) {d : Nat} (hd : 3 ≤ d) {a0 : Nat} {x1 : Int32} {h : AH} {v : Int32} {h' : AH} (hf : X7_has a0 x1 h = some (v, h')) : MM G l yX7_has cX7_has 2 (Option.some Jvm.ClassFile.FieldType.int) d [vr (some a0), vi x1] h (some (vi v)) h' := by
  refine mm_of hG (plainFor_of_name (by decide)) (Nat.le_of_ble_eq_true rfl) (fun X hX ok hr hnm => ?_)
  subst hX
  exact W_X7_has ok hr hd hf rfl ⟨rfl, rfl, trivial⟩
theorem cw_X7_isHand : CW yX7_isHand cX7_isHand 2 (Option.some Jvm.ClassFile.FieldType.boolean) 1 := ⟨q2395, q185, ⟨by decide, by decide⟩, by decide +kernel, by decide⟩
theorem W_X7_isHand {G : GT} {X : CX} {d : Nat} {h0 : AH} {Q : State → Prop} (ok : Ok G X RX7 cX7_isHand 2 d h0) (hr : (cxm X).sig.returnType = (Option.some Jvm.ClassFile.FieldType.boolean)) (hd : 2 ≤ d) {a0 : Nat} {x1 : Int32} {h : AH} {z : (Int32 × AH)} (hf : X7_isHand a0 x1 h = some z) (hk : Q = QM G X h0 (some (vi z.1)) z.2) {lv : List (Nat × AV)} (hl : lle lv [(0, vr (some a0)), (1, vi x1)]) : V G X 2 h0 Q h 0 lv [] := by
  refine V.sub hl ?_
  unfold X7_isHand at hf
  refine v_iload_n ok 1 dX7_isHand_0 rfl rfl ?_
  refine v_i2l ok dX7_isHand_1 ?_
  refine v_lconst ok 0 dX7_isHand_2 rfl ?_
  refine v_lconst ok 1 dX7_isHand_3 rfl ?_
  refine v_cSi ok [vl (Int32.toInt64 x1), vl 0, vl 1] (F := X7_isIn (Int32.toInt64 x1) 0 1 h) (fun v h1 hv => M_X7_isIn ok.2.2.2.2.2.2.1 (d := 1) (Nat.le_refl _) hv) (by exact Nat.le_trans (by decide) hd) cw_X7_isIn q2215 q2216 dX7_isHand_4 [] rfl (Nat.le_of_ble_eq_true rfl) hf (fun v1 h2 hf => ?_)
  exact v_zret ok hr (by decide) hf (fun hf => by cases hf; exact hk) dX7_isHand_7
theorem M_X7_isHand {G : GT} {l : Launch} (hG : Glob G) {d : Nat} (hd : 2 ≤ d) {a0 : Nat} {x1 : Int32} {h : AH} {v : Int32} {h' : AH} (hf : X7_isHand a0 x1 h = some (v, h')) : MM G l yX7_isHand cX7_isHand 2 (Option.some Jvm.ClassFile.FieldType.boolean) d [vr (some a0), vi x1] h (some (vi v)) h' := by
  refine mm_of hG (plainFor_of_name (by decide)) (Nat.le_of_ble_eq_true rfl) (fun X hX ok hr hnm => ?_)
  subst hX
  exact W_X7_isHand ok hr hd hf rfl ⟨rfl, rfl, trivial⟩
theorem cw_X7_isLetterOf : CW yX7_isLetterOf cX7_isLetterOf 3 (Option.some Jvm.ClassFile.FieldType.boolean) 2 := ⟨q2391, q185, ⟨by decide, by decide⟩, by decide +kernel, by decide⟩
theorem W_X7_isLetterOf {G : GT} {X : CX} {d : Nat} {h0 : AH} {Q : State → Prop} (ok : Ok G X RX7 cX7_isLetterOf 3 d h0) (hr : (cxm X).sig.returnType = (Option.some Jvm.ClassFile.FieldType.boolean)) (hd : 3 ≤ d) {a0 : Nat} {x1 : Int32} {x2 : Int32} {h : AH} {z : (Int32 × AH)} (hf : X7_isLetterOf a0 x1 x2 h = some z) (hk : Q = QM G X h0 (some (vi z.1)) z.2) {lv : List (Nat × AV)} (hl : lle lv [(0, vr (some a0)), (1, vi x1), (2, vi x2)]) : V G X 3 h0 Q h 0 lv [] := by
  refine V.sub hl ?_
  unfold X7_isLetterOf at hf
  refine v_aload_n ok 0 dX7_isLetterOf_0 rfl rfl ?_
  refine v_iload_n ok 1 dX7_isLetterOf_1 rfl rfl ?_
  refine v_cVi ok (RX7, TX7, 117) cf_7.1 [vi x1] (F := fun a => X7_isHand a x1 h) (fun a v h1 _ hv => M_X7_isHand ok.2.2.2.2.2.2.1 (d := 2) (Nat.le_refl _) hv) (by exact Nat.le_trans (by decide) hd) cw_X7_isHand q2392 q2394 qs119 dX7_isLetterOf_2 [] rfl (Nat.le_of_ble_eq_true rfl) hf (fun v1 h2 hf => ?_)
  refine v_if_eq ok 32 dX7_isLetterOf_5 rfl hf (fun hf => ?_) (fun hf => ?_)
  ·
    refine v_iconst ok 0 dX7_isLetterOf_32 rfl ?_
    exact v_zretL ok hr (by decide) (by decide) (by cases hf; exact hk) dX7_isLetterOf_33
  ·
    refine v_iload_n ok 2 dX7_isLetterOf_8 rfl rfl ?_
    refine v_i2l ok dX7_isLetterOf_9 ?_
    refine v_lconst ok 0 dX7_isLetterOf_10 rfl ?_
    refine v_aload_n ok 0 dX7_isLetterOf_11 rfl rfl ?_
    refine v_gR ok fl_X7_108 (by first | exact Or.inl ⟨_, rfl⟩ | exact Or.inr ⟨_, rfl⟩) dX7_isLetterOf_12 hf (fun v3 hf => ?_)
    refine v_iconst ok 2 dX7_isLetterOf_15 rfl ?_
    refine v_iload_n ok 1 dX7_isLetterOf_16 rfl rfl ?_
    refine v_iadd ok dX7_isLetterOf_17 ?_
    refine v_iald ok rfl dX7_isLetterOf_18 hf (fun v4 hf => ?_)
    refine v_iconst ok 1 dX7_isLetterOf_19 rfl ?_
    refine v_isub ok dX7_isLetterOf_20 ?_
    refine v_i2l ok dX7_isLetterOf_21 ?_
    refine v_cSi ok [vl (Int32.toInt64 x2), vl 0, vl (Int32.toInt64 (v4 - 1))] (F := X7_isIn (Int32.toInt64 x2) 0 (Int32.toInt64 (v4 - 1)) h2) (fun v h1 hv => M_X7_isIn ok.2.2.2.2.2.2.1 (d := 1) (Nat.le_refl _) hv) (by exact Nat.le_trans (by decide) hd) cw_X7_isIn q2215 q2216 dX7_isLetterOf_22 [] rfl (Nat.le_of_ble_eq_true rfl) hf (fun v5 h6 hf => ?_)
    refine v_if_eq ok 32 dX7_isLetterOf_25 rfl hf (fun hf => ?_) (fun hf => ?_)
    ·
      refine v_iconst ok 0 dX7_isLetterOf_32 rfl ?_
      exact v_zretL ok hr (by decide) (by decide) (by cases hf; exact hk) dX7_isLetterOf_33
    ·
      refine v_iconst ok 1 dX7_isLetterOf_28 rfl ?_
      refine v_goto ok 33 dX7_isLetterOf_29 rfl ?_
      exact v_zretL ok hr (by decide) (by decide) (by cases hf; exact hk) dX7_isLetterOf_33
theorem M_X7_isLetterOf {G : GT} {l : Launch} (hG : Glob G) {d : Nat} (hd : 3 ≤ d) {a0 : Nat} {x1 : Int32} {x2 : Int32} {h : AH} {v : Int32} {h' : AH} (hf : X7_isLetterOf a0 x1 x2 h = some (v, h')) : MM G l yX7_isLetterOf cX7_isLetterOf 3 (Option.some Jvm.ClassFile.FieldType.boolean) d [vr (some a0), vi x1, vi x2] h (some (vi v)) h' := by
  refine mm_of hG (plainFor_of_name (by decide)) (Nat.le_of_ble_eq_true rfl) (fun X hX ok hr hnm => ?_)
  subst hX
  exact W_X7_isLetterOf ok hr hd hf rfl ⟨rfl, rfl, rfl, trivial⟩
theorem cw_X7_letter : CW yX7_letter cX7_letter 4 (Option.some Jvm.ClassFile.FieldType.int) 3 := ⟨q2387, q185, ⟨by decide, by decide⟩, by decide +kernel, by decide⟩
theorem W_X7_letter {G : GT} {X : CX} {d : Nat} {h0 : AH} {Q : State → Prop} (ok : Ok G X RX7 cX7_letter 4 d h0) (hr : (cxm X).sig.returnType = (Option.some Jvm.ClassFile.FieldType.int)) (hd : 4 ≤ d) {a0 : Nat} {x1 : Int32} {x2 : Int32} {x3 : Int32} {h : AH} {z : (Int32 × AH)} (hf : X7_letter a0 x1 x2 x3 h = some z) (hk : Q = QM G X h0 (some (vi z.1)) z.2) {lv : List (Nat × AV)} (hl : lle lv [(0, vr (some a0)), (1, vi x1), (2, vi x2), (3, vi x3)]) : V G X 4 h0 Q h 0 lv [] := by
  refine V.sub hl ?_
  unfold X7_letter at hf
  refine v_aload_n ok 0 dX7_letter_0 rfl rfl ?_
  refine v_iload_n ok 1 dX7_letter_1 rfl rfl ?_
  refine v_iload_n ok 2 dX7_letter_2 rfl rfl ?_
  refine v_cVi ok (RX7, TX7, 117) cf_7.1 [vi x1, vi x2] (F := fun a => X7_isLetterOf a x1 x2 h) (fun a v h1 _ hv => M_X7_isLetterOf ok.2.2.2.2.2.2.1 (d := 3) (Nat.le_refl _) hv) (by exact Nat.le_trans (by decide) hd) cw_X7_isLetterOf q2388 q2390 qs118 dX7_letter_3 [] rfl (Nat.le_of_ble_eq_true rfl) hf (fun v1 h2 hf => ?_)
  refine v_if_ne ok 11 dX7_letter_6 rfl hf (fun hf => ?_) (fun hf => ?_)
  ·
    refine v_iload_n ok 3 dX7_letter_11 rfl rfl ?_
    refine v_if_ne ok 24 dX7_letter_12 rfl hf (fun hf => ?_) (fun hf => ?_)
    ·
      refine v_iload_n ok 3 dX7_letter_24 rfl rfl ?_
      refine v_iconst ok 1 dX7_letter_25 rfl ?_
      refine v_icmp_ne ok 38 dX7_letter_26 rfl hf (fun hf => ?_) (fun hf => ?_)
      ·
        refine v_iload_n ok 3 dX7_letter_38 rfl rfl ?_
        refine v_iconst ok 2 dX7_letter_39 rfl ?_
        refine v_icmp_ne ok 55 dX7_letter_40 rfl hf (fun hf => ?_) (fun hf => ?_)
        ·
          refine v_iconst ok (-1) dX7_letter_55 rfl ?_
          exact v_iret ok hr (by cases hf; exact hk) dX7_letter_56
        ·
          refine v_aload_n ok 0 dX7_letter_43 rfl rfl ?_
          refine v_iload_n ok 1 dX7_letter_44 rfl rfl ?_
          refine v_iload_n ok 2 dX7_letter_45 rfl rfl ?_
          refine v_cVi ok (RX7, TX7, 117) cf_7.1 [vi x1, vi x2] (F := fun a => X7_glyphOf a x1 x2 h2) (fun a v h1 _ hv => M_X7_glyphOf ok.2.2.2.2.2.2.1 (d := 1) (Nat.le_refl _) hv) (by exact Nat.le_trans (by decide) hd) cw_X7_glyphOf q2353 q2355 qs113 dX7_letter_46 [] rfl (Nat.le_of_ble_eq_true rfl) hf (fun v3 h4 hf => ?_)
          refine v_cSi ok [vi v3] (F := X7_bits v3 h4) (fun v h1 hv => M_X7_bits ok.2.2.2.2.2.2.1 (d := 1) (Nat.le_refl _) hv) (by exact Nat.le_trans (by decide) hd) cw_X7_bits q2381 q2382 dX7_letter_49 [] rfl (Nat.le_of_ble_eq_true rfl) hf (fun v5 h6 hf => ?_)
          refine v_goto ok 56 dX7_letter_52 rfl ?_
          exact v_iret ok hr (by cases hf; exact hk) dX7_letter_56
      ·
        refine v_aload_n ok 0 dX7_letter_29 rfl rfl ?_
        refine v_iload_n ok 1 dX7_letter_30 rfl rfl ?_
        refine v_iload_n ok 2 dX7_letter_31 rfl rfl ?_
        refine v_cVi ok (RX7, TX7, 117) cf_7.1 [vi x1, vi x2] (F := fun a => X7_glyphOf a x1 x2 h2) (fun a v h1 _ hv => M_X7_glyphOf ok.2.2.2.2.2.2.1 (d := 1) (Nat.le_refl _) hv) (by exact Nat.le_trans (by decide) hd) cw_X7_glyphOf q2353 q2355 qs113 dX7_letter_32 [] rfl (Nat.le_of_ble_eq_true rfl) hf (fun v7 h8 hf => ?_)
        refine v_goto ok 56 dX7_letter_35 rfl ?_
        exact v_iret ok hr (by cases hf; exact hk) dX7_letter_56
    ·
      refine v_aload_n ok 0 dX7_letter_15 rfl rfl ?_
      refine v_iload_n ok 1 dX7_letter_16 rfl rfl ?_
      refine v_iload_n ok 2 dX7_letter_17 rfl rfl ?_
      refine v_cVi ok (RX7, TX7, 117) cf_7.1 [vi x1, vi x2] (F := fun a => X7_nameOf a x1 x2 h2) (fun a v h1 _ hv => M_X7_nameOf ok.2.2.2.2.2.2.1 (d := 1) (Nat.le_refl _) hv) (by exact Nat.le_trans (by decide) hd) cw_X7_nameOf q2349 q2351 qs112 dX7_letter_18 [] rfl (Nat.le_of_ble_eq_true rfl) hf (fun v9 h10 hf => ?_)
      refine v_goto ok 56 dX7_letter_21 rfl ?_
      exact v_iret ok hr (by cases hf; exact hk) dX7_letter_56
  ·
    refine v_iconst ok (-1) dX7_letter_9 rfl ?_
    exact v_iret ok hr (by cases hf; exact hk) dX7_letter_10
theorem M_X7_letter {G : GT} {l : Launch} (hG : Glob G) {d : Nat} (hd : 4 ≤ d) {a0 : Nat} {x1 : Int32} {x2 : Int32} {x3 : Int32} {h : AH} {v : Int32} {h' : AH} (hf : X7_letter a0 x1 x2 x3 h = some (v, h')) : MM G l yX7_letter cX7_letter 4 (Option.some Jvm.ClassFile.FieldType.int) d [vr (some a0), vi x1, vi x2, vi x3] h (some (vi v)) h' := by
  refine mm_of hG (plainFor_of_name (by decide)) (Nat.le_of_ble_eq_true rfl) (fun X hX ok hr hnm => ?_)
  subst hX
  exact W_X7_letter ok hr hd hf rfl ⟨rfl, rfl, rfl, rfl, trivial⟩
theorem cw_X7_isWord : CW yX7_isWord cX7_isWord 3 (Option.some Jvm.ClassFile.FieldType.boolean) 1 := ⟨q2403, q185, ⟨by decide, by decide⟩, by decide +kernel, by decide⟩
theorem W_X7_isWord {G : GT} {X : CX} {d : Nat} {h0 : AH} {Q : State → Prop} (ok : Ok G X RX7 cX7_isWord 3 d h0) (hr : (cxm X).sig.returnType = (Option.some Jvm.ClassFile.FieldType.boolean)) (hd : 2 ≤ d) {a0 : Nat} {x1 : Int64} {h : AH} {z : (Int32 × AH)} (hf : X7_isWord a0 x1 h = some z) (hk : Q = QM G X h0 (some (vi z.1)) z.2) {lv : List (Nat × AV)} (hl : lle lv [(0, vr (some a0)), (1, vl x1)]) : V G X 3 h0 Q h 0 lv [] := by
  refine V.sub hl ?_
  unfold X7_isWord at hf
  refine v_lload_n ok 1 dX7_isWord_0 rfl rfl ?_
  refine v_lconst ok 0 dX7_isWord_1 rfl ?_
  refine v_aload_n ok 0 dX7_isWord_2 rfl rfl ?_
  refine v_cVi ok (RX7, TX7, 117) cf_7.1 [] (F := fun a => X7_wordMany a h) (fun a v h1 _ hv => M_X7_wordMany ok.2.2.2.2.2.2.1 (d := 1) (Nat.le_refl _) hv) (by exact Nat.le_trans (by decide) hd) cw_X7_wordMany q2365 q2367 qs114 dX7_isWord_3 [vl 0, vl x1] rfl (Nat.le_of_ble_eq_true rfl) hf (fun v1 h2 hf => ?_)
  refine v_iconst ok 1 dX7_isWord_6 rfl ?_
  refine v_isub ok dX7_isWord_7 ?_
  refine v_i2l ok dX7_isWord_8 ?_
  refine v_cSi ok [vl x1, vl 0, vl (Int32.toInt64 (v1 - 1))] (F := X7_isIn x1 0 (Int32.toInt64 (v1 - 1)) h2) (fun v h1 hv => M_X7_isIn ok.2.2.2.2.2.2.1 (d := 1) (Nat.le_refl _) hv) (by exact Nat.le_trans (by decide) hd) cw_X7_isIn q2215 q2216 dX7_isWord_9 [] rfl (Nat.le_of_ble_eq_true rfl) hf (fun v3 h4 hf => ?_)
  exact v_zret ok hr (by decide) hf (fun hf => by cases hf; exact hk) dX7_isWord_12
theorem M_X7_isWord {G : GT} {l : Launch} (hG : Glob G) {d : Nat} (hd : 2 ≤ d) {a0 : Nat} {x1 : Int64} {h : AH} {v : Int32} {h' : AH} (hf : X7_isWord a0 x1 h = some (v, h')) : MM G l yX7_isWord cX7_isWord 3 (Option.some Jvm.ClassFile.FieldType.boolean) d [vr (some a0), vl x1] h (some (vi v)) h' := by
  refine mm_of hG (plainFor_of_name (by decide)) (Nat.le_of_ble_eq_true rfl) (fun X hX ok hr hnm => ?_)
  subst hX
  exact W_X7_isWord ok hr hd hf rfl ⟨rfl, rfl, trivial⟩
theorem cw_X7_word : CW yX7_word cX7_word 3 (Option.some Jvm.ClassFile.FieldType.int) 2 := ⟨q2399, q185, ⟨by decide, by decide⟩, by decide +kernel, by decide⟩
theorem W_X7_word {G : GT} {X : CX} {d : Nat} {h0 : AH} {Q : State → Prop} (ok : Ok G X RX7 cX7_word 3 d h0) (hr : (cxm X).sig.returnType = (Option.some Jvm.ClassFile.FieldType.int)) (hd : 3 ≤ d) {a0 : Nat} {x1 : Int32} {x2 : Int32} {h : AH} {z : (Int32 × AH)} (hf : X7_word a0 x1 x2 h = some z) (hk : Q = QM G X h0 (some (vi z.1)) z.2) {lv : List (Nat × AV)} (hl : lle lv [(0, vr (some a0)), (1, vi x1), (2, vi x2)]) : V G X 3 h0 Q h 0 lv [] := by
  refine V.sub hl ?_
  unfold X7_word at hf
  refine v_aload_n ok 0 dX7_word_0 rfl rfl ?_
  refine v_iload_n ok 1 dX7_word_1 rfl rfl ?_
  refine v_i2l ok dX7_word_2 ?_
  refine v_cVi ok (RX7, TX7, 117) cf_7.1 [vl (Int32.toInt64 x1)] (F := fun a => X7_isWord a (Int32.toInt64 x1) h) (fun a v h1 _ hv => M_X7_isWord ok.2.2.2.2.2.2.1 (d := 2) (Nat.le_refl _) hv) (by exact Nat.le_trans (by decide) hd) cw_X7_isWord q2400 q2402 qs120 dX7_word_3 [] rfl (Nat.le_of_ble_eq_true rfl) hf (fun v1 h2 hf => ?_)
  refine v_if_eq ok 21 dX7_word_6 rfl hf (fun hf => ?_) (fun hf => ?_)
  ·
    refine v_iconst ok (-1) dX7_word_21 rfl ?_
    exact v_iret ok hr (by cases hf; exact hk) dX7_word_22
  ·
    refine v_iload_n ok 2 dX7_word_9 rfl rfl ?_
    refine v_i2l ok dX7_word_10 ?_
    refine v_lconst ok 0 dX7_word_11 rfl ?_
    refine v_ldc2 ok q2404 dX7_word_12 ?_
    refine v_cSi ok [vl (Int32.toInt64 x2), vl 0, vl 5] (F := X7_isIn (Int32.toInt64 x2) 0 5 h2) (fun v h1 hv => M_X7_isIn ok.2.2.2.2.2.2.1 (d := 1) (Nat.le_refl _) hv) (by exact Nat.le_trans (by decide) hd) cw_X7_isIn q2215 q2216 dX7_word_15 [] rfl (Nat.le_of_ble_eq_true rfl) hf (fun v3 h4 hf => ?_)
    refine v_if_ne ok 23 dX7_word_18 rfl hf (fun hf => ?_) (fun hf => ?_)
    ·
      refine v_iload_n ok 2 dX7_word_23 rfl rfl ?_
      refine v_aload_n ok 0 dX7_word_24 rfl rfl ?_
      refine v_iload_n ok 1 dX7_word_25 rfl rfl ?_
      refine v_cVi ok (RX7, TX7, 117) cf_7.1 [vi x1] (F := fun a => X7_longOf a x1 h4) (fun a v h1 _ hv => M_X7_longOf ok.2.2.2.2.2.2.1 (d := 1) (Nat.le_refl _) hv) (by exact Nat.le_trans (by decide) hd) cw_X7_longOf q2337 q2339 qs109 dX7_word_26 [vi x2] rfl (Nat.le_of_ble_eq_true rfl) hf (fun v5 h6 hf => ?_)
      refine v_icmp_ge ok 41 dX7_word_29 rfl hf (fun hf => ?_) (fun hf => ?_)
      ·
        refine v_iconst ok 0 dX7_word_41 rfl ?_
        exact v_iret ok hr (by cases hf; exact hk) dX7_word_42
      ·
        refine v_aload_n ok 0 dX7_word_32 rfl rfl ?_
        refine v_iload_n ok 1 dX7_word_33 rfl rfl ?_
        refine v_iload_n ok 2 dX7_word_34 rfl rfl ?_
        refine v_cVi ok (RX7, TX7, 117) cf_7.1 [vi x1, vi x2] (F := fun a => X7_letterOf a x1 x2 h6) (fun a v h1 _ hv => M_X7_letterOf ok.2.2.2.2.2.2.1 (d := 1) (Nat.le_refl _) hv) (by exact Nat.le_trans (by decide) hd) cw_X7_letterOf q2341 q2343 qs110 dX7_word_35 [] rfl (Nat.le_of_ble_eq_true rfl) hf (fun v7 h8 hf => ?_)
        refine v_goto ok 42 dX7_word_38 rfl ?_
        exact v_iret ok hr (by cases hf; exact hk) dX7_word_42
    ·
      refine v_iconst ok (-1) dX7_word_21 rfl ?_
      exact v_iret ok hr (by cases hf; exact hk) dX7_word_22
theorem M_X7_word {G : GT} {l : Launch} (hG : Glob G) {d : Nat} (hd : 3 ≤ d) {a0 : Nat} {x1 : Int32} {x2 : Int32} {h : AH} {v : Int32} {h' : AH} (hf : X7_word a0 x1 x2 h = some (v, h')) : MM G l yX7_word cX7_word 3 (Option.some Jvm.ClassFile.FieldType.int) d [vr (some a0), vi x1, vi x2] h (some (vi v)) h' := by
  refine mm_of hG (plainFor_of_name (by decide)) (Nat.le_of_ble_eq_true rfl) (fun X hX ok hr hnm => ?_)
  subst hX
  exact W_X7_word ok hr hd hf rfl ⟨rfl, rfl, rfl, trivial⟩
theorem cw_X7_handOf : CW yX7_handOf cX7_handOf 2 (Option.some Jvm.ClassFile.FieldType.int) 1 := ⟨q2420, q185, ⟨by decide, by decide⟩, by decide +kernel, by decide⟩
theorem W_X7_handOf {G : GT} {X : CX} {d : Nat} {h0 : AH} {Q : State → Prop} (ok : Ok G X RX7 cX7_handOf 2 d h0) (hr : (cxm X).sig.returnType = (Option.some Jvm.ClassFile.FieldType.int)) (hd : 1 ≤ d) {a0 : Nat} {x1 : Int32} {h : AH} {z : (Int32 × AH)} (hf : X7_handOf a0 x1 h = some z) (hk : Q = QM G X h0 (some (vi z.1)) z.2) {lv : List (Nat × AV)} (hl : lle lv [(0, vr (some a0)), (1, vi x1)]) : V G X 2 h0 Q h 0 lv [] := by
  refine V.sub hl ?_
  unfold X7_handOf at hf
  refine v_aload_n ok 0 dX7_handOf_0 rfl rfl ?_
  refine v_gR ok fl_X7_132 (by first | exact Or.inl ⟨_, rfl⟩ | exact Or.inr ⟨_, rfl⟩) dX7_handOf_1 hf (fun v1 hf => ?_)
  refine v_iconst ok 2 dX7_handOf_4 rfl ?_
  refine v_bipush ok 8 dX7_handOf_5 rfl ?_
  refine v_iload_n ok 1 dX7_handOf_7 rfl rfl ?_
  refine v_imul ok dX7_handOf_8 ?_
  refine v_iadd ok dX7_handOf_9 ?_
  refine v_iald ok rfl dX7_handOf_10 hf (fun v2 hf => ?_)
  exact v_iret ok hr (by cases hf; exact hk) dX7_handOf_11
theorem M_X7_handOf {G : GT} {l : Launch} (hG : Glob G) {d : Nat} (hd : 1 ≤ d) {a0 : Nat} {x1 : Int32} {h : AH} {v : Int32} {h' : AH} (hf : X7_handOf a0 x1 h = some (v, h')) : MM G l yX7_handOf cX7_handOf 2 (Option.some Jvm.ClassFile.FieldType.int) d [vr (some a0), vi x1] h (some (vi v)) h' := by
  refine mm_of hG (plainFor_of_name (by decide)) (Nat.le_of_ble_eq_true rfl) (fun X hX ok hr hnm => ?_)
  subst hX
  exact W_X7_handOf ok hr hd hf rfl ⟨rfl, rfl, trivial⟩
theorem cw_X7_isBoard : CW yX7_isBoard cX7_isBoard 2 (Option.some Jvm.ClassFile.FieldType.boolean) 1 := ⟨q2412, q185, ⟨by decide, by decide⟩, by decide +kernel, by decide⟩
theorem W_X7_isBoard {G : GT} {X : CX} {d : Nat} {h0 : AH} {Q : State → Prop} (ok : Ok G X RX7 cX7_isBoard 2 d h0) (hr : (cxm X).sig.returnType = (Option.some Jvm.ClassFile.FieldType.boolean)) (hd : 2 ≤ d) {a0 : Nat} {x1 : Int32} {h : AH} {z : (Int32 × AH)} (hf : X7_isBoard a0 x1 h = some z) (hk : Q = QM G X h0 (some (vi z.1)) z.2) {lv : List (Nat × AV)} (hl : lle lv [(0, vr (some a0)), (1, vi x1)]) : V G X 2 h0 Q h 0 lv [] := by
  refine V.sub hl ?_
  unfold X7_isBoard at hf
  refine v_iload_n ok 1 dX7_isBoard_0 rfl rfl ?_
  refine v_i2l ok dX7_isBoard_1 ?_
  refine v_lconst ok 0 dX7_isBoard_2 rfl ?_
  refine v_aload_n ok 0 dX7_isBoard_3 rfl rfl ?_
  refine v_cVi ok (RX7, TX7, 117) cf_7.1 [] (F := fun a => X7_boardMany a h) (fun a v h1 _ hv => M_X7_boardMany ok.2.2.2.2.2.2.1 (d := 1) (Nat.le_refl _) hv) (by exact Nat.le_trans (by decide) hd) cw_X7_boardMany q2369 q2371 qs115 dX7_isBoard_4 [vl 0, vl (Int32.toInt64 x1)] rfl (Nat.le_of_ble_eq_true rfl) hf (fun v1 h2 hf => ?_)
  refine v_iconst ok 1 dX7_isBoard_7 rfl ?_
  refine v_isub ok dX7_isBoard_8 ?_
  refine v_i2l ok dX7_isBoard_9 ?_
  refine v_cSi ok [vl (Int32.toInt64 x1), vl 0, vl (Int32.toInt64 (v1 - 1))] (F := X7_isIn (Int32.toInt64 x1) 0 (Int32.toInt64 (v1 - 1)) h2) (fun v h1 hv => M_X7_isIn ok.2.2.2.2.2.2.1 (d := 1) (Nat.le_refl _) hv) (by exact Nat.le_trans (by decide) hd) cw_X7_isIn q2215 q2216 dX7_isBoard_10 [] rfl (Nat.le_of_ble_eq_true rfl) hf (fun v3 h4 hf => ?_)
  exact v_zret ok hr (by decide) hf (fun hf => by cases hf; exact hk) dX7_isBoard_13
theorem M_X7_isBoard {G : GT} {l : Launch} (hG : Glob G) {d : Nat} (hd : 2 ≤ d) {a0 : Nat} {x1 : Int32} {h : AH} {v : Int32} {h' : AH} (hf : X7_isBoard a0 x1 h = some (v, h')) : MM G l yX7_isBoard cX7_isBoard 2 (Option.some Jvm.ClassFile.FieldType.boolean) d [vr (some a0), vi x1] h (some (vi v)) h' := by
  refine mm_of hG (plainFor_of_name (by decide)) (Nat.le_of_ble_eq_true rfl) (fun X hX ok hr hnm => ?_)
  subst hX
  exact W_X7_isBoard ok hr hd hf rfl ⟨rfl, rfl, trivial⟩
theorem cw_X7_wordOf : CW yX7_wordOf cX7_wordOf 2 (Option.some Jvm.ClassFile.FieldType.int) 1 := ⟨q2416, q185, ⟨by decide, by decide⟩, by decide +kernel, by decide⟩
theorem W_X7_wordOf {G : GT} {X : CX} {d : Nat} {h0 : AH} {Q : State → Prop} (ok : Ok G X RX7 cX7_wordOf 2 d h0) (hr : (cxm X).sig.returnType = (Option.some Jvm.ClassFile.FieldType.int)) (hd : 1 ≤ d) {a0 : Nat} {x1 : Int32} {h : AH} {z : (Int32 × AH)} (hf : X7_wordOf a0 x1 h = some z) (hk : Q = QM G X h0 (some (vi z.1)) z.2) {lv : List (Nat × AV)} (hl : lle lv [(0, vr (some a0)), (1, vi x1)]) : V G X 2 h0 Q h 0 lv [] := by
  refine V.sub hl ?_
  unfold X7_wordOf at hf
  refine v_aload_n ok 0 dX7_wordOf_0 rfl rfl ?_
  refine v_gR ok fl_X7_132 (by first | exact Or.inl ⟨_, rfl⟩ | exact Or.inr ⟨_, rfl⟩) dX7_wordOf_1 hf (fun v1 hf => ?_)
  refine v_iconst ok 1 dX7_wordOf_4 rfl ?_
  refine v_bipush ok 8 dX7_wordOf_5 rfl ?_
  refine v_iload_n ok 1 dX7_wordOf_7 rfl rfl ?_
  refine v_imul ok dX7_wordOf_8 ?_
  refine v_iadd ok dX7_wordOf_9 ?_
  refine v_iald ok rfl dX7_wordOf_10 hf (fun v2 hf => ?_)
  exact v_iret ok hr (by cases hf; exact hk) dX7_wordOf_11
theorem M_X7_wordOf {G : GT} {l : Launch} (hG : Glob G) {d : Nat} (hd : 1 ≤ d) {a0 : Nat} {x1 : Int32} {h : AH} {v : Int32} {h' : AH} (hf : X7_wordOf a0 x1 h = some (v, h')) : MM G l yX7_wordOf cX7_wordOf 2 (Option.some Jvm.ClassFile.FieldType.int) d [vr (some a0), vi x1] h (some (vi v)) h' := by
  refine mm_of hG (plainFor_of_name (by decide)) (Nat.le_of_ble_eq_true rfl) (fun X hX ok hr hnm => ?_)
  subst hX
  exact W_X7_wordOf ok hr hd hf rfl ⟨rfl, rfl, trivial⟩
theorem cw_X7_board : CW yX7_board cX7_board 3 (Option.some Jvm.ClassFile.FieldType.int) 2 := ⟨q2408, q185, ⟨by decide, by decide⟩, by decide +kernel, by decide⟩
theorem W_X7_board {G : GT} {X : CX} {d : Nat} {h0 : AH} {Q : State → Prop} (ok : Ok G X RX7 cX7_board 3 d h0) (hr : (cxm X).sig.returnType = (Option.some Jvm.ClassFile.FieldType.int)) (hd : 3 ≤ d) {a0 : Nat} {x1 : Int32} {x2 : Int32} {h : AH} {z : (Int32 × AH)} (hf : X7_board a0 x1 x2 h = some z) (hk : Q = QM G X h0 (some (vi z.1)) z.2) {lv : List (Nat × AV)} (hl : lle lv [(0, vr (some a0)), (1, vi x1), (2, vi x2)]) : V G X 3 h0 Q h 0 lv [] := by
  refine V.sub hl ?_
  unfold X7_board at hf
  refine v_aload_n ok 0 dX7_board_0 rfl rfl ?_
  refine v_iload_n ok 1 dX7_board_1 rfl rfl ?_
  refine v_cVi ok (RX7, TX7, 117) cf_7.1 [vi x1] (F := fun a => X7_isBoard a x1 h) (fun a v h1 _ hv => M_X7_isBoard ok.2.2.2.2.2.2.1 (d := 2) (Nat.le_refl _) hv) (by exact Nat.le_trans (by decide) hd) cw_X7_isBoard q2409 q2411 qs121 dX7_board_2 [] rfl (Nat.le_of_ble_eq_true rfl) hf (fun v1 h2 hf => ?_)
  refine v_if_ne ok 10 dX7_board_5 rfl hf (fun hf => ?_) (fun hf => ?_)
  ·
    refine v_iload_n ok 2 dX7_board_10 rfl rfl ?_
    refine v_if_ne ok 22 dX7_board_11 rfl hf (fun hf => ?_) (fun hf => ?_)
    ·
      refine v_iload_n ok 2 dX7_board_22 rfl rfl ?_
      refine v_iconst ok 1 dX7_board_23 rfl ?_
      refine v_icmp_ne ok 35 dX7_board_24 rfl hf (fun hf => ?_) (fun hf => ?_)
      ·
        refine v_iload_n ok 2 dX7_board_35 rfl rfl ?_
        refine v_iconst ok 2 dX7_board_36 rfl ?_
        refine v_icmp_ne ok 52 dX7_board_37 rfl hf (fun hf => ?_) (fun hf => ?_)
        ·
          refine v_iconst ok (-1) dX7_board_52 rfl ?_
          exact v_iret ok hr (by cases hf; exact hk) dX7_board_53
        ·
          refine v_aload_n ok 0 dX7_board_40 rfl rfl ?_
          refine v_aload_n ok 0 dX7_board_41 rfl rfl ?_
          refine v_iload_n ok 1 dX7_board_42 rfl rfl ?_
          refine v_cVi ok (RX7, TX7, 117) cf_7.1 [vi x1] (F := fun a => X7_wordOf a x1 h2) (fun a v h1 _ hv => M_X7_wordOf ok.2.2.2.2.2.2.1 (d := 1) (Nat.le_refl _) hv) (by exact Nat.le_trans (by decide) hd) cw_X7_wordOf q2413 q2415 qs122 dX7_board_43 [vr (some a0)] rfl (Nat.le_of_ble_eq_true rfl) hf (fun v3 h4 hf => ?_)
          refine v_cVi ok (RX7, TX7, 117) cf_7.1 [vi v3] (F := fun a => X7_longOf a v3 h4) (fun a v h1 _ hv => M_X7_longOf ok.2.2.2.2.2.2.1 (d := 1) (Nat.le_refl _) hv) (by exact Nat.le_trans (by decide) hd) cw_X7_longOf q2337 q2339 qs109 dX7_board_46 [] rfl (Nat.le_of_ble_eq_true rfl) hf (fun v5 h6 hf => ?_)
          refine v_goto ok 53 dX7_board_49 rfl ?_
          exact v_iret ok hr (by cases hf; exact hk) dX7_board_53
      ·
        refine v_aload_n ok 0 dX7_board_27 rfl rfl ?_
        refine v_iload_n ok 1 dX7_board_28 rfl rfl ?_
        refine v_cVi ok (RX7, TX7, 117) cf_7.1 [vi x1] (F := fun a => X7_handOf a x1 h2) (fun a v h1 _ hv => M_X7_handOf ok.2.2.2.2.2.2.1 (d := 1) (Nat.le_refl _) hv) (by exact Nat.le_trans (by decide) hd) cw_X7_handOf q2417 q2419 qs123 dX7_board_29 [] rfl (Nat.le_of_ble_eq_true rfl) hf (fun v7 h8 hf => ?_)
        refine v_goto ok 53 dX7_board_32 rfl ?_
        exact v_iret ok hr (by cases hf; exact hk) dX7_board_53
    ·
      refine v_aload_n ok 0 dX7_board_14 rfl rfl ?_
      refine v_iload_n ok 1 dX7_board_15 rfl rfl ?_
      refine v_cVi ok (RX7, TX7, 117) cf_7.1 [vi x1] (F := fun a => X7_wordOf a x1 h2) (fun a v h1 _ hv => M_X7_wordOf ok.2.2.2.2.2.2.1 (d := 1) (Nat.le_refl _) hv) (by exact Nat.le_trans (by decide) hd) cw_X7_wordOf q2413 q2415 qs122 dX7_board_16 [] rfl (Nat.le_of_ble_eq_true rfl) hf (fun v9 h10 hf => ?_)
      refine v_goto ok 53 dX7_board_19 rfl ?_
      exact v_iret ok hr (by cases hf; exact hk) dX7_board_53
  ·
    refine v_iconst ok (-1) dX7_board_8 rfl ?_
    exact v_iret ok hr (by cases hf; exact hk) dX7_board_9
theorem M_X7_board {G : GT} {l : Launch} (hG : Glob G) {d : Nat} (hd : 3 ≤ d) {a0 : Nat} {x1 : Int32} {x2 : Int32} {h : AH} {v : Int32} {h' : AH} (hf : X7_board a0 x1 x2 h = some (v, h')) : MM G l yX7_board cX7_board 3 (Option.some Jvm.ClassFile.FieldType.int) d [vr (some a0), vi x1, vi x2] h (some (vi v)) h' := by
  refine mm_of hG (plainFor_of_name (by decide)) (Nat.le_of_ble_eq_true rfl) (fun X hX ok hr hnm => ?_)
  subst hX
  exact W_X7_board ok hr hd hf rfl ⟨rfl, rfl, rfl, trivial⟩
theorem cw_X7_isPlace : CW yX7_isPlace cX7_isPlace 3 (Option.some Jvm.ClassFile.FieldType.boolean) 2 := ⟨q2428, q185, ⟨by decide, by decide⟩, by decide +kernel, by decide⟩
theorem W_X7_isPlace {G : GT} {X : CX} {d : Nat} {h0 : AH} {Q : State → Prop} (ok : Ok G X RX7 cX7_isPlace 3 d h0) (hr : (cxm X).sig.returnType = (Option.some Jvm.ClassFile.FieldType.boolean)) (hd : 3 ≤ d) {a0 : Nat} {x1 : Int32} {x2 : Int32} {h : AH} {z : (Int32 × AH)} (hf : X7_isPlace a0 x1 x2 h = some z) (hk : Q = QM G X h0 (some (vi z.1)) z.2) {lv : List (Nat × AV)} (hl : lle lv [(0, vr (some a0)), (1, vi x1), (2, vi x2)]) : V G X 3 h0 Q h 0 lv [] := by
  refine V.sub hl ?_
  unfold X7_isPlace at hf
  refine v_aload_n ok 0 dX7_isPlace_0 rfl rfl ?_
  refine v_iload_n ok 1 dX7_isPlace_1 rfl rfl ?_
  refine v_cVi ok (RX7, TX7, 117) cf_7.1 [vi x1] (F := fun a => X7_isBoard a x1 h) (fun a v h1 _ hv => M_X7_isBoard ok.2.2.2.2.2.2.1 (d := 2) (Nat.le_refl _) hv) (by exact Nat.le_trans (by decide) hd) cw_X7_isBoard q2409 q2411 qs121 dX7_isPlace_2 [] rfl (Nat.le_of_ble_eq_true rfl) hf (fun v1 h2 hf => ?_)
  refine v_if_eq ok 33 dX7_isPlace_5 rfl hf (fun hf => ?_) (fun hf => ?_)
  ·
    refine v_iconst ok 0 dX7_isPlace_33 rfl ?_
    exact v_zretL ok hr (by decide) (by decide) (by cases hf; exact hk) dX7_isPlace_34
  ·
    refine v_iload_n ok 2 dX7_isPlace_8 rfl rfl ?_
    refine v_i2l ok dX7_isPlace_9 ?_
    refine v_lconst ok 0 dX7_isPlace_10 rfl ?_
    refine v_aload_n ok 0 dX7_isPlace_11 rfl rfl ?_
    refine v_aload_n ok 0 dX7_isPlace_12 rfl rfl ?_
    refine v_iload_n ok 1 dX7_isPlace_13 rfl rfl ?_
    refine v_cVi ok (RX7, TX7, 117) cf_7.1 [vi x1] (F := fun a => X7_wordOf a x1 h2) (fun a v h1 _ hv => M_X7_wordOf ok.2.2.2.2.2.2.1 (d := 1) (Nat.le_refl _) hv) (by exact Nat.le_trans (by decide) hd) cw_X7_wordOf q2413 q2415 qs122 dX7_isPlace_14 [vr (some a0), vl 0, vl (Int32.toInt64 x2)] rfl (Nat.le_of_ble_eq_true rfl) hf (fun v3 h4 hf => ?_)
    refine v_cVi ok (RX7, TX7, 117) cf_7.1 [vi v3] (F := fun a => X7_longOf a v3 h4) (fun a v h1 _ hv => M_X7_longOf ok.2.2.2.2.2.2.1 (d := 1) (Nat.le_refl _) hv) (by exact Nat.le_trans (by decide) hd) cw_X7_longOf q2337 q2339 qs109 dX7_isPlace_17 [vl 0, vl (Int32.toInt64 x2)] rfl (Nat.le_of_ble_eq_true rfl) hf (fun v5 h6 hf => ?_)
    refine v_iconst ok 1 dX7_isPlace_20 rfl ?_
    refine v_isub ok dX7_isPlace_21 ?_
    refine v_i2l ok dX7_isPlace_22 ?_
    refine v_cSi ok [vl (Int32.toInt64 x2), vl 0, vl (Int32.toInt64 (v5 - 1))] (F := X7_isIn (Int32.toInt64 x2) 0 (Int32.toInt64 (v5 - 1)) h6) (fun v h1 hv => M_X7_isIn ok.2.2.2.2.2.2.1 (d := 1) (Nat.le_refl _) hv) (by exact Nat.le_trans (by decide) hd) cw_X7_isIn q2215 q2216 dX7_isPlace_23 [] rfl (Nat.le_of_ble_eq_true rfl) hf (fun v7 h8 hf => ?_)
    refine v_if_eq ok 33 dX7_isPlace_26 rfl hf (fun hf => ?_) (fun hf => ?_)
    ·
      refine v_iconst ok 0 dX7_isPlace_33 rfl ?_
      exact v_zretL ok hr (by decide) (by decide) (by cases hf; exact hk) dX7_isPlace_34
    ·
      refine v_iconst ok 1 dX7_isPlace_29 rfl ?_
      refine v_goto ok 34 dX7_isPlace_30 rfl ?_
      exact v_zretL ok hr (by decide) (by decide) (by cases hf; exact hk) dX7_isPlace_34
theorem M_X7_isPlace {G : GT} {l : Launch} (hG : Glob G) {d : Nat} (hd : 3 ≤ d) {a0 : Nat} {x1 : Int32} {x2 : Int32} {h : AH} {v : Int32} {h' : AH} (hf : X7_isPlace a0 x1 x2 h = some (v, h')) : MM G l yX7_isPlace cX7_isPlace 3 (Option.some Jvm.ClassFile.FieldType.boolean) d [vr (some a0), vi x1, vi x2] h (some (vi v)) h' := by
  refine mm_of hG (plainFor_of_name (by decide)) (Nat.le_of_ble_eq_true rfl) (fun X hX ok hr hnm => ?_)
  subst hX
  exact W_X7_isPlace ok hr hd hf rfl ⟨rfl, rfl, rfl, trivial⟩
theorem cw_X7_glyph : CW yX7_glyph cX7_glyph 3 (Option.some Jvm.ClassFile.FieldType.int) 2 := ⟨q2424, q185, ⟨by decide, by decide⟩, by decide +kernel, by decide⟩
theorem W_X7_glyph {G : GT} {X : CX} {d : Nat} {h0 : AH} {Q : State → Prop} (ok : Ok G X RX7 cX7_glyph 3 d h0) (hr : (cxm X).sig.returnType = (Option.some Jvm.ClassFile.FieldType.int)) (hd : 4 ≤ d) {a0 : Nat} {x1 : Int32} {x2 : Int32} {h : AH} {z : (Int32 × AH)} (hf : X7_glyph a0 x1 x2 h = some z) (hk : Q = QM G X h0 (some (vi z.1)) z.2) {lv : List (Nat × AV)} (hl : lle lv [(0, vr (some a0)), (1, vi x1), (2, vi x2)]) : V G X 3 h0 Q h 0 lv [] := by
  refine V.sub hl ?_
  unfold X7_glyph at hf
  refine v_aload_n ok 0 dX7_glyph_0 rfl rfl ?_
  refine v_iload_n ok 1 dX7_glyph_1 rfl rfl ?_
  refine v_iload_n ok 2 dX7_glyph_2 rfl rfl ?_
  refine v_cVi ok (RX7, TX7, 117) cf_7.1 [vi x1, vi x2] (F := fun a => X7_isPlace a x1 x2 h) (fun a v h1 _ hv => M_X7_isPlace ok.2.2.2.2.2.2.1 (d := 3) (Nat.le_refl _) hv) (by exact Nat.le_trans (by decide) hd) cw_X7_isPlace q2425 q2427 qs124 dX7_glyph_3 [] rfl (Nat.le_of_ble_eq_true rfl) hf (fun v1 h2 hf => ?_)
  refine v_if_eq ok 18 dX7_glyph_6 rfl hf (fun hf => ?_) (fun hf => ?_)
  ·
    refine v_iconst ok (-1) dX7_glyph_18 rfl ?_
    exact v_iret ok hr (by cases hf; exact hk) dX7_glyph_19
  ·
    refine v_aload_n ok 0 dX7_glyph_9 rfl rfl ?_
    refine v_iload_n ok 1 dX7_glyph_10 rfl rfl ?_
    refine v_iload_n ok 2 dX7_glyph_11 rfl rfl ?_
    refine v_cVi ok (RX7, TX7, 117) cf_7.1 [vi x1, vi x2] (F := fun a => X7_glyphAt a x1 x2 h2) (fun a v h1 _ hv => M_X7_glyphAt ok.2.2.2.2.2.2.1 (d := 1) (Nat.le_refl _) hv) (by exact Nat.le_trans (by decide) hd) cw_X7_glyphAt q2377 q2379 qs117 dX7_glyph_12 [] rfl (Nat.le_of_ble_eq_true rfl) hf (fun v3 h4 hf => ?_)
    refine v_goto ok 19 dX7_glyph_15 rfl ?_
    exact v_iret ok hr (by cases hf; exact hk) dX7_glyph_19
theorem M_X7_glyph {G : GT} {l : Launch} (hG : Glob G) {d : Nat} (hd : 4 ≤ d) {a0 : Nat} {x1 : Int32} {x2 : Int32} {h : AH} {v : Int32} {h' : AH} (hf : X7_glyph a0 x1 x2 h = some (v, h')) : MM G l yX7_glyph cX7_glyph 3 (Option.some Jvm.ClassFile.FieldType.int) d [vr (some a0), vi x1, vi x2] h (some (vi v)) h' := by
  refine mm_of hG (plainFor_of_name (by decide)) (Nat.le_of_ble_eq_true rfl) (fun X hX ok hr hnm => ?_)
  subst hX
  exact W_X7_glyph ok hr hd hf rfl ⟨rfl, rfl, rfl, trivial⟩
theorem cw_X7_kept : CW yX7_kept cX7_kept 3 (Option.some Jvm.ClassFile.FieldType.int) 2 := ⟨q2432, q185, ⟨by decide, by decide⟩, by decide +kernel, by decide⟩
theorem W_X7_kept {G : GT} {X : CX} {d : Nat} {h0 : AH} {Q : State → Prop} (ok : Ok G X RX7 cX7_kept 3 d h0) (hr : (cxm X).sig.returnType = (Option.some Jvm.ClassFile.FieldType.int)) (hd : 2 ≤ d) {a0 : Nat} {x1 : Int32} {x2 : Int32} {h : AH} {z : (Int32 × AH)} (hf : X7_kept a0 x1 x2 h = some z) (hk : Q = QM G X h0 (some (vi z.1)) z.2) {lv : List (Nat × AV)} (hl : lle lv [(0, vr (some a0)), (1, vi x1), (2, vi x2)]) : V G X 3 h0 Q h 0 lv [] := by
  refine V.sub hl ?_
  unfold X7_kept at hf
  refine v_iload_n ok 1 dX7_kept_0 rfl rfl ?_
  refine v_i2l ok dX7_kept_1 ?_
  refine v_lconst ok 0 dX7_kept_2 rfl ?_
  refine v_aload_n ok 0 dX7_kept_3 rfl rfl ?_
  refine v_gR ok fl_X7_132 (by first | exact Or.inl ⟨_, rfl⟩ | exact Or.inr ⟨_, rfl⟩) dX7_kept_4 hf (fun v1 hf => ?_)
  refine v_bipush ok 33 dX7_kept_7 rfl ?_
  refine v_iald ok rfl dX7_kept_9 hf (fun v2 hf => ?_)
  refine v_iconst ok 1 dX7_kept_10 rfl ?_
  refine v_isub ok dX7_kept_11 ?_
  refine v_i2l ok dX7_kept_12 ?_
  refine v_cSi ok [vl (Int32.toInt64 x1), vl 0, vl (Int32.toInt64 (v2 - 1))] (F := X7_isIn (Int32.toInt64 x1) 0 (Int32.toInt64 (v2 - 1)) h) (fun v h1 hv => M_X7_isIn ok.2.2.2.2.2.2.1 (d := 1) (Nat.le_refl _) hv) (by exact Nat.le_trans (by decide) hd) cw_X7_isIn q2215 q2216 dX7_kept_13 [] rfl (Nat.le_of_ble_eq_true rfl) hf (fun v3 h4 hf => ?_)
  refine v_if_eq ok 47 dX7_kept_16 rfl hf (fun hf => ?_) (fun hf => ?_)
  ·
    refine v_iconst ok (-1) dX7_kept_47 rfl ?_
    exact v_iret ok hr (by cases hf; exact hk) dX7_kept_48
  ·
    refine v_iload_n ok 2 dX7_kept_19 rfl rfl ?_
    refine v_i2l ok dX7_kept_20 ?_
    refine v_lconst ok 0 dX7_kept_21 rfl ?_
    refine v_ldc2 ok q2433 dX7_kept_22 ?_
    refine v_cSi ok [vl (Int32.toInt64 x2), vl 0, vl 2] (F := X7_isIn (Int32.toInt64 x2) 0 2 h4) (fun v h1 hv => M_X7_isIn ok.2.2.2.2.2.2.1 (d := 1) (Nat.le_refl _) hv) (by exact Nat.le_trans (by decide) hd) cw_X7_isIn q2215 q2216 dX7_kept_25 [] rfl (Nat.le_of_ble_eq_true rfl) hf (fun v5 h6 hf => ?_)
    refine v_if_eq ok 47 dX7_kept_28 rfl hf (fun hf => ?_) (fun hf => ?_)
    ·
      refine v_iconst ok (-1) dX7_kept_47 rfl ?_
      exact v_iret ok hr (by cases hf; exact hk) dX7_kept_48
    ·
      refine v_aload_n ok 0 dX7_kept_31 rfl rfl ?_
      refine v_gR ok fl_X7_132 (by first | exact Or.inl ⟨_, rfl⟩ | exact Or.inr ⟨_, rfl⟩) dX7_kept_32 hf (fun v7 hf => ?_)
      refine v_bipush ok 34 dX7_kept_35 rfl ?_
      refine v_iconst ok 3 dX7_kept_37 rfl ?_
      refine v_iload_n ok 1 dX7_kept_38 rfl rfl ?_
      refine v_imul ok dX7_kept_39 ?_
      refine v_iadd ok dX7_kept_40 ?_
      refine v_iload_n ok 2 dX7_kept_41 rfl rfl ?_
      refine v_iadd ok dX7_kept_42 ?_
      refine v_iald ok rfl dX7_kept_43 hf (fun v8 hf => ?_)
      refine v_goto ok 48 dX7_kept_44 rfl ?_
      exact v_iret ok hr (by cases hf; exact hk) dX7_kept_48
theorem M_X7_kept {G : GT} {l : Launch} (hG : Glob G) {d : Nat} (hd : 2 ≤ d) {a0 : Nat} {x1 : Int32} {x2 : Int32} {h : AH} {v : Int32} {h' : AH} (hf : X7_kept a0 x1 x2 h = some (v, h')) : MM G l yX7_kept cX7_kept 3 (Option.some Jvm.ClassFile.FieldType.int) d [vr (some a0), vi x1, vi x2] h (some (vi v)) h' := by
  refine mm_of hG (plainFor_of_name (by decide)) (Nat.le_of_ble_eq_true rfl) (fun X hX ok hr hnm => ?_)
  subst hX
  exact W_X7_kept ok hr hd hf rfl ⟨rfl, rfl, rfl, trivial⟩
theorem cw_X7_isGlyph : CW yX7_isGlyph cX7_isGlyph 2 (Option.some Jvm.ClassFile.FieldType.boolean) 1 := ⟨q2441, q185, ⟨by decide, by decide⟩, by decide +kernel, by decide⟩
theorem W_X7_isGlyph {G : GT} {X : CX} {d : Nat} {h0 : AH} {Q : State → Prop} (ok : Ok G X RX7 cX7_isGlyph 2 d h0) (hr : (cxm X).sig.returnType = (Option.some Jvm.ClassFile.FieldType.boolean)) (hd : 2 ≤ d) {a0 : Nat} {x1 : Int32} {h : AH} {z : (Int32 × AH)} (hf : X7_isGlyph a0 x1 h = some z) (hk : Q = QM G X h0 (some (vi z.1)) z.2) {lv : List (Nat × AV)} (hl : lle lv [(0, vr (some a0)), (1, vi x1)]) : V G X 2 h0 Q h 0 lv [] := by
  refine V.sub hl ?_
  unfold X7_isGlyph at hf
  refine v_iload_n ok 1 dX7_isGlyph_0 rfl rfl ?_
  refine v_i2l ok dX7_isGlyph_1 ?_
  refine v_lconst ok 0 dX7_isGlyph_2 rfl ?_
  refine v_ldc2 ok q2442 dX7_isGlyph_3 ?_
  refine v_cSi ok [vl (Int32.toInt64 x1), vl 0, vl 32767] (F := X7_isIn (Int32.toInt64 x1) 0 32767 h) (fun v h1 hv => M_X7_isIn ok.2.2.2.2.2.2.1 (d := 1) (Nat.le_refl _) hv) (by exact Nat.le_trans (by decide) hd) cw_X7_isIn q2215 q2216 dX7_isGlyph_6 [] rfl (Nat.le_of_ble_eq_true rfl) hf (fun v1 h2 hf => ?_)
  exact v_zret ok hr (by decide) hf (fun hf => by cases hf; exact hk) dX7_isGlyph_9
theorem M_X7_isGlyph {G : GT} {l : Launch} (hG : Glob G) {d : Nat} (hd : 2 ≤ d) {a0 : Nat} {x1 : Int32} {h : AH} {v : Int32} {h' : AH} (hf : X7_isGlyph a0 x1 h = some (v, h')) : MM G l yX7_isGlyph cX7_isGlyph 2 (Option.some Jvm.ClassFile.FieldType.boolean) d [vr (some a0), vi x1] h (some (vi v)) h' := by
  refine mm_of hG (plainFor_of_name (by decide)) (Nat.le_of_ble_eq_true rfl) (fun X hX ok hr hnm => ?_)
  subst hX
  exact W_X7_isGlyph ok hr hd hf rfl ⟨rfl, rfl, trivial⟩
theorem cw_X7_seenBy : CW yX7_seenBy cX7_seenBy 7 (Option.some Jvm.ClassFile.FieldType.int) 2 := ⟨q2446, q185, ⟨by decide, by decide⟩, by decide +kernel, by decide⟩
def pkX7_seenBy_4 (G : GT) (X : CX) (h0 : AH) (Q : State → Prop) (x0 : Int32) (x1 : Int32) (o : ((Int32 × Int32 × AH) ⊕ (Int32 × AH))) : Prop := match o with
  | .inl s => ∀ lv : List (Nat × AV), lle lv [(0, vi x0), (1, vi x1), (2, vi s.1), (3, vi s.2.1)] → V G X 7 h0 Q s.2.2 4 lv []
  | .inr z => Q = QM G X h0 (some (vi z.1)) z.2
def pkX7_seenBy_12 (G : GT) (X : CX) (h0 : AH) (Q : State → Prop) (x0 : Int32) (x1 : Int32) (x3 : Int32) (o : ((Int32 × Int32 × AH) ⊕ ((Int32 × Int32 × AH) ⊕ (Int32 × AH)))) : Prop := match o with
  | .inl s => ∀ lv : List (Nat × AV), lle lv [(0, vi x0), (1, vi x1), (2, vi s.1), (3, vi x3), (4, vi s.2.1)] → V G X 7 h0 Q s.2.2 12 lv []
  | .inr z => pkX7_seenBy_4 G X h0 Q x0 x1 z
theorem W_X7_seenBy_72 {G : GT} {X : CX} {d : Nat} {h0 : AH} {Q : State → Prop} (ok : Ok G X RX7 cX7_seenBy 7 d h0) (hr : (cxm X).sig.returnType = (Option.some Jvm.ClassFile.FieldType.int)) (hd : 1 ≤ d) {x0 : Int32} {x1 : Int32} {x2 : Int32} {x3 : Int32} {x4 : Int32} {x5 : Int32} {s0 : Int32} {h : AH} {z : ((Int32 × Int32 × AH) ⊕ ((Int32 × Int32 × AH) ⊕ (Int32 × AH)))} (hf : X7_seenBy_72 x0 x1 x2 x3 x4 x5 s0 h = some z) (hk : pkX7_seenBy_12 G X h0 Q x0 x1 x3 z) {lv : List (Nat × AV)} (hl : lle lv [(0, vi x0), (1, vi x1), (2, vi x2), (3, vi x3), (4, vi x4), (5, vi x5)]) : V G X 7 h0 Q h 72 lv [vi s0] := by
  refine V.sub hl ?_
  unfold X7_seenBy_72 at hf
  refine v_istore ok dX7_seenBy_72 (by decide) ?_
  refine v_iload_n ok 2 dX7_seenBy_74 rfl rfl ?_
  refine v_iconst ok 1 dX7_seenBy_75 rfl ?_
  refine v_iconst ok 3 dX7_seenBy_76 rfl ?_
  refine v_iload ok dX7_seenBy_77 rfl ?_
  refine v_imul ok dX7_seenBy_79 ?_
  refine v_iload ok dX7_seenBy_80 rfl ?_
  refine v_iadd ok dX7_seenBy_82 ?_
  refine v_ishl ok dX7_seenBy_83 ?_
  refine v_ior ok dX7_seenBy_84 ?_
  refine v_istore_n ok 2 dX7_seenBy_85 rfl (by decide) ?_
  refine v_iinc ok x4 (x4 + 1) dX7_seenBy_86 rfl rfl (by decide) ?_
  refine v_goto ok 12 dX7_seenBy_89 rfl ?_
  cases hf; exact hk _ ⟨rfl, rfl, rfl, rfl, rfl, trivial⟩
theorem W_X7_seenBy_63 {G : GT} {X : CX} {d : Nat} {h0 : AH} {Q : State → Prop} (ok : Ok G X RX7 cX7_seenBy 7 d h0) (hr : (cxm X).sig.returnType = (Option.some Jvm.ClassFile.FieldType.int)) (hd : 1 ≤ d) {x0 : Int32} {x1 : Int32} {x2 : Int32} {x3 : Int32} {x4 : Int32} {x5 : Int32} {h : AH} {z : ((Int32 × Int32 × AH) ⊕ ((Int32 × Int32 × AH) ⊕ (Int32 × AH)))} (hf : X7_seenBy_63 x0 x1 x2 x3 x4 x5 h = some z) (hk : pkX7_seenBy_12 G X h0 Q x0 x1 x3 z) {lv : List (Nat × AV)} (hl : lle lv [(0, vi x0), (1, vi x1), (2, vi x2), (3, vi x3), (4, vi x4), (5, vi x5)]) : V G X 7 h0 Q h 63 lv [] := by
  refine V.sub hl ?_
  unfold X7_seenBy_63 at hf
  refine v_iconst ok 2 dX7_seenBy_63 rfl ?_
  refine v_iload ok dX7_seenBy_64 rfl ?_
  refine v_isub ok dX7_seenBy_66 ?_
  refine v_goto ok 72 dX7_seenBy_67 rfl ?_
  exact W_X7_seenBy_72 ok hr hd hf hk ⟨rfl, rfl, rfl, rfl, rfl, rfl, trivial⟩
theorem W_X7_seenBy_51 {G : GT} {X : CX} {d : Nat} {h0 : AH} {Q : State → Prop} (ok : Ok G X RX7 cX7_seenBy 7 d h0) (hr : (cxm X).sig.returnType = (Option.some Jvm.ClassFile.FieldType.int)) (hd : 1 ≤ d) {x0 : Int32} {x1 : Int32} {x2 : Int32} {x3 : Int32} {x4 : Int32} {s0 : Int32} {h : AH} {z : ((Int32 × Int32 × AH) ⊕ ((Int32 × Int32 × AH) ⊕ (Int32 × AH)))} (hf : X7_seenBy_51 x0 x1 x2 x3 x4 s0 h = some z) (hk : pkX7_seenBy_12 G X h0 Q x0 x1 x3 z) {lv : List (Nat × AV)} (hl : lle lv [(0, vi x0), (1, vi x1), (2, vi x2), (3, vi x3), (4, vi x4)]) : V G X 7 h0 Q h 51 lv [vi s0] := by
  refine V.sub hl ?_
  unfold X7_seenBy_51 at hf
  refine v_istore ok dX7_seenBy_51 (by decide) ?_
  refine v_iload_n ok 1 dX7_seenBy_53 rfl rfl ?_
  refine v_iconst ok 1 dX7_seenBy_54 rfl ?_
  refine v_icmp_eq ok 63 dX7_seenBy_55 rfl hf (fun hf => ?_) (fun hf => ?_)
  ·
    exact W_X7_seenBy_63 ok hr hd hf hk ⟨rfl, rfl, rfl, rfl, rfl, rfl, trivial⟩
  ·
    refine v_iload_n ok 1 dX7_seenBy_58 rfl rfl ?_
    refine v_iconst ok 3 dX7_seenBy_59 rfl ?_
    refine v_icmp_ne ok 70 dX7_seenBy_60 rfl hf (fun hf => ?_) (fun hf => ?_)
    ·
      refine v_iload ok dX7_seenBy_70 rfl ?_
      exact W_X7_seenBy_72 ok hr hd hf hk ⟨rfl, rfl, rfl, rfl, rfl, rfl, trivial⟩
    ·
      exact W_X7_seenBy_63 ok hr hd hf hk ⟨rfl, rfl, rfl, rfl, rfl, rfl, trivial⟩
theorem W_X7_seenBy_44 {G : GT} {X : CX} {d : Nat} {h0 : AH} {Q : State → Prop} (ok : Ok G X RX7 cX7_seenBy 7 d h0) (hr : (cxm X).sig.returnType = (Option.some Jvm.ClassFile.FieldType.int)) (hd : 1 ≤ d) {x0 : Int32} {x1 : Int32} {x2 : Int32} {x3 : Int32} {x4 : Int32} {h : AH} {z : ((Int32 × Int32 × AH) ⊕ ((Int32 × Int32 × AH) ⊕ (Int32 × AH)))} (hf : X7_seenBy_44 x0 x1 x2 x3 x4 h = some z) (hk : pkX7_seenBy_12 G X h0 Q x0 x1 x3 z) {lv : List (Nat × AV)} (hl : lle lv [(0, vi x0), (1, vi x1), (2, vi x2), (3, vi x3), (4, vi x4)]) : V G X 7 h0 Q h 44 lv [] := by
  refine V.sub hl ?_
  unfold X7_seenBy_44 at hf
  refine v_iconst ok 4 dX7_seenBy_44 rfl ?_
  refine v_iload_n ok 3 dX7_seenBy_45 rfl rfl ?_
  refine v_isub ok dX7_seenBy_46 ?_
  refine v_goto ok 51 dX7_seenBy_47 rfl ?_
  exact W_X7_seenBy_51 ok hr hd hf hk ⟨rfl, rfl, rfl, rfl, rfl, trivial⟩
theorem W_X7_seenBy_12b {G : GT} {X : CX} {d : Nat} {h0 : AH} {Q : State → Prop} (ok : Ok G X RX7 cX7_seenBy 7 d h0) (hr : (cxm X).sig.returnType = (Option.some Jvm.ClassFile.FieldType.int)) (hd : 1 ≤ d) {x0 : Int32} {x1 : Int32} {x3 : Int32} {x2 : Int32} {x4 : Int32} {h : AH} {z : ((Int32 × Int32 × AH) ⊕ ((Int32 × Int32 × AH) ⊕ (Int32 × AH)))} (hf : X7_seenBy_12b  x0 x1 x3 x2 x4 h = some z) (hk : pkX7_seenBy_12 G X h0 Q x0 x1 x3 z) {lv : List (Nat × AV)} (hl : lle lv [(0, vi x0), (1, vi x1), (2, vi x2), (3, vi x3), (4, vi x4)]) : V G X 7 h0 Q h 12 lv [] := by
  refine V.sub hl ?_
  unfold X7_seenBy_12b at hf
  refine v_iload ok dX7_seenBy_12 rfl ?_
  refine v_iconst ok 3 dX7_seenBy_14 rfl ?_
  refine v_icmp_ge ok 92 dX7_seenBy_15 rfl hf (fun hf => ?_) (fun hf => ?_)
  ·
    refine v_iinc ok x3 (x3 + 1) dX7_seenBy_92 rfl rfl (by decide) ?_
    refine v_goto ok 4 dX7_seenBy_95 rfl ?_
    cases hf; exact hk _ ⟨rfl, rfl, rfl, rfl, trivial⟩
  ·
    refine v_iload_n ok 0 dX7_seenBy_18 rfl rfl ?_
    refine v_iconst ok 3 dX7_seenBy_19 rfl ?_
    refine v_iload_n ok 3 dX7_seenBy_20 rfl rfl ?_
    refine v_imul ok dX7_seenBy_21 ?_
    refine v_iload ok dX7_seenBy_22 rfl ?_
    refine v_iadd ok dX7_seenBy_24 ?_
    refine v_ishr ok dX7_seenBy_25 ?_
    refine v_iconst ok 1 dX7_seenBy_26 rfl ?_
    refine v_iand ok dX7_seenBy_27 ?_
    refine v_if_ne ok 34 dX7_seenBy_28 rfl hf (fun hf => ?_) (fun hf => ?_)
    ·
      refine v_iload_n ok 1 dX7_seenBy_34 rfl rfl ?_
      refine v_iconst ok 1 dX7_seenBy_35 rfl ?_
      refine v_icmp_eq ok 44 dX7_seenBy_36 rfl hf (fun hf => ?_) (fun hf => ?_)
      ·
        exact W_X7_seenBy_44 ok hr hd hf hk ⟨rfl, rfl, rfl, rfl, rfl, trivial⟩
      ·
        refine v_iload_n ok 1 dX7_seenBy_39 rfl rfl ?_
        refine v_iconst ok 2 dX7_seenBy_40 rfl ?_
        refine v_icmp_ne ok 50 dX7_seenBy_41 rfl hf (fun hf => ?_) (fun hf => ?_)
        ·
          refine v_iload_n ok 3 dX7_seenBy_50 rfl rfl ?_
          exact W_X7_seenBy_51 ok hr hd hf hk ⟨rfl, rfl, rfl, rfl, rfl, trivial⟩
        ·
          exact W_X7_seenBy_44 ok hr hd hf hk ⟨rfl, rfl, rfl, rfl, rfl, trivial⟩
    ·
      refine v_goto ok 86 dX7_seenBy_31 rfl ?_
      refine v_iinc ok x4 (x4 + 1) dX7_seenBy_86 rfl rfl (by decide) ?_
      refine v_goto ok 12 dX7_seenBy_89 rfl ?_
      cases hf; exact hk _ ⟨rfl, rfl, rfl, rfl, rfl, trivial⟩
theorem W_X7_seenBy_12 {G : GT} {X : CX} {d : Nat} {h0 : AH} {Q : State → Prop} (ok : Ok G X RX7 cX7_seenBy 7 d h0) (hr : (cxm X).sig.returnType = (Option.some Jvm.ClassFile.FieldType.int)) (hd : 1 ≤ d) {x0 : Int32} {x1 : Int32} {x2 : Int32} {x3 : Int32} {x4 : Int32} {h : AH} {z : ((Int32 × Int32 × AH) ⊕ (Int32 × AH))} (hf : X7_seenBy_12  x0 x1 x2 x3 x4 h = some z) (hk : pkX7_seenBy_4 G X h0 Q x0 x1 z) {lv : List (Nat × AV)} (hl : lle lv [(0, vi x0), (1, vi x1), (2, vi x2), (3, vi x3), (4, vi x4)]) : V G X 7 h0 Q h 12 lv [] := by
  unfold X7_seenBy_12 at hf
  exact loopC_walk (Wh := fun s : Int32 × Int32 × AH => ∀ lv : List (Nat × AV), lle lv [(0, vi x0), (1, vi x1), (2, vi s.1), (3, vi x3), (4, vi s.2.1)] → V G X 7 h0 Q s.2.2 12 lv []) (PK := fun z => pkX7_seenBy_4 G X h0 Q x0 x1 z) (fun s o hf hk lv hl => W_X7_seenBy_12b ok hr hd hf (by cases o <;> exact hk) hl) _ z hf hk lv hl
theorem W_X7_seenBy_4b {G : GT} {X : CX} {d : Nat} {h0 : AH} {Q : State → Prop} (ok : Ok G X RX7 cX7_seenBy 7 d h0) (hr : (cxm X).sig.returnType = (Option.some Jvm.ClassFile.FieldType.int)) (hd : 1 ≤ d) {x0 : Int32} {x1 : Int32} {x2 : Int32} {x3 : Int32} {h : AH} {z : ((Int32 × Int32 × AH) ⊕ (Int32 × AH))} (hf : X7_seenBy_4b  x0 x1 x2 x3 h = some z) (hk : pkX7_seenBy_4 G X h0 Q x0 x1 z) {lv : List (Nat × AV)} (hl : lle lv [(0, vi x0), (1, vi x1), (2, vi x2), (3, vi x3)]) : V G X 7 h0 Q h 4 lv [] := by
  refine V.sub hl ?_
  unfold X7_seenBy_4b at hf
  refine v_iload_n ok 3 dX7_seenBy_4 rfl rfl ?_
  refine v_iconst ok 5 dX7_seenBy_5 rfl ?_
  refine v_icmp_ge ok 98 dX7_seenBy_6 rfl hf (fun hf => ?_) (fun hf => ?_)
  ·
    refine v_iload_n ok 2 dX7_seenBy_98 rfl rfl ?_
    exact v_iret ok hr (by cases hf; exact hk) dX7_seenBy_99
  ·
    refine v_iconst ok 0 dX7_seenBy_9 rfl ?_
    refine v_istore ok dX7_seenBy_10 (by decide) ?_
    exact W_X7_seenBy_12 ok hr hd hf hk ⟨rfl, rfl, rfl, rfl, rfl, trivial⟩
theorem W_X7_seenBy_4 {G : GT} {X : CX} {d : Nat} {h0 : AH} {Q : State → Prop} (ok : Ok G X RX7 cX7_seenBy 7 d h0) (hr : (cxm X).sig.returnType = (Option.some Jvm.ClassFile.FieldType.int)) (hd : 1 ≤ d) {x0 : Int32} {x1 : Int32} {x2 : Int32} {x3 : Int32} {h : AH} {z : (Int32 × AH)} (hf : X7_seenBy_4  x0 x1 x2 x3 h = some z) (hk : Q = QM G X h0 (some (vi z.1)) z.2) {lv : List (Nat × AV)} (hl : lle lv [(0, vi x0), (1, vi x1), (2, vi x2), (3, vi x3)]) : V G X 7 h0 Q h 4 lv [] := by
  unfold X7_seenBy_4 at hf
  exact loopC_walk (Wh := fun s : Int32 × Int32 × AH => ∀ lv : List (Nat × AV), lle lv [(0, vi x0), (1, vi x1), (2, vi s.1), (3, vi s.2.1)] → V G X 7 h0 Q s.2.2 4 lv []) (PK := fun z => Q = QM G X h0 (some (vi z.1)) z.2) (fun s o hf hk lv hl => W_X7_seenBy_4b ok hr hd hf (by cases o <;> exact hk) hl) _ z hf hk lv hl
theorem W_X7_seenBy {G : GT} {X : CX} {d : Nat} {h0 : AH} {Q : State → Prop} (ok : Ok G X RX7 cX7_seenBy 7 d h0) (hr : (cxm X).sig.returnType = (Option.some Jvm.ClassFile.FieldType.int)) (hd : 1 ≤ d) {x0 : Int32} {x1 : Int32} {h : AH} {z : (Int32 × AH)} (hf : X7_seenBy x0 x1 h = some z) (hk : Q = QM G X h0 (some (vi z.1)) z.2) {lv : List (Nat × AV)} (hl : lle lv [(0, vi x0), (1, vi x1)]) : V G X 7 h0 Q h 0 lv [] := by
  refine V.sub hl ?_
  unfold X7_seenBy at hf
  refine v_iconst ok 0 dX7_seenBy_0 rfl ?_
  refine v_istore_n ok 2 dX7_seenBy_1 rfl (by decide) ?_
  refine v_iconst ok 0 dX7_seenBy_2 rfl ?_
  refine v_istore_n ok 3 dX7_seenBy_3 rfl (by decide) ?_
  exact W_X7_seenBy_4 ok hr hd hf hk ⟨rfl, rfl, rfl, rfl, trivial⟩
theorem M_X7_seenBy {G : GT} {l : Launch} (hG : Glob G) {d : Nat} (hd : 1 ≤ d) {x0 : Int32} {x1 : Int32} {h : AH} {v : Int32} {h' : AH} (hf : X7_seenBy x0 x1 h = some (v, h')) : MM G l yX7_seenBy cX7_seenBy 7 (Option.some Jvm.ClassFile.FieldType.int) d [vi x0, vi x1] h (some (vi v)) h' := by
  refine mm_of hG (plainFor_of_name (by decide)) (Nat.le_of_ble_eq_true rfl) (fun X hX ok hr hnm => ?_)
  subst hX
  exact W_X7_seenBy ok hr hd hf rfl ⟨rfl, rfl, trivial⟩
theorem cw_X7_seen : CW yX7_seen cX7_seen 3 (Option.some Jvm.ClassFile.FieldType.int) 2 := ⟨q2437, q185, ⟨by decide, by decide⟩, by decide +kernel, by decide⟩
theorem W_X7_seen {G : GT} {X : CX} {d : Nat} {h0 : AH} {Q : State → Prop} (ok : Ok G X RX7 cX7_seen 3 d h0) (hr : (cxm X).sig.returnType = (Option.some Jvm.ClassFile.FieldType.int)) (hd : 3 ≤ d) {a0 : Nat} {x1 : Int32} {x2 : Int32} {h : AH} {z : (Int32 × AH)} (hf : X7_seen a0 x1 x2 h = some z) (hk : Q = QM G X h0 (some (vi z.1)) z.2) {lv : List (Nat × AV)} (hl : lle lv [(0, vr (some a0)), (1, vi x1), (2, vi x2)]) : V G X 3 h0 Q h 0 lv [] := by
  refine V.sub hl ?_
  unfold X7_seen at hf
  refine v_aload_n ok 0 dX7_seen_0 rfl rfl ?_
  refine v_iload_n ok 1 dX7_seen_1 rfl rfl ?_
  refine v_cVi ok (RX7, TX7, 117) cf_7.1 [vi x1] (F := fun a => X7_isGlyph a x1 h) (fun a v h1 _ hv => M_X7_isGlyph ok.2.2.2.2.2.2.1 (d := 2) (Nat.le_refl _) hv) (by exact Nat.le_trans (by decide) hd) cw_X7_isGlyph q2438 q2440 qs125 dX7_seen_2 [] rfl (Nat.le_of_ble_eq_true rfl) hf (fun v1 h2 hf => ?_)
  refine v_if_eq ok 28 dX7_seen_5 rfl hf (fun hf => ?_) (fun hf => ?_)
  ·
    refine v_iconst ok (-1) dX7_seen_28 rfl ?_
    exact v_iret ok hr (by cases hf; exact hk) dX7_seen_29
  ·
    refine v_iload_n ok 2 dX7_seen_8 rfl rfl ?_
    refine v_i2l ok dX7_seen_9 ?_
    refine v_lconst ok 0 dX7_seen_10 rfl ?_
    refine v_ldc2 ok q2443 dX7_seen_11 ?_
    refine v_cSi ok [vl (Int32.toInt64 x2), vl 0, vl 3] (F := X7_isIn (Int32.toInt64 x2) 0 3 h2) (fun v h1 hv => M_X7_isIn ok.2.2.2.2.2.2.1 (d := 1) (Nat.le_refl _) hv) (by exact Nat.le_trans (by decide) hd) cw_X7_isIn q2215 q2216 dX7_seen_14 [] rfl (Nat.le_of_ble_eq_true rfl) hf (fun v3 h4 hf => ?_)
    refine v_if_eq ok 28 dX7_seen_17 rfl hf (fun hf => ?_) (fun hf => ?_)
    ·
      refine v_iconst ok (-1) dX7_seen_28 rfl ?_
      exact v_iret ok hr (by cases hf; exact hk) dX7_seen_29
    ·
      refine v_iload_n ok 1 dX7_seen_20 rfl rfl ?_
      refine v_iload_n ok 2 dX7_seen_21 rfl rfl ?_
      refine v_cSi ok [vi x1, vi x2] (F := X7_seenBy x1 x2 h4) (fun v h1 hv => M_X7_seenBy ok.2.2.2.2.2.2.1 (d := 1) (Nat.le_refl _) hv) (by exact Nat.le_trans (by decide) hd) cw_X7_seenBy q2444 q2445 dX7_seen_22 [] rfl (Nat.le_of_ble_eq_true rfl) hf (fun v5 h6 hf => ?_)
      refine v_goto ok 29 dX7_seen_25 rfl ?_
      exact v_iret ok hr (by cases hf; exact hk) dX7_seen_29
theorem M_X7_seen {G : GT} {l : Launch} (hG : Glob G) {d : Nat} (hd : 3 ≤ d) {a0 : Nat} {x1 : Int32} {x2 : Int32} {h : AH} {v : Int32} {h' : AH} (hf : X7_seen a0 x1 x2 h = some (v, h')) : MM G l yX7_seen cX7_seen 3 (Option.some Jvm.ClassFile.FieldType.int) d [vr (some a0), vi x1, vi x2] h (some (vi v)) h' := by
  refine mm_of hG (plainFor_of_name (by decide)) (Nat.le_of_ble_eq_true rfl) (fun X hX ok hr hnm => ?_)
  subst hX
  exact W_X7_seen ok hr hd hf rfl ⟨rfl, rfl, rfl, trivial⟩
theorem cw_X7_qClip : CW yX7_qClip cX7_qClip 2 (Option.some Jvm.ClassFile.FieldType.long) 1 := ⟨q2477, q185, ⟨by decide, by decide⟩, by decide +kernel, by decide⟩
theorem W_X7_qClip {G : GT} {X : CX} {d : Nat} {h0 : AH} {Q : State → Prop} (ok : Ok G X RX7 cX7_qClip 2 d h0) (hr : (cxm X).sig.returnType = (Option.some Jvm.ClassFile.FieldType.long)) (hd : 1 ≤ d) {x0 : Int64} {h : AH} {z : (Int64 × AH)} (hf : X7_qClip x0 h = some z) (hk : Q = QM G X h0 (some (vl z.1)) z.2) {lv : List (Nat × AV)} (hl : lle lv [(0, vl x0)]) : V G X 2 h0 Q h 0 lv [] := by
  refine V.sub hl ?_
  unfold X7_qClip at hf
  refine v_lload_n ok 0 dX7_qClip_0 rfl rfl ?_
  refine v_ldc2 ok q2478 dX7_qClip_1 ?_
  refine v_lcmp ok dX7_qClip_4 ?_
  refine v_if_le ok 14 dX7_qClip_5 rfl hf (fun hf => ?_) (fun hf => ?_)
  ·
    refine v_lload_n ok 0 dX7_qClip_14 rfl rfl ?_
    refine v_ldc2 ok q2479 dX7_qClip_15 ?_
    refine v_lcmp ok dX7_qClip_18 ?_
    refine v_if_ge ok 28 dX7_qClip_19 rfl hf (fun hf => ?_) (fun hf => ?_)
    ·
      refine v_lload_n ok 0 dX7_qClip_28 rfl rfl ?_
      exact v_lret ok hr (by cases hf; exact hk) dX7_qClip_29
    ·
      refine v_ldc2 ok q2479 dX7_qClip_22 ?_
      refine v_goto ok 29 dX7_qClip_25 rfl ?_
      exact v_lret ok hr (by cases hf; exact hk) dX7_qClip_29
  ·
    refine v_ldc2 ok q2478 dX7_qClip_8 ?_
    refine v_goto ok 29 dX7_qClip_11 rfl ?_
    exact v_lret ok hr (by cases hf; exact hk) dX7_qClip_29
theorem M_X7_qClip {G : GT} {l : Launch} (hG : Glob G) {d : Nat} (hd : 1 ≤ d) {x0 : Int64} {h : AH} {v : Int64} {h' : AH} (hf : X7_qClip x0 h = some (v, h')) : MM G l yX7_qClip cX7_qClip 2 (Option.some Jvm.ClassFile.FieldType.long) d [vl x0] h (some (vl v)) h' := by
  refine mm_of hG (plainFor_of_name (by decide)) (Nat.le_of_ble_eq_true rfl) (fun X hX ok hr hnm => ?_)
  subst hX
  exact W_X7_qClip ok hr hd hf rfl ⟨rfl, trivial⟩
theorem cw_X7_qFloor : CW yX7_qFloor cX7_qFloor 6 (Option.some Jvm.ClassFile.FieldType.long) 2 := ⟨q2482, q185, ⟨by decide, by decide⟩, by decide +kernel, by decide⟩
theorem W_X7_qFloor_43 {G : GT} {X : CX} {d : Nat} {h0 : AH} {Q : State → Prop} (ok : Ok G X RX7 cX7_qFloor 6 d h0) (hr : (cxm X).sig.returnType = (Option.some Jvm.ClassFile.FieldType.long)) (hd : 1 ≤ d) {x4 : Int64} {s0 : Int32} {s1 : Int32} {h : AH} {z : (Int64 × AH)} (hf : X7_qFloor_43 x4 s0 s1 h = some z) (hk : Q = QM G X h0 (some (vl z.1)) z.2) {lv : List (Nat × AV)} (hl : lle lv [(4, vl x4)]) : V G X 6 h0 Q h 43 lv [vi s1, vi s0] := by
  refine V.sub hl ?_
  unfold X7_qFloor_43 at hf
  refine v_icmp_eq ok 53 dX7_qFloor_43 rfl hf (fun hf => ?_) (fun hf => ?_)
  ·
    refine v_lload ok dX7_qFloor_53 rfl ?_
    exact v_lret ok hr (by cases hf; exact hk) dX7_qFloor_55
  ·
    refine v_lload ok dX7_qFloor_46 rfl ?_
    refine v_lconst ok 1 dX7_qFloor_48 rfl ?_
    refine v_lsub ok dX7_qFloor_49 ?_
    refine v_goto ok 55 dX7_qFloor_50 rfl ?_
    exact v_lret ok hr (by cases hf; exact hk) dX7_qFloor_55
theorem W_X7_qFloor_32 {G : GT} {X : CX} {d : Nat} {h0 : AH} {Q : State → Prop} (ok : Ok G X RX7 cX7_qFloor 6 d h0) (hr : (cxm X).sig.returnType = (Option.some Jvm.ClassFile.FieldType.long)) (hd : 1 ≤ d) {x2 : Int64} {x4 : Int64} {s0 : Int32} {h : AH} {z : (Int64 × AH)} (hf : X7_qFloor_32 x2 x4 s0 h = some z) (hk : Q = QM G X h0 (some (vl z.1)) z.2) {lv : List (Nat × AV)} (hl : lle lv [(2, vl x2), (4, vl x4)]) : V G X 6 h0 Q h 32 lv [vi s0] := by
  refine V.sub hl ?_
  unfold X7_qFloor_32 at hf
  refine v_lload_n ok 2 dX7_qFloor_32 rfl rfl ?_
  refine v_lconst ok 0 dX7_qFloor_33 rfl ?_
  refine v_lcmp ok dX7_qFloor_34 ?_
  refine v_if_ge ok 42 dX7_qFloor_35 rfl hf (fun hf => ?_) (fun hf => ?_)
  ·
    refine v_iconst ok 0 dX7_qFloor_42 rfl ?_
    exact W_X7_qFloor_43 ok hr hd hf hk ⟨rfl, trivial⟩
  ·
    refine v_iconst ok 1 dX7_qFloor_38 rfl ?_
    refine v_goto ok 43 dX7_qFloor_39 rfl ?_
    exact W_X7_qFloor_43 ok hr hd hf hk ⟨rfl, trivial⟩
theorem W_X7_qFloor {G : GT} {X : CX} {d : Nat} {h0 : AH} {Q : State → Prop} (ok : Ok G X RX7 cX7_qFloor 6 d h0) (hr : (cxm X).sig.returnType = (Option.some Jvm.ClassFile.FieldType.long)) (hd : 1 ≤ d) {x0 : Int64} {x2 : Int64} {h : AH} {z : (Int64 × AH)} (hf : X7_qFloor x0 x2 h = some z) (hk : Q = QM G X h0 (some (vl z.1)) z.2) {lv : List (Nat × AV)} (hl : lle lv [(0, vl x0), (2, vl x2)]) : V G X 6 h0 Q h 0 lv [] := by
  refine V.sub hl ?_
  unfold X7_qFloor at hf
  refine v_lload_n ok 2 dX7_qFloor_0 rfl rfl ?_
  refine v_lconst ok 0 dX7_qFloor_1 rfl ?_
  refine v_lcmp ok dX7_qFloor_2 ?_
  refine v_if_ne ok 8 dX7_qFloor_3 rfl hf (fun hf => ?_) (fun hf => ?_)
  ·
    refine v_lload_n ok 0 dX7_qFloor_8 rfl rfl ?_
    refine v_lload_n ok 2 dX7_qFloor_9 rfl rfl ?_
    refine v_ldiv ok dX7_qFloor_10 hf (fun hf => ?_)
    refine v_lstore ok dX7_qFloor_11 (by decide) ?_
    refine v_lload_n ok 0 dX7_qFloor_13 rfl rfl ?_
    refine v_lload_n ok 2 dX7_qFloor_14 rfl rfl ?_
    refine v_lrem ok dX7_qFloor_15 hf (fun hf => ?_)
    refine v_lconst ok 0 dX7_qFloor_16 rfl ?_
    refine v_lcmp ok dX7_qFloor_17 ?_
    refine v_if_eq ok 53 dX7_qFloor_18 rfl hf (fun hf => ?_) (fun hf => ?_)
    ·
      refine v_lload ok dX7_qFloor_53 rfl ?_
      exact v_lret ok hr (by cases hf; exact hk) dX7_qFloor_55
    ·
      refine v_lload_n ok 0 dX7_qFloor_21 rfl rfl ?_
      refine v_lconst ok 0 dX7_qFloor_22 rfl ?_
      refine v_lcmp ok dX7_qFloor_23 ?_
      refine v_if_ge ok 31 dX7_qFloor_24 rfl hf (fun hf => ?_) (fun hf => ?_)
      ·
        refine v_iconst ok 0 dX7_qFloor_31 rfl ?_
        exact W_X7_qFloor_32 ok hr hd hf hk ⟨rfl, rfl, trivial⟩
      ·
        refine v_iconst ok 1 dX7_qFloor_27 rfl ?_
        refine v_goto ok 32 dX7_qFloor_28 rfl ?_
        exact W_X7_qFloor_32 ok hr hd hf hk ⟨rfl, rfl, trivial⟩
  ·
    refine v_lconst ok 0 dX7_qFloor_6 rfl ?_
    exact v_lret ok hr (by cases hf; exact hk) dX7_qFloor_7
theorem M_X7_qFloor {G : GT} {l : Launch} (hG : Glob G) {d : Nat} (hd : 1 ≤ d) {x0 : Int64} {x2 : Int64} {h : AH} {v : Int64} {h' : AH} (hf : X7_qFloor x0 x2 h = some (v, h')) : MM G l yX7_qFloor cX7_qFloor 6 (Option.some Jvm.ClassFile.FieldType.long) d [vl x0, vl x2] h (some (vl v)) h' := by
  refine mm_of hG (plainFor_of_name (by decide)) (Nat.le_of_ble_eq_true rfl) (fun X hX ok hr hnm => ?_)
  subst hX
  exact W_X7_qFloor ok hr hd hf rfl ⟨rfl, rfl, trivial⟩
theorem cw_X7_qPuts : CW yX7_qPuts cX7_qPuts 3 none 1 := ⟨q2462, q185, ⟨by decide, by decide⟩, by decide +kernel, by decide⟩
theorem W_X7_qPuts {G : GT} {X : CX} {d : Nat} {h0 : AH} {Q : State → Prop} (ok : Ok G X RX7 cX7_qPuts 3 d h0) (hr : (cxm X).sig.returnType = none) (hd : 1 ≤ d) {a0 : Nat} {x1 : Int64} {h : AH} {z : (AH)} (hf : X7_qPuts a0 x1 h = some z) (hk : Q = QM G X h0 none z) {lv : List (Nat × AV)} (hl : lle lv [(0, vr (some a0)), (1, vl x1)]) : V G X 3 h0 Q h 0 lv [] := by
  refine V.sub hl ?_
  unfold X7_qPuts at hf
  refine v_aload_n ok 0 dX7_qPuts_0 rfl rfl ?_
  refine v_gR ok fl_X7_247 (by first | exact Or.inl ⟨_, rfl⟩ | exact Or.inr ⟨_, rfl⟩) dX7_qPuts_1 hf (fun v1 hf => ?_)
  refine v_aload_n ok 0 dX7_qPuts_4 rfl rfl ?_
  refine v_gI ok fl_X7_435 (fun _ _ _ => rfl) dX7_qPuts_5 hf (fun v2 hf => ?_)
  refine v_lload_n ok 1 dX7_qPuts_8 rfl rfl ?_
  refine v_last ok rfl dX7_qPuts_9 hf (fun h3 hf => ?_)
  refine v_aload_n ok 0 dX7_qPuts_10 rfl rfl ?_
  refine v_dup ok dX7_qPuts_11 rfl ?_
  refine v_gI ok fl_X7_435 (fun _ _ _ => rfl) dX7_qPuts_12 hf (fun v4 hf => ?_)
  refine v_iconst ok 1 dX7_qPuts_15 rfl ?_
  refine v_iadd ok dX7_qPuts_16 ?_
  refine v_pI ok fl_X7_435 ⟨fun _ _ _ => rfl, rfl⟩ (FN.of cf_7.1 rfl) dX7_qPuts_17 hf (fun h5 hf => ?_)
  exact v_vret ok hr (by cases hf; exact hk) dX7_qPuts_20
theorem M_X7_qPuts {G : GT} {l : Launch} (hG : Glob G) {d : Nat} (hd : 1 ≤ d) {a0 : Nat} {x1 : Int64} {h : AH} {h' : AH} (hf : X7_qPuts a0 x1 h = some h') : MM G l yX7_qPuts cX7_qPuts 3 none d [vr (some a0), vl x1] h none h' := by
  refine mm_of hG (plainFor_of_name (by decide)) (Nat.le_of_ble_eq_true rfl) (fun X hX ok hr hnm => ?_)
  subst hX
  exact W_X7_qPuts ok hr hd hf rfl ⟨rfl, rfl, trivial⟩
theorem cw_X7_qJoins : CW yX7_qJoins cX7_qJoins 6 none 1 := ⟨q2474, q185, ⟨by decide, by decide⟩, by decide +kernel, by decide⟩
theorem W_X7_qJoins_161 {G : GT} {X : CX} {d : Nat} {h0 : AH} {Q : State → Prop} (ok : Ok G X RX7 cX7_qJoins 6 d h0) (hr : (cxm X).sig.returnType = none) (hd : 2 ≤ d) {s0 : Option Nat} {s1 : Int64} {h : AH} {z : (AH)} (hf : X7_qJoins_161 s0 s1 h = some z) (hk : Q = QM G X h0 none z) {lv : List (Nat × AV)} (hl : lle lv []) : V G X 6 h0 Q h 161 lv [vl s1, vr s0] := by
  refine V.sub hl ?_
  unfold X7_qJoins_161 at hf
  refine v_cVv ok (RX7, TX7, 117) cf_7.1 [vl s1] (F := fun a => X7_qPuts a s1 h) (fun a h1 _ hv => M_X7_qPuts ok.2.2.2.2.2.2.1 (d := 1) (Nat.le_refl _) hv) (by exact Nat.le_trans (by decide) hd) cw_X7_qPuts q2459 q2461 qs128 dX7_qJoins_161 [] rfl (Nat.le_of_ble_eq_true rfl) hf (fun h1 hf => ?_)
  refine v_goto ok 273 dX7_qJoins_164 rfl ?_
  exact v_vret ok hr (by cases hf; exact hk) dX7_qJoins_273
theorem W_X7_qJoins_181 {G : GT} {X : CX} {d : Nat} {h0 : AH} {Q : State → Prop} (ok : Ok G X RX7 cX7_qJoins 6 d h0) (hr : (cxm X).sig.returnType = none) (hd : 2 ≤ d) {s0 : Option Nat} {s1 : Int64} {h : AH} {z : (AH)} (hf : X7_qJoins_181 s0 s1 h = some z) (hk : Q = QM G X h0 none z) {lv : List (Nat × AV)} (hl : lle lv []) : V G X 6 h0 Q h 181 lv [vl s1, vr s0] := by
  refine V.sub hl ?_
  unfold X7_qJoins_181 at hf
  refine v_cVv ok (RX7, TX7, 117) cf_7.1 [vl s1] (F := fun a => X7_qPuts a s1 h) (fun a h1 _ hv => M_X7_qPuts ok.2.2.2.2.2.2.1 (d := 1) (Nat.le_refl _) hv) (by exact Nat.le_trans (by decide) hd) cw_X7_qPuts q2459 q2461 qs128 dX7_qJoins_181 [] rfl (Nat.le_of_ble_eq_true rfl) hf (fun h2 hf => ?_)
  refine v_goto ok 273 dX7_qJoins_184 rfl ?_
  exact v_vret ok hr (by cases hf; exact hk) dX7_qJoins_273
theorem W_X7_qJoins_200 {G : GT} {X : CX} {d : Nat} {h0 : AH} {Q : State → Prop} (ok : Ok G X RX7 cX7_qJoins 6 d h0) (hr : (cxm X).sig.returnType = none) (hd : 2 ≤ d) {s0 : Option Nat} {s1 : Int64} {h : AH} {z : (AH)} (hf : X7_qJoins_200 s0 s1 h = some z) (hk : Q = QM G X h0 none z) {lv : List (Nat × AV)} (hl : lle lv []) : V G X 6 h0 Q h 200 lv [vl s1, vr s0] := by
  refine V.sub hl ?_
  unfold X7_qJoins_200 at hf
  refine v_cVv ok (RX7, TX7, 117) cf_7.1 [vl s1] (F := fun a => X7_qPuts a s1 h) (fun a h1 _ hv => M_X7_qPuts ok.2.2.2.2.2.2.1 (d := 1) (Nat.le_refl _) hv) (by exact Nat.le_trans (by decide) hd) cw_X7_qPuts q2459 q2461 qs128 dX7_qJoins_200 [] rfl (Nat.le_of_ble_eq_true rfl) hf (fun h3 hf => ?_)
  refine v_goto ok 273 dX7_qJoins_203 rfl ?_
  exact v_vret ok hr (by cases hf; exact hk) dX7_qJoins_273
theorem W_X7_qJoins_219 {G : GT} {X : CX} {d : Nat} {h0 : AH} {Q : State → Prop} (ok : Ok G X RX7 cX7_qJoins 6 d h0) (hr : (cxm X).sig.returnType = none) (hd : 2 ≤ d) {s0 : Option Nat} {s1 : Int64} {h : AH} {z : (AH)} (hf : X7_qJoins_219 s0 s1 h = some z) (hk : Q = QM G X h0 none z) {lv : List (Nat × AV)} (hl : lle lv []) : V G X 6 h0 Q h 219 lv [vl s1, vr s0] := by
  refine V.sub hl ?_
  unfold X7_qJoins_219 at hf
  refine v_cVv ok (RX7, TX7, 117) cf_7.1 [vl s1] (F := fun a => X7_qPuts a s1 h) (fun a h1 _ hv => M_X7_qPuts ok.2.2.2.2.2.2.1 (d := 1) (Nat.le_refl _) hv) (by exact Nat.le_trans (by decide) hd) cw_X7_qPuts q2459 q2461 qs128 dX7_qJoins_219 [] rfl (Nat.le_of_ble_eq_true rfl) hf (fun h4 hf => ?_)
  refine v_goto ok 273 dX7_qJoins_222 rfl ?_
  exact v_vret ok hr (by cases hf; exact hk) dX7_qJoins_273
theorem W_X7_qJoins_238 {G : GT} {X : CX} {d : Nat} {h0 : AH} {Q : State → Prop} (ok : Ok G X RX7 cX7_qJoins 6 d h0) (hr : (cxm X).sig.returnType = none) (hd : 2 ≤ d) {s0 : Option Nat} {s1 : Int64} {h : AH} {z : (AH)} (hf : X7_qJoins_238 s0 s1 h = some z) (hk : Q = QM G X h0 none z) {lv : List (Nat × AV)} (hl : lle lv []) : V G X 6 h0 Q h 238 lv [vl s1, vr s0] := by
  refine V.sub hl ?_
  unfold X7_qJoins_238 at hf
  refine v_cVv ok (RX7, TX7, 117) cf_7.1 [vl s1] (F := fun a => X7_qPuts a s1 h) (fun a h1 _ hv => M_X7_qPuts ok.2.2.2.2.2.2.1 (d := 1) (Nat.le_refl _) hv) (by exact Nat.le_trans (by decide) hd) cw_X7_qPuts q2459 q2461 qs128 dX7_qJoins_238 [] rfl (Nat.le_of_ble_eq_true rfl) hf (fun h5 hf => ?_)
  refine v_goto ok 273 dX7_qJoins_241 rfl ?_
  exact v_vret ok hr (by cases hf; exact hk) dX7_qJoins_273
theorem W_X7_qJoins_270 {G : GT} {X : CX} {d : Nat} {h0 : AH} {Q : State → Prop} (ok : Ok G X RX7 cX7_qJoins 6 d h0) (hr : (cxm X).sig.returnType = none) (hd : 2 ≤ d) {s0 : Option Nat} {s1 : Int64} {h : AH} {z : (AH)} (hf : X7_qJoins_270 s0 s1 h = some z) (hk : Q = QM G X h0 none z) {lv : List (Nat × AV)} (hl : lle lv []) : V G X 6 h0 Q h 270 lv [vl s1, vr s0] := by
  refine V.sub hl ?_
  unfold X7_qJoins_270 at hf
  refine v_cVv ok (RX7, TX7, 117) cf_7.1 [vl s1] (F := fun a => X7_qPuts a s1 h) (fun a h1 _ hv => M_X7_qPuts ok.2.2.2.2.2.2.1 (d := 1) (Nat.le_refl _) hv) (by exact Nat.le_trans (by decide) hd) cw_X7_qPuts q2459 q2461 qs128 dX7_qJoins_270 [] rfl (Nat.le_of_ble_eq_true rfl) hf (fun h6 hf => ?_)
  exact v_vret ok hr (by cases hf; exact hk) dX7_qJoins_273
theorem W_X7_qJoins {G : GT} {X : CX} {d : Nat} {h0 : AH} {Q : State → Prop} (ok : Ok G X RX7 cX7_qJoins 6 d h0) (hr : (cxm X).sig.returnType = none) (hd : 2 ≤ d) {a0 : Nat} {x1 : Int32} {h : AH} {z : (AH)} (hf : X7_qJoins a0 x1 h = some z) (hk : Q = QM G X h0 none z) {lv : List (Nat × AV)} (hl : lle lv [(0, vr (some a0)), (1, vi x1)]) : V G X 6 h0 Q h 0 lv [] := by
  refine V.sub hl ?_
  unfold X7_qJoins at hf
  refine v_aload_n ok 0 dX7_qJoins_0 rfl rfl ?_
  refine v_gR ok fl_X7_247 (by first | exact Or.inl ⟨_, rfl⟩ | exact Or.inr ⟨_, rfl⟩) dX7_qJoins_1 hf (fun v7 hf => ?_)
  refine v_aload_n ok 0 dX7_qJoins_4 rfl rfl ?_
  refine v_gI ok fl_X7_435 (fun _ _ _ => rfl) dX7_qJoins_5 hf (fun v8 hf => ?_)
  refine v_iconst ok 1 dX7_qJoins_8 rfl ?_
  refine v_isub ok dX7_qJoins_9 ?_
  refine v_lald ok rfl dX7_qJoins_10 hf (fun v9 hf => ?_)
  refine v_lstore_n ok 2 dX7_qJoins_11 rfl (by decide) ?_
  refine v_aload_n ok 0 dX7_qJoins_12 rfl rfl ?_
  refine v_gR ok fl_X7_247 (by first | exact Or.inl ⟨_, rfl⟩ | exact Or.inr ⟨_, rfl⟩) dX7_qJoins_13 hf (fun v10 hf => ?_)
  refine v_aload_n ok 0 dX7_qJoins_16 rfl rfl ?_
  refine v_gI ok fl_X7_435 (fun _ _ _ => rfl) dX7_qJoins_17 hf (fun v11 hf => ?_)
  refine v_iconst ok 2 dX7_qJoins_20 rfl ?_
  refine v_isub ok dX7_qJoins_21 ?_
  refine v_lald ok rfl dX7_qJoins_22 hf (fun v12 hf => ?_)
  refine v_lstore ok dX7_qJoins_23 (by decide) ?_
  refine v_aload_n ok 0 dX7_qJoins_25 rfl rfl ?_
  refine v_dup ok dX7_qJoins_26 rfl ?_
  refine v_gI ok fl_X7_435 (fun _ _ _ => rfl) dX7_qJoins_27 hf (fun v13 hf => ?_)
  refine v_iconst ok 2 dX7_qJoins_30 rfl ?_
  refine v_isub ok dX7_qJoins_31 ?_
  refine v_pI ok fl_X7_435 ⟨fun _ _ _ => rfl, rfl⟩ (FN.of cf_7.1 rfl) dX7_qJoins_32 hf (fun h14 hf => ?_)
  refine v_iload_n ok 1 dX7_qJoins_35 rfl rfl ?_
  refine sw_if (v := 1) hf (fun e_ hf => ?_) (fun n15 hf => ?_)
  ·
    refine v_tableIn ok 1 92 dX7_qJoins_36 e_ (by decide) (by decide) rfl rfl ?_
    refine v_aload_n ok 0 dX7_qJoins_92 rfl rfl ?_
    refine v_lload ok dX7_qJoins_93 rfl ?_
    refine v_lload_n ok 2 dX7_qJoins_95 rfl rfl ?_
    refine v_ladd ok dX7_qJoins_96 ?_
    refine v_cSl ok [vl (v12 + v9)] (F := X7_qClip (v12 + v9) h14) (fun v h1 hv => M_X7_qClip ok.2.2.2.2.2.2.1 (d := 1) (Nat.le_refl _) hv) (by exact Nat.le_trans (by decide) hd) cw_X7_qClip q2475 q2476 dX7_qJoins_97 [vr (some a0)] rfl (Nat.le_of_ble_eq_true rfl) hf (fun v16 h17 hf => ?_)
    refine v_cVv ok (RX7, TX7, 117) cf_7.1 [vl v16] (F := fun a => X7_qPuts a v16 h17) (fun a h1 _ hv => M_X7_qPuts ok.2.2.2.2.2.2.1 (d := 1) (Nat.le_refl _) hv) (by exact Nat.le_trans (by decide) hd) cw_X7_qPuts q2459 q2461 qs128 dX7_qJoins_100 [] rfl (Nat.le_of_ble_eq_true rfl) hf (fun h18 hf => ?_)
    refine v_goto ok 273 dX7_qJoins_103 rfl ?_
    exact v_vret ok hr (by cases hf; exact hk) dX7_qJoins_273
  ·
    refine sw_if (v := 2) hf (fun e_ hf => ?_) (fun n19 hf => ?_)
    ·
      refine v_tableIn ok 2 106 dX7_qJoins_36 e_ (by decide) (by decide) rfl rfl ?_
      refine v_aload_n ok 0 dX7_qJoins_106 rfl rfl ?_
      refine v_lload ok dX7_qJoins_107 rfl ?_
      refine v_lload_n ok 2 dX7_qJoins_109 rfl rfl ?_
      refine v_lsub ok dX7_qJoins_110 ?_
      refine v_cSl ok [vl (v12 - v9)] (F := X7_qClip (v12 - v9) h14) (fun v h1 hv => M_X7_qClip ok.2.2.2.2.2.2.1 (d := 1) (Nat.le_refl _) hv) (by exact Nat.le_trans (by decide) hd) cw_X7_qClip q2475 q2476 dX7_qJoins_111 [vr (some a0)] rfl (Nat.le_of_ble_eq_true rfl) hf (fun v20 h21 hf => ?_)
      refine v_cVv ok (RX7, TX7, 117) cf_7.1 [vl v20] (F := fun a => X7_qPuts a v20 h21) (fun a h1 _ hv => M_X7_qPuts ok.2.2.2.2.2.2.1 (d := 1) (Nat.le_refl _) hv) (by exact Nat.le_trans (by decide) hd) cw_X7_qPuts q2459 q2461 qs128 dX7_qJoins_114 [] rfl (Nat.le_of_ble_eq_true rfl) hf (fun h22 hf => ?_)
      refine v_goto ok 273 dX7_qJoins_117 rfl ?_
      exact v_vret ok hr (by cases hf; exact hk) dX7_qJoins_273
    ·
      refine sw_if (v := 3) hf (fun e_ hf => ?_) (fun n23 hf => ?_)
      ·
        refine v_tableIn ok 3 120 dX7_qJoins_36 e_ (by decide) (by decide) rfl rfl ?_
        refine v_aload_n ok 0 dX7_qJoins_120 rfl rfl ?_
        refine v_lload ok dX7_qJoins_121 rfl ?_
        refine v_lload_n ok 2 dX7_qJoins_123 rfl rfl ?_
        refine v_lmul ok dX7_qJoins_124 ?_
        refine v_cSl ok [vl (v12 * v9)] (F := X7_qClip (v12 * v9) h14) (fun v h1 hv => M_X7_qClip ok.2.2.2.2.2.2.1 (d := 1) (Nat.le_refl _) hv) (by exact Nat.le_trans (by decide) hd) cw_X7_qClip q2475 q2476 dX7_qJoins_125 [vr (some a0)] rfl (Nat.le_of_ble_eq_true rfl) hf (fun v24 h25 hf => ?_)
        refine v_cVv ok (RX7, TX7, 117) cf_7.1 [vl v24] (F := fun a => X7_qPuts a v24 h25) (fun a h1 _ hv => M_X7_qPuts ok.2.2.2.2.2.2.1 (d := 1) (Nat.le_refl _) hv) (by exact Nat.le_trans (by decide) hd) cw_X7_qPuts q2459 q2461 qs128 dX7_qJoins_128 [] rfl (Nat.le_of_ble_eq_true rfl) hf (fun h26 hf => ?_)
        refine v_goto ok 273 dX7_qJoins_131 rfl ?_
        exact v_vret ok hr (by cases hf; exact hk) dX7_qJoins_273
      ·
        refine sw_if (v := 4) hf (fun e_ hf => ?_) (fun n27 hf => ?_)
        ·
          refine v_tableIn ok 4 134 dX7_qJoins_36 e_ (by decide) (by decide) rfl rfl ?_
          refine v_aload_n ok 0 dX7_qJoins_134 rfl rfl ?_
          refine v_lload ok dX7_qJoins_135 rfl ?_
          refine v_lload_n ok 2 dX7_qJoins_137 rfl rfl ?_
          refine v_cSl ok [vl v12, vl v9] (F := X7_qFloor v12 v9 h14) (fun v h1 hv => M_X7_qFloor ok.2.2.2.2.2.2.1 (d := 1) (Nat.le_refl _) hv) (by exact Nat.le_trans (by decide) hd) cw_X7_qFloor q2480 q2481 dX7_qJoins_138 [vr (some a0)] rfl (Nat.le_of_ble_eq_true rfl) hf (fun v28 h29 hf => ?_)
          refine v_cVv ok (RX7, TX7, 117) cf_7.1 [vl v28] (F := fun a => X7_qPuts a v28 h29) (fun a h1 _ hv => M_X7_qPuts ok.2.2.2.2.2.2.1 (d := 1) (Nat.le_refl _) hv) (by exact Nat.le_trans (by decide) hd) cw_X7_qPuts q2459 q2461 qs128 dX7_qJoins_141 [] rfl (Nat.le_of_ble_eq_true rfl) hf (fun h30 hf => ?_)
          refine v_goto ok 273 dX7_qJoins_144 rfl ?_
          exact v_vret ok hr (by cases hf; exact hk) dX7_qJoins_273
        ·
          refine sw_if (v := 5) hf (fun e_ hf => ?_) (fun n31 hf => ?_)
          ·
            refine v_tableIn ok 5 147 dX7_qJoins_36 e_ (by decide) (by decide) rfl rfl ?_
            refine v_aload_n ok 0 dX7_qJoins_147 rfl rfl ?_
            refine v_lload ok dX7_qJoins_148 rfl ?_
            refine v_lload_n ok 2 dX7_qJoins_150 rfl rfl ?_
            refine v_lcmp ok dX7_qJoins_151 ?_
            refine v_if_ge ok 160 dX7_qJoins_152 rfl hf (fun hf => ?_) (fun hf => ?_)
            ·
              refine v_lload_n ok 2 dX7_qJoins_160 rfl rfl ?_
              exact W_X7_qJoins_161 ok hr hd hf hk trivial
            ·
              refine v_lload ok dX7_qJoins_155 rfl ?_
              refine v_goto ok 161 dX7_qJoins_157 rfl ?_
              exact W_X7_qJoins_161 ok hr hd hf hk trivial
          ·
            refine sw_if (v := 6) hf (fun e_ hf => ?_) (fun n32 hf => ?_)
            ·
              refine v_tableIn ok 6 167 dX7_qJoins_36 e_ (by decide) (by decide) rfl rfl ?_
              refine v_aload_n ok 0 dX7_qJoins_167 rfl rfl ?_
              refine v_lload ok dX7_qJoins_168 rfl ?_
              refine v_lload_n ok 2 dX7_qJoins_170 rfl rfl ?_
              refine v_lcmp ok dX7_qJoins_171 ?_
              refine v_if_le ok 180 dX7_qJoins_172 rfl hf (fun hf => ?_) (fun hf => ?_)
              ·
                refine v_lload_n ok 2 dX7_qJoins_180 rfl rfl ?_
                exact W_X7_qJoins_181 ok hr hd hf hk trivial
              ·
                refine v_lload ok dX7_qJoins_175 rfl ?_
                refine v_goto ok 181 dX7_qJoins_177 rfl ?_
                exact W_X7_qJoins_181 ok hr hd hf hk trivial
            ·
              refine sw_if (v := 7) hf (fun e_ hf => ?_) (fun n33 hf => ?_)
              ·
                refine v_tableIn ok 7 187 dX7_qJoins_36 e_ (by decide) (by decide) rfl rfl ?_
                refine v_aload_n ok 0 dX7_qJoins_187 rfl rfl ?_
                refine v_lload ok dX7_qJoins_188 rfl ?_
                refine v_lload_n ok 2 dX7_qJoins_190 rfl rfl ?_
                refine v_lcmp ok dX7_qJoins_191 ?_
                refine v_if_ge ok 199 dX7_qJoins_192 rfl hf (fun hf => ?_) (fun hf => ?_)
                ·
                  refine v_lconst ok 0 dX7_qJoins_199 rfl ?_
                  exact W_X7_qJoins_200 ok hr hd hf hk trivial
                ·
                  refine v_lconst ok 1 dX7_qJoins_195 rfl ?_
                  refine v_goto ok 200 dX7_qJoins_196 rfl ?_
                  exact W_X7_qJoins_200 ok hr hd hf hk trivial
              ·
                refine sw_if (v := 8) hf (fun e_ hf => ?_) (fun n34 hf => ?_)
                ·
                  refine v_tableIn ok 8 206 dX7_qJoins_36 e_ (by decide) (by decide) rfl rfl ?_
                  refine v_aload_n ok 0 dX7_qJoins_206 rfl rfl ?_
                  refine v_lload ok dX7_qJoins_207 rfl ?_
                  refine v_lload_n ok 2 dX7_qJoins_209 rfl rfl ?_
                  refine v_lcmp ok dX7_qJoins_210 ?_
                  refine v_if_le ok 218 dX7_qJoins_211 rfl hf (fun hf => ?_) (fun hf => ?_)
                  ·
                    refine v_lconst ok 0 dX7_qJoins_218 rfl ?_
                    exact W_X7_qJoins_219 ok hr hd hf hk trivial
                  ·
                    refine v_lconst ok 1 dX7_qJoins_214 rfl ?_
                    refine v_goto ok 219 dX7_qJoins_215 rfl ?_
                    exact W_X7_qJoins_219 ok hr hd hf hk trivial
                ·
                  refine sw_if (v := 9) hf (fun e_ hf => ?_) (fun n35 hf => ?_)
                  ·
                    refine v_tableIn ok 9 225 dX7_qJoins_36 e_ (by decide) (by decide) rfl rfl ?_
                    refine v_aload_n ok 0 dX7_qJoins_225 rfl rfl ?_
                    refine v_lload ok dX7_qJoins_226 rfl ?_
                    refine v_lload_n ok 2 dX7_qJoins_228 rfl rfl ?_
                    refine v_lcmp ok dX7_qJoins_229 ?_
                    refine v_if_ne ok 237 dX7_qJoins_230 rfl hf (fun hf => ?_) (fun hf => ?_)
                    ·
                      refine v_lconst ok 0 dX7_qJoins_237 rfl ?_
                      exact W_X7_qJoins_238 ok hr hd hf hk trivial
                    ·
                      refine v_lconst ok 1 dX7_qJoins_233 rfl ?_
                      refine v_goto ok 238 dX7_qJoins_234 rfl ?_
                      exact W_X7_qJoins_238 ok hr hd hf hk trivial
                  ·
                    refine sw_if (v := 10) hf (fun e_ hf => ?_) (fun n36 hf => ?_)
                    ·
                      refine v_tableIn ok 10 244 dX7_qJoins_36 e_ (by decide) (by decide) rfl rfl ?_
                      refine v_aload_n ok 0 dX7_qJoins_244 rfl rfl ?_
                      refine v_lload ok dX7_qJoins_245 rfl ?_
                      refine v_lload_n ok 2 dX7_qJoins_247 rfl rfl ?_
                      refine v_lmul ok dX7_qJoins_248 ?_
                      refine v_cVv ok (RX7, TX7, 117) cf_7.1 [vl (v12 * v9)] (F := fun a => X7_qPuts a (v12 * v9) h14) (fun a h1 _ hv => M_X7_qPuts ok.2.2.2.2.2.2.1 (d := 1) (Nat.le_refl _) hv) (by exact Nat.le_trans (by decide) hd) cw_X7_qPuts q2459 q2461 qs128 dX7_qJoins_249 [] rfl (Nat.le_of_ble_eq_true rfl) hf (fun h37 hf => ?_)
                      refine v_goto ok 273 dX7_qJoins_252 rfl ?_
                      exact v_vret ok hr (by cases hf; exact hk) dX7_qJoins_273
                    ·
                      have n15 := ne_toI 1 (by decide) n15
                      have n19 := ne_toI 2 (by decide) n19
                      have n23 := ne_toI 3 (by decide) n23
                      have n27 := ne_toI 4 (by decide) n27
                      have n31 := ne_toI 5 (by decide) n31
                      have n32 := ne_toI 6 (by decide) n32
                      have n33 := ne_toI 7 (by decide) n33
                      have n34 := ne_toI 8 (by decide) n34
                      have n35 := ne_toI 9 (by decide) n35
                      have n36 := ne_toI 10 (by decide) n36
                      refine v_tableOut ok 255 dX7_qJoins_36 (by omega) rfl ?_
                      refine v_aload_n ok 0 dX7_qJoins_255 rfl rfl ?_
                      refine v_lload ok dX7_qJoins_256 rfl ?_
                      refine v_lload_n ok 2 dX7_qJoins_258 rfl rfl ?_
                      refine v_ladd ok dX7_qJoins_259 ?_
                      refine v_lconst ok 0 dX7_qJoins_260 rfl ?_
                      refine v_lcmp ok dX7_qJoins_261 ?_
                      refine v_if_le ok 269 dX7_qJoins_262 rfl hf (fun hf => ?_) (fun hf => ?_)
                      ·
                        refine v_lconst ok 0 dX7_qJoins_269 rfl ?_
                        exact W_X7_qJoins_270 ok hr hd hf hk trivial
                      ·
                        refine v_lconst ok 1 dX7_qJoins_265 rfl ?_
                        refine v_goto ok 270 dX7_qJoins_266 rfl ?_
                        exact W_X7_qJoins_270 ok hr hd hf hk trivial
theorem M_X7_qJoins {G : GT} {l : Launch} (hG : Glob G) {d : Nat} (hd : 2 ≤ d) {a0 : Nat} {x1 : Int32} {h : AH} {h' : AH} (hf : X7_qJoins a0 x1 h = some h') : MM G l yX7_qJoins cX7_qJoins 6 none d [vr (some a0), vi x1] h none h' := by
  refine mm_of hG (plainFor_of_name (by decide)) (Nat.le_of_ble_eq_true rfl) (fun X hX ok hr hnm => ?_)
  subst hX
  exact W_X7_qJoins ok hr hd hf rfl ⟨rfl, rfl, trivial⟩
theorem cw_X7_inkOf : CW yX7_inkOf cX7_inkOf 4 (Option.some Jvm.ClassFile.FieldType.int) 1 := ⟨q2470, q185, ⟨by decide, by decide⟩, by decide +kernel, by decide⟩
def pkX7_inkOf_4 (G : GT) (X : CX) (h0 : AH) (Q : State → Prop) (a0 : Nat) (x1 : Int32) (o : ((Int32 × Int32 × AH) ⊕ (Int32 × AH))) : Prop := match o with
  | .inl s => ∀ lv : List (Nat × AV), lle lv [(0, vr (some a0)), (1, vi x1), (2, vi s.1), (3, vi s.2.1)] → V G X 4 h0 Q s.2.2 4 lv []
  | .inr z => Q = QM G X h0 (some (vi z.1)) z.2
theorem W_X7_inkOf_4b {G : GT} {X : CX} {d : Nat} {h0 : AH} {Q : State → Prop} (ok : Ok G X RX7 cX7_inkOf 4 d h0) (hr : (cxm X).sig.returnType = (Option.some Jvm.ClassFile.FieldType.int)) (hd : 3 ≤ d) {a0 : Nat} {x1 : Int32} {x2 : Int32} {x3 : Int32} {h : AH} {z : ((Int32 × Int32 × AH) ⊕ (Int32 × AH))} (hf : X7_inkOf_4b  a0 x1 x2 x3 h = some z) (hk : pkX7_inkOf_4 G X h0 Q a0 x1 z) {lv : List (Nat × AV)} (hl : lle lv [(0, vr (some a0)), (1, vi x1), (2, vi x2), (3, vi x3)]) : V G X 4 h0 Q h 4 lv [] := by
  refine V.sub hl ?_
  unfold X7_inkOf_4b at hf
  refine v_iload_n ok 3 dX7_inkOf_4 rfl rfl ?_
  refine v_aload_n ok 0 dX7_inkOf_5 rfl rfl ?_
  refine v_iload_n ok 1 dX7_inkOf_6 rfl rfl ?_
  refine v_cVi ok (RX7, TX7, 117) cf_7.1 [vi x1] (F := fun a => X7_longOf a x1 h) (fun a v h1 _ hv => M_X7_longOf ok.2.2.2.2.2.2.1 (d := 1) (Nat.le_refl _) hv) (by exact Nat.le_trans (by decide) hd) cw_X7_longOf q2337 q2339 qs109 dX7_inkOf_7 [vi x3] rfl (Nat.le_of_ble_eq_true rfl) hf (fun v1 h2 hf => ?_)
  refine v_icmp_ge ok 41 dX7_inkOf_10 rfl hf (fun hf => ?_) (fun hf => ?_)
  ·
    refine v_iload_n ok 2 dX7_inkOf_41 rfl rfl ?_
    exact v_iret ok hr (by cases hf; exact hk) dX7_inkOf_42
  ·
    refine v_iload_n ok 2 dX7_inkOf_13 rfl rfl ?_
    refine v_aload_n ok 0 dX7_inkOf_14 rfl rfl ?_
    refine v_iconst ok 0 dX7_inkOf_15 rfl ?_
    refine v_aload_n ok 0 dX7_inkOf_16 rfl rfl ?_
    refine v_iconst ok 0 dX7_inkOf_17 rfl ?_
    refine v_aload_n ok 0 dX7_inkOf_18 rfl rfl ?_
    refine v_iload_n ok 1 dX7_inkOf_19 rfl rfl ?_
    refine v_iload_n ok 3 dX7_inkOf_20 rfl rfl ?_
    refine v_cVi ok (RX7, TX7, 117) cf_7.1 [vi x1, vi x3] (F := fun a => X7_letterOf a x1 x3 h2) (fun a v h1 _ hv => M_X7_letterOf ok.2.2.2.2.2.2.1 (d := 1) (Nat.le_refl _) hv) (by exact Nat.le_trans (by decide) hd) cw_X7_letterOf q2341 q2343 qs110 dX7_inkOf_21 [vi 0, vr (some a0), vi 0, vr (some a0), vi x2] rfl (Nat.le_of_ble_eq_true rfl) hf (fun v3 h4 hf => ?_)
    refine v_cVi ok (RX7, TX7, 117) cf_7.1 [vi 0, vi v3] (F := fun a => X7_letterAt a 0 v3 h4) (fun a v h1 _ hv => M_X7_letterAt ok.2.2.2.2.2.2.1 (d := 2) (Nat.le_refl _) hv) (by exact Nat.le_trans (by decide) hd) cw_X7_letterAt q2345 q2347 qs111 dX7_inkOf_24 [vi 0, vr (some a0), vi x2] rfl (Nat.le_of_ble_eq_true rfl) hf (fun v5 h6 hf => ?_)
    refine v_cVi ok (RX7, TX7, 117) cf_7.1 [vi 0, vi v5] (F := fun a => X7_glyphOf a 0 v5 h6) (fun a v h1 _ hv => M_X7_glyphOf ok.2.2.2.2.2.2.1 (d := 1) (Nat.le_refl _) hv) (by exact Nat.le_trans (by decide) hd) cw_X7_glyphOf q2353 q2355 qs113 dX7_inkOf_27 [vi x2] rfl (Nat.le_of_ble_eq_true rfl) hf (fun v7 h8 hf => ?_)
    refine v_cSi ok [vi v7] (F := X7_bits v7 h8) (fun v h1 hv => M_X7_bits ok.2.2.2.2.2.2.1 (d := 1) (Nat.le_refl _) hv) (by exact Nat.le_trans (by decide) hd) cw_X7_bits q2381 q2382 dX7_inkOf_30 [vi x2] rfl (Nat.le_of_ble_eq_true rfl) hf (fun v9 h10 hf => ?_)
    refine v_iadd ok dX7_inkOf_33 ?_
    refine v_istore_n ok 2 dX7_inkOf_34 rfl (by decide) ?_
    refine v_iinc ok x3 (x3 + 1) dX7_inkOf_35 rfl rfl (by decide) ?_
    refine v_goto ok 4 dX7_inkOf_38 rfl ?_
    cases hf; exact hk _ ⟨rfl, rfl, rfl, rfl, trivial⟩
theorem W_X7_inkOf_4 {G : GT} {X : CX} {d : Nat} {h0 : AH} {Q : State → Prop} (ok : Ok G X RX7 cX7_inkOf 4 d h0) (hr : (cxm X).sig.returnType = (Option.some Jvm.ClassFile.FieldType.int)) (hd : 3 ≤ d) {a0 : Nat} {x1 : Int32} {x2 : Int32} {x3 : Int32} {h : AH} {z : (Int32 × AH)} (hf : X7_inkOf_4  a0 x1 x2 x3 h = some z) (hk : Q = QM G X h0 (some (vi z.1)) z.2) {lv : List (Nat × AV)} (hl : lle lv [(0, vr (some a0)), (1, vi x1), (2, vi x2), (3, vi x3)]) : V G X 4 h0 Q h 4 lv [] := by
  unfold X7_inkOf_4 at hf
  exact loopC_walk (Wh := fun s : Int32 × Int32 × AH => ∀ lv : List (Nat × AV), lle lv [(0, vr (some a0)), (1, vi x1), (2, vi s.1), (3, vi s.2.1)] → V G X 4 h0 Q s.2.2 4 lv []) (PK := fun z => Q = QM G X h0 (some (vi z.1)) z.2) (fun s o hf hk lv hl => W_X7_inkOf_4b ok hr hd hf (by cases o <;> exact hk) hl) _ z hf hk lv hl
theorem W_X7_inkOf {G : GT} {X : CX} {d : Nat} {h0 : AH} {Q : State → Prop} (ok : Ok G X RX7 cX7_inkOf 4 d h0) (hr : (cxm X).sig.returnType = (Option.some Jvm.ClassFile.FieldType.int)) (hd : 3 ≤ d) {a0 : Nat} {x1 : Int32} {h : AH} {z : (Int32 × AH)} (hf : X7_inkOf a0 x1 h = some z) (hk : Q = QM G X h0 (some (vi z.1)) z.2) {lv : List (Nat × AV)} (hl : lle lv [(0, vr (some a0)), (1, vi x1)]) : V G X 4 h0 Q h 0 lv [] := by
  refine V.sub hl ?_
  unfold X7_inkOf at hf
  refine v_iconst ok 0 dX7_inkOf_0 rfl ?_
  refine v_istore_n ok 2 dX7_inkOf_1 rfl (by decide) ?_
  refine v_iconst ok 0 dX7_inkOf_2 rfl ?_
  refine v_istore_n ok 3 dX7_inkOf_3 rfl (by decide) ?_
  exact W_X7_inkOf_4 ok hr hd hf hk ⟨rfl, rfl, rfl, rfl, trivial⟩
theorem M_X7_inkOf {G : GT} {l : Launch} (hG : Glob G) {d : Nat} (hd : 3 ≤ d) {a0 : Nat} {x1 : Int32} {h : AH} {v : Int32} {h' : AH} (hf : X7_inkOf a0 x1 h = some (v, h')) : MM G l yX7_inkOf cX7_inkOf 4 (Option.some Jvm.ClassFile.FieldType.int) d [vr (some a0), vi x1] h (some (vi v)) h' := by
  refine mm_of hG (plainFor_of_name (by decide)) (Nat.le_of_ble_eq_true rfl) (fun X hX ok hr hnm => ?_)
  subst hX
  exact W_X7_inkOf ok hr hd hf rfl ⟨rfl, rfl, trivial⟩
theorem cw_X7_qPartOf : CW yX7_qPartOf cX7_qPartOf 3 (Option.some Jvm.ClassFile.FieldType.long) 2 := ⟨q2466, q185, ⟨by decide, by decide⟩, by decide +kernel, by decide⟩
theorem W_X7_qPartOf {G : GT} {X : CX} {d : Nat} {h0 : AH} {Q : State → Prop} (ok : Ok G X RX7 cX7_qPartOf 3 d h0) (hr : (cxm X).sig.returnType = (Option.some Jvm.ClassFile.FieldType.long)) (hd : 4 ≤ d) {a0 : Nat} {x1 : Int32} {x2 : Int32} {h : AH} {z : (Int64 × AH)} (hf : X7_qPartOf a0 x1 x2 h = some z) (hk : Q = QM G X h0 (some (vl z.1)) z.2) {lv : List (Nat × AV)} (hl : lle lv [(0, vr (some a0)), (1, vi x1), (2, vi x2)]) : V G X 3 h0 Q h 0 lv [] := by
  refine V.sub hl ?_
  unfold X7_qPartOf at hf
  refine v_iload_n ok 1 dX7_qPartOf_0 rfl rfl ?_
  refine sw_if (v := 0) hf (fun e_ hf => ?_) (fun n1 hf => ?_)
  ·
    refine v_tableIn ok 0 52 dX7_qPartOf_1 e_ (by decide) (by decide) rfl rfl ?_
    refine v_aload_n ok 0 dX7_qPartOf_52 rfl rfl ?_
    refine v_gI ok fl_X7_449 (fun _ _ _ => rfl) dX7_qPartOf_53 hf (fun v2 hf => ?_)
    refine v_i2l ok dX7_qPartOf_56 ?_
    exact v_lret ok hr (by cases hf; exact hk) dX7_qPartOf_57
  ·
    refine sw_if (v := 1) hf (fun e_ hf => ?_) (fun n3 hf => ?_)
    ·
      refine v_tableIn ok 1 58 dX7_qPartOf_1 e_ (by decide) (by decide) rfl rfl ?_
      refine v_aload_n ok 0 dX7_qPartOf_58 rfl rfl ?_
      refine v_gI ok fl_X7_452 (fun _ _ _ => rfl) dX7_qPartOf_59 hf (fun v4 hf => ?_)
      refine v_i2l ok dX7_qPartOf_62 ?_
      exact v_lret ok hr (by cases hf; exact hk) dX7_qPartOf_63
    ·
      refine sw_if (v := 2) hf (fun e_ hf => ?_) (fun n5 hf => ?_)
      ·
        refine v_tableIn ok 2 64 dX7_qPartOf_1 e_ (by decide) (by decide) rfl rfl ?_
        refine v_aload_n ok 0 dX7_qPartOf_64 rfl rfl ?_
        refine v_gI ok fl_X7_314 (fun _ _ _ => rfl) dX7_qPartOf_65 hf (fun v6 hf => ?_)
        refine v_iconst ok 2 dX7_qPartOf_68 rfl ?_
        refine v_icmp_ne ok 81 dX7_qPartOf_69 rfl hf (fun hf => ?_) (fun hf => ?_)
        ·
          refine v_aload_n ok 0 dX7_qPartOf_81 rfl rfl ?_
          refine v_gI ok fl_X7_455 (fun _ _ _ => rfl) dX7_qPartOf_82 hf (fun v7 hf => ?_)
          refine v_i2l ok dX7_qPartOf_85 ?_
          exact v_lret ok hr (by cases hf; exact hk) dX7_qPartOf_86
        ·
          refine v_aload_n ok 0 dX7_qPartOf_72 rfl rfl ?_
          refine v_iload_n ok 2 dX7_qPartOf_73 rfl rfl ?_
          refine v_cVi ok (RX7, TX7, 117) cf_7.1 [vi x2] (F := fun a => X7_inkOf a x2 h) (fun a v h1 _ hv => M_X7_inkOf ok.2.2.2.2.2.2.1 (d := 3) (Nat.le_refl _) hv) (by exact Nat.le_trans (by decide) hd) cw_X7_inkOf q2467 q2469 qs130 dX7_qPartOf_74 [] rfl (Nat.le_of_ble_eq_true rfl) hf (fun v8 h9 hf => ?_)
          refine v_i2l ok dX7_qPartOf_77 ?_
          refine v_goto ok 86 dX7_qPartOf_78 rfl ?_
          exact v_lret ok hr (by cases hf; exact hk) dX7_qPartOf_86
      ·
        refine sw_if (v := 3) hf (fun e_ hf => ?_) (fun n10 hf => ?_)
        ·
          refine v_tableIn ok 3 87 dX7_qPartOf_1 e_ (by decide) (by decide) rfl rfl ?_
          refine v_aload_n ok 0 dX7_qPartOf_87 rfl rfl ?_
          refine v_gI ok fl_X7_471 (fun _ _ _ => rfl) dX7_qPartOf_88 hf (fun v11 hf => ?_)
          refine v_i2l ok dX7_qPartOf_91 ?_
          exact v_lret ok hr (by cases hf; exact hk) dX7_qPartOf_92
        ·
          refine sw_if (v := 4) hf (fun e_ hf => ?_) (fun n12 hf => ?_)
          ·
            refine v_tableIn ok 4 93 dX7_qPartOf_1 e_ (by decide) (by decide) rfl rfl ?_
            refine v_aload_n ok 0 dX7_qPartOf_93 rfl rfl ?_
            refine v_gI ok fl_X7_468 (fun _ _ _ => rfl) dX7_qPartOf_94 hf (fun v13 hf => ?_)
            refine v_i2l ok dX7_qPartOf_97 ?_
            exact v_lret ok hr (by cases hf; exact hk) dX7_qPartOf_98
          ·
            refine sw_if (v := 5) hf (fun e_ hf => ?_) (fun n14 hf => ?_)
            ·
              refine v_tableIn ok 5 99 dX7_qPartOf_1 e_ (by decide) (by decide) rfl rfl ?_
              refine v_aload_n ok 0 dX7_qPartOf_99 rfl rfl ?_
              refine v_gI ok fl_X7_474 (fun _ _ _ => rfl) dX7_qPartOf_100 hf (fun v15 hf => ?_)
              refine v_i2l ok dX7_qPartOf_103 ?_
              exact v_lret ok hr (by cases hf; exact hk) dX7_qPartOf_104
            ·
              refine sw_if (v := 6) hf (fun e_ hf => ?_) (fun n16 hf => ?_)
              ·
                refine v_tableIn ok 6 105 dX7_qPartOf_1 e_ (by decide) (by decide) rfl rfl ?_
                refine v_aload_n ok 0 dX7_qPartOf_105 rfl rfl ?_
                refine v_gI ok fl_X7_480 (fun _ _ _ => rfl) dX7_qPartOf_106 hf (fun v17 hf => ?_)
                refine v_i2l ok dX7_qPartOf_109 ?_
                exact v_lret ok hr (by cases hf; exact hk) dX7_qPartOf_110
              ·
                refine sw_if (v := 7) hf (fun e_ hf => ?_) (fun n18 hf => ?_)
                ·
                  refine v_tableIn ok 7 111 dX7_qPartOf_1 e_ (by decide) (by decide) rfl rfl ?_
                  refine v_aload_n ok 0 dX7_qPartOf_111 rfl rfl ?_
                  refine v_gR ok fl_X7_132 (by first | exact Or.inl ⟨_, rfl⟩ | exact Or.inr ⟨_, rfl⟩) dX7_qPartOf_112 hf (fun v19 hf => ?_)
                  refine v_iconst ok 0 dX7_qPartOf_115 rfl ?_
                  refine v_iald ok rfl dX7_qPartOf_116 hf (fun v20 hf => ?_)
                  refine v_i2l ok dX7_qPartOf_117 ?_
                  exact v_lret ok hr (by cases hf; exact hk) dX7_qPartOf_118
                ·
                  refine sw_if (v := 8) hf (fun e_ hf => ?_) (fun n21 hf => ?_)
                  ·
                    refine v_tableIn ok 8 119 dX7_qPartOf_1 e_ (by decide) (by decide) rfl rfl ?_
                    refine v_iload_n ok 2 dX7_qPartOf_119 rfl rfl ?_
                    refine v_i2l ok dX7_qPartOf_120 ?_
                    exact v_lret ok hr (by cases hf; exact hk) dX7_qPartOf_121
                  ·
                    have n1 := ne_toI 0 (by decide) n1
                    have n3 := ne_toI 1 (by decide) n3
                    have n5 := ne_toI 2 (by decide) n5
                    have n10 := ne_toI 3 (by decide) n10
                    have n12 := ne_toI 4 (by decide) n12
                    have n14 := ne_toI 5 (by decide) n14
                    have n16 := ne_toI 6 (by decide) n16
                    have n18 := ne_toI 7 (by decide) n18
                    have n21 := ne_toI 8 (by decide) n21
                    refine v_tableOut ok 122 dX7_qPartOf_1 (by omega) rfl ?_
                    refine v_aload_n ok 0 dX7_qPartOf_122 rfl rfl ?_
                    refine v_iload_n ok 2 dX7_qPartOf_123 rfl rfl ?_
                    refine v_cVi ok (RX7, TX7, 117) cf_7.1 [vi x2] (F := fun a => X7_longOf a x2 h) (fun a v h1 _ hv => M_X7_longOf ok.2.2.2.2.2.2.1 (d := 1) (Nat.le_refl _) hv) (by exact Nat.le_trans (by decide) hd) cw_X7_longOf q2337 q2339 qs109 dX7_qPartOf_124 [] rfl (Nat.le_of_ble_eq_true rfl) hf (fun v22 h23 hf => ?_)
                    refine v_i2l ok dX7_qPartOf_127 ?_
                    exact v_lret ok hr (by cases hf; exact hk) dX7_qPartOf_128
theorem M_X7_qPartOf {G : GT} {l : Launch} (hG : Glob G) {d : Nat} (hd : 4 ≤ d) {a0 : Nat} {x1 : Int32} {x2 : Int32} {h : AH} {v : Int64} {h' : AH} (hf : X7_qPartOf a0 x1 x2 h = some (v, h')) : MM G l yX7_qPartOf cX7_qPartOf 3 (Option.some Jvm.ClassFile.FieldType.long) d [vr (some a0), vi x1, vi x2] h (some (vl v)) h' := by
  refine mm_of hG (plainFor_of_name (by decide)) (Nat.le_of_ble_eq_true rfl) (fun X hX ok hr hnm => ?_)
  subst hX
  exact W_X7_qPartOf ok hr hd hf rfl ⟨rfl, rfl, rfl, trivial⟩
theorem cw_X7_codesTell : CW yX7_codesTell cX7_codesTell 4 (Option.some Jvm.ClassFile.FieldType.long) 1 := ⟨q2458, q185, ⟨by decide, by decide⟩, by decide +kernel, by decide⟩
def pkX7_codesTell_19 (G : GT) (X : CX) (h0 : AH) (Q : State → Prop) (a0 : Nat) (x1 : Int32) (o : ((Int32 × AH) ⊕ (Int64 × AH))) : Prop := match o with
  | .inl s => ∀ lv : List (Nat × AV), lle lv [(0, vr (some a0)), (1, vi x1), (2, vi s.1)] → V G X 4 h0 Q s.2 19 lv []
  | .inr z => Q = QM G X h0 (some (vl z.1)) z.2
theorem W_X7_codesTell_142 {G : GT} {X : CX} {d : Nat} {h0 : AH} {Q : State → Prop} (ok : Ok G X RX7 cX7_codesTell 4 d h0) (hr : (cxm X).sig.returnType = (Option.some Jvm.ClassFile.FieldType.long)) (hd : 5 ≤ d) {a0 : Nat} {h : AH} {z : (Int64 × AH)} (hf : X7_codesTell_142 a0 h = some z) (hk : Q = QM G X h0 (some (vl z.1)) z.2) {lv : List (Nat × AV)} (hl : lle lv [(0, vr (some a0))]) : V G X 4 h0 Q h 142 lv [] := by
  refine V.sub hl ?_
  unfold X7_codesTell_142 at hf
  refine v_aload_n ok 0 dX7_codesTell_142 rfl rfl ?_
  refine v_gR ok fl_X7_247 (by first | exact Or.inl ⟨_, rfl⟩ | exact Or.inr ⟨_, rfl⟩) dX7_codesTell_143 hf (fun v1 hf => ?_)
  refine v_iconst ok 0 dX7_codesTell_146 rfl ?_
  refine v_lald ok rfl dX7_codesTell_147 hf (fun v2 hf => ?_)
  exact v_lret ok hr (by cases hf; exact hk) dX7_codesTell_148
theorem W_X7_codesTell_19b {G : GT} {X : CX} {d : Nat} {h0 : AH} {Q : State → Prop} (ok : Ok G X RX7 cX7_codesTell 4 d h0) (hr : (cxm X).sig.returnType = (Option.some Jvm.ClassFile.FieldType.long)) (hd : 5 ≤ d) {a0 : Nat} {x1 : Int32} {x2 : Int32} {h : AH} {z : ((Int32 × AH) ⊕ (Int64 × AH))} (hf : X7_codesTell_19b  a0 x1 x2 h = some z) (hk : pkX7_codesTell_19 G X h0 Q a0 x1 z) {lv : List (Nat × AV)} (hl : lle lv [(0, vr (some a0)), (1, vi x1), (2, vi x2)]) : V G X 4 h0 Q h 19 lv [] := by
  refine V.sub hl ?_
  unfold X7_codesTell_19b at hf
  refine v_iload_n ok 2 dX7_codesTell_19 rfl rfl ?_
  refine v_aload_n ok 0 dX7_codesTell_20 rfl rfl ?_
  refine v_gR ok fl_X7_126 (by first | exact Or.inl ⟨_, rfl⟩ | exact Or.inr ⟨_, rfl⟩) dX7_codesTell_21 hf (fun v3 hf => ?_)
  refine v_iconst ok 2 dX7_codesTell_24 rfl ?_
  refine v_iload_n ok 1 dX7_codesTell_25 rfl rfl ?_
  refine v_iadd ok dX7_codesTell_26 ?_
  refine v_iald ok rfl dX7_codesTell_27 hf (fun v4 hf => ?_)
  refine v_icmp_ge ok 142 dX7_codesTell_28 rfl hf (fun hf => ?_) (fun hf => ?_)
  ·
    obtain ⟨o, ho, hz⟩ := ob hf
    cases hz; exact W_X7_codesTell_142 ok hr hd ho hk ⟨rfl, trivial⟩
  ·
    refine v_aload_n ok 0 dX7_codesTell_31 rfl rfl ?_
    refine v_gR ok fl_X7_129 (by first | exact Or.inl ⟨_, rfl⟩ | exact Or.inr ⟨_, rfl⟩) dX7_codesTell_32 hf (fun v5 hf => ?_)
    refine v_sipush ok 1600 dX7_codesTell_35 rfl ?_
    refine v_iload_n ok 2 dX7_codesTell_38 rfl rfl ?_
    refine v_iadd ok dX7_codesTell_39 ?_
    refine v_iald ok rfl dX7_codesTell_40 hf (fun v6 hf => ?_)
    refine v_istore_n ok 3 dX7_codesTell_41 rfl (by decide) ?_
    refine v_iload_n ok 3 dX7_codesTell_42 rfl rfl ?_
    refine v_sipush ok 1000 dX7_codesTell_43 rfl ?_
    refine v_icmp_lt ok 62 dX7_codesTell_46 rfl hf (fun hf => ?_) (fun hf => ?_)
    ·
      refine v_iload_n ok 3 dX7_codesTell_62 rfl rfl ?_
      refine v_bipush ok 40 dX7_codesTell_63 rfl ?_
      refine v_icmp_lt ok 84 dX7_codesTell_65 rfl hf (fun hf => ?_) (fun hf => ?_)
      ·
        refine v_iload_n ok 3 dX7_codesTell_84 rfl rfl ?_
        refine v_bipush ok 13 dX7_codesTell_85 rfl ?_
        refine v_icmp_ne ok 98 dX7_codesTell_87 rfl hf (fun hf => ?_) (fun hf => ?_)
        ·
          refine v_iload_n ok 3 dX7_codesTell_98 rfl rfl ?_
          refine v_bipush ok 12 dX7_codesTell_99 rfl ?_
          refine v_icmp_ne ok 131 dX7_codesTell_101 rfl hf (fun hf => ?_) (fun hf => ?_)
          ·
            refine v_aload_n ok 0 dX7_codesTell_131 rfl rfl ?_
            refine v_iload_n ok 3 dX7_codesTell_132 rfl rfl ?_
            refine v_cVv ok (RX7, TX7, 117) cf_7.1 [vi v6] (F := fun a => X7_qJoins a v6 h) (fun a h1 _ hv => M_X7_qJoins ok.2.2.2.2.2.2.1 (d := 2) (Nat.le_refl _) hv) (by exact Nat.le_trans (by decide) hd) cw_X7_qJoins q2471 q2473 qs131 dX7_codesTell_133 [] rfl (Nat.le_of_ble_eq_true rfl) hf (fun h7 hf => ?_)
            refine v_iinc ok x2 (x2 + 1) dX7_codesTell_136 rfl rfl (by decide) ?_
            refine v_goto ok 19 dX7_codesTell_139 rfl ?_
            cases hf; exact hk _ ⟨rfl, rfl, rfl, trivial⟩
          ·
            refine v_aload_n ok 0 dX7_codesTell_104 rfl rfl ?_
            refine v_gR ok fl_X7_247 (by first | exact Or.inl ⟨_, rfl⟩ | exact Or.inr ⟨_, rfl⟩) dX7_codesTell_105 hf (fun v8 hf => ?_)
            refine v_aload_n ok 0 dX7_codesTell_108 rfl rfl ?_
            refine v_gI ok fl_X7_435 (fun _ _ _ => rfl) dX7_codesTell_109 hf (fun v9 hf => ?_)
            refine v_iconst ok 1 dX7_codesTell_112 rfl ?_
            refine v_isub ok dX7_codesTell_113 ?_
            refine v_lconst ok 1 dX7_codesTell_114 rfl ?_
            refine v_aload_n ok 0 dX7_codesTell_115 rfl rfl ?_
            refine v_gR ok fl_X7_247 (by first | exact Or.inl ⟨_, rfl⟩ | exact Or.inr ⟨_, rfl⟩) dX7_codesTell_116 hf (fun v10 hf => ?_)
            refine v_aload_n ok 0 dX7_codesTell_119 rfl rfl ?_
            refine v_gI ok fl_X7_435 (fun _ _ _ => rfl) dX7_codesTell_120 hf (fun v11 hf => ?_)
            refine v_iconst ok 1 dX7_codesTell_123 rfl ?_
            refine v_isub ok dX7_codesTell_124 ?_
            refine v_lald ok rfl dX7_codesTell_125 hf (fun v12 hf => ?_)
            refine v_lsub ok dX7_codesTell_126 ?_
            refine v_last ok rfl dX7_codesTell_127 hf (fun h13 hf => ?_)
            refine v_goto ok 136 dX7_codesTell_128 rfl ?_
            refine v_iinc ok x2 (x2 + 1) dX7_codesTell_136 rfl rfl (by decide) ?_
            refine v_goto ok 19 dX7_codesTell_139 rfl ?_
            cases hf; exact hk _ ⟨rfl, rfl, rfl, trivial⟩
        ·
          refine v_aload_n ok 0 dX7_codesTell_90 rfl rfl ?_
          refine v_lconst ok 1 dX7_codesTell_91 rfl ?_
          refine v_cVv ok (RX7, TX7, 117) cf_7.1 [vl 1] (F := fun a => X7_qPuts a 1 h) (fun a h1 _ hv => M_X7_qPuts ok.2.2.2.2.2.2.1 (d := 1) (Nat.le_refl _) hv) (by exact Nat.le_trans (by decide) hd) cw_X7_qPuts q2459 q2461 qs128 dX7_codesTell_92 [] rfl (Nat.le_of_ble_eq_true rfl) hf (fun h14 hf => ?_)
          refine v_goto ok 136 dX7_codesTell_95 rfl ?_
          refine v_iinc ok x2 (x2 + 1) dX7_codesTell_136 rfl rfl (by decide) ?_
          refine v_goto ok 19 dX7_codesTell_139 rfl ?_
          cases hf; exact hk _ ⟨rfl, rfl, rfl, trivial⟩
      ·
        refine v_aload_n ok 0 dX7_codesTell_68 rfl rfl ?_
        refine v_aload_n ok 0 dX7_codesTell_69 rfl rfl ?_
        refine v_iload_n ok 3 dX7_codesTell_70 rfl rfl ?_
        refine v_bipush ok 40 dX7_codesTell_71 rfl ?_
        refine v_isub ok dX7_codesTell_73 ?_
        refine v_iconst ok 0 dX7_codesTell_74 rfl ?_
        refine v_cVl ok (RX7, TX7, 117) cf_7.1 [vi (v6 - 40), vi 0] (F := fun a => X7_qPartOf a (v6 - 40) 0 h) (fun a v h1 _ hv => M_X7_qPartOf ok.2.2.2.2.2.2.1 (d := 4) (Nat.le_refl _) hv) (by exact Nat.le_trans (by decide) hd) cw_X7_qPartOf q2463 q2465 qs129 dX7_codesTell_75 [vr (some a0)] rfl (Nat.le_of_ble_eq_true rfl) hf (fun v15 h16 hf => ?_)
        refine v_cVv ok (RX7, TX7, 117) cf_7.1 [vl v15] (F := fun a => X7_qPuts a v15 h16) (fun a h1 _ hv => M_X7_qPuts ok.2.2.2.2.2.2.1 (d := 1) (Nat.le_refl _) hv) (by exact Nat.le_trans (by decide) hd) cw_X7_qPuts q2459 q2461 qs128 dX7_codesTell_78 [] rfl (Nat.le_of_ble_eq_true rfl) hf (fun h17 hf => ?_)
        refine v_goto ok 136 dX7_codesTell_81 rfl ?_
        refine v_iinc ok x2 (x2 + 1) dX7_codesTell_136 rfl rfl (by decide) ?_
        refine v_goto ok 19 dX7_codesTell_139 rfl ?_
        cases hf; exact hk _ ⟨rfl, rfl, rfl, trivial⟩
    ·
      refine v_aload_n ok 0 dX7_codesTell_49 rfl rfl ?_
      refine v_iload_n ok 3 dX7_codesTell_50 rfl rfl ?_
      refine v_sipush ok 1000 dX7_codesTell_51 rfl ?_
      refine v_isub ok dX7_codesTell_54 ?_
      refine v_i2l ok dX7_codesTell_55 ?_
      refine v_cVv ok (RX7, TX7, 117) cf_7.1 [vl (Int32.toInt64 (v6 - 1000))] (F := fun a => X7_qPuts a (Int32.toInt64 (v6 - 1000)) h) (fun a h1 _ hv => M_X7_qPuts ok.2.2.2.2.2.2.1 (d := 1) (Nat.le_refl _) hv) (by exact Nat.le_trans (by decide) hd) cw_X7_qPuts q2459 q2461 qs128 dX7_codesTell_56 [] rfl (Nat.le_of_ble_eq_true rfl) hf (fun h18 hf => ?_)
      refine v_goto ok 136 dX7_codesTell_59 rfl ?_
      refine v_iinc ok x2 (x2 + 1) dX7_codesTell_136 rfl rfl (by decide) ?_
      refine v_goto ok 19 dX7_codesTell_139 rfl ?_
      cases hf; exact hk _ ⟨rfl, rfl, rfl, trivial⟩
theorem W_X7_codesTell_19 {G : GT} {X : CX} {d : Nat} {h0 : AH} {Q : State → Prop} (ok : Ok G X RX7 cX7_codesTell 4 d h0) (hr : (cxm X).sig.returnType = (Option.some Jvm.ClassFile.FieldType.long)) (hd : 5 ≤ d) {a0 : Nat} {x1 : Int32} {x2 : Int32} {h : AH} {z : (Int64 × AH)} (hf : X7_codesTell_19  a0 x1 x2 h = some z) (hk : Q = QM G X h0 (some (vl z.1)) z.2) {lv : List (Nat × AV)} (hl : lle lv [(0, vr (some a0)), (1, vi x1), (2, vi x2)]) : V G X 4 h0 Q h 19 lv [] := by
  unfold X7_codesTell_19 at hf
  exact loopC_walk (Wh := fun s : Int32 × AH => ∀ lv : List (Nat × AV), lle lv [(0, vr (some a0)), (1, vi x1), (2, vi s.1)] → V G X 4 h0 Q s.2 19 lv []) (PK := fun z => Q = QM G X h0 (some (vl z.1)) z.2) (fun s o hf hk lv hl => W_X7_codesTell_19b ok hr hd hf (by cases o <;> exact hk) hl) _ z hf hk lv hl
theorem W_X7_codesTell {G : GT} {X : CX} {d : Nat} {h0 : AH} {Q : State → Prop} (ok : Ok G X RX7 cX7_codesTell 4 d h0) (hr : (cxm X).sig.returnType = (Option.some Jvm.ClassFile.FieldType.long)) (hd : 5 ≤ d) {a0 : Nat} {x1 : Int32} {h : AH} {z : (Int64 × AH)} (hf : X7_codesTell a0 x1 h = some z) (hk : Q = QM G X h0 (some (vl z.1)) z.2) {lv : List (Nat × AV)} (hl : lle lv [(0, vr (some a0)), (1, vi x1)]) : V G X 4 h0 Q h 0 lv [] := by
  refine V.sub hl ?_
  unfold X7_codesTell at hf
  refine v_aload_n ok 0 dX7_codesTell_0 rfl rfl ?_
  refine v_iload_n ok 1 dX7_codesTell_1 rfl rfl ?_
  refine v_pI ok fl_X7_314 ⟨fun _ _ _ => rfl, rfl⟩ (FN.of cf_7.1 rfl) dX7_codesTell_2 hf (fun h19 hf => ?_)
  refine v_aload_n ok 0 dX7_codesTell_5 rfl rfl ?_
  refine v_iconst ok 0 dX7_codesTell_6 rfl ?_
  refine v_pI ok fl_X7_435 ⟨fun _ _ _ => rfl, rfl⟩ (FN.of cf_7.1 rfl) dX7_codesTell_7 hf (fun h20 hf => ?_)
  refine v_aload_n ok 0 dX7_codesTell_10 rfl rfl ?_
  refine v_gR ok fl_X7_123 (by first | exact Or.inl ⟨_, rfl⟩ | exact Or.inr ⟨_, rfl⟩) dX7_codesTell_11 hf (fun v21 hf => ?_)
  refine v_iconst ok 2 dX7_codesTell_14 rfl ?_
  refine v_iload_n ok 1 dX7_codesTell_15 rfl rfl ?_
  refine v_iadd ok dX7_codesTell_16 ?_
  refine v_iald ok rfl dX7_codesTell_17 hf (fun v22 hf => ?_)
  refine v_istore_n ok 2 dX7_codesTell_18 rfl (by decide) ?_
  exact W_X7_codesTell_19 ok hr hd hf hk ⟨rfl, rfl, rfl, trivial⟩
theorem M_X7_codesTell {G : GT} {l : Launch} (hG : Glob G) {d : Nat} (hd : 5 ≤ d) {a0 : Nat} {x1 : Int32} {h : AH} {v : Int64} {h' : AH} (hf : X7_codesTell a0 x1 h = some (v, h')) : MM G l yX7_codesTell cX7_codesTell 4 (Option.some Jvm.ClassFile.FieldType.long) d [vr (some a0), vi x1] h (some (vl v)) h' := by
  refine mm_of hG (plainFor_of_name (by decide)) (Nat.le_of_ble_eq_true rfl) (fun X hX ok hr hnm => ?_)
  subst hX
  exact W_X7_codesTell ok hr hd hf rfl ⟨rfl, rfl, trivial⟩
theorem cw_X7_doubtOf : CW yX7_doubtOf cX7_doubtOf 7 (Option.some Jvm.ClassFile.FieldType.int) 3 := ⟨q2454, q185, ⟨by decide, by decide⟩, by decide +kernel, by decide⟩
theorem W_X7_doubtOf_76 {G : GT} {X : CX} {d : Nat} {h0 : AH} {Q : State → Prop} (ok : Ok G X RX7 cX7_doubtOf 7 d h0) (hr : (cxm X).sig.returnType = (Option.some Jvm.ClassFile.FieldType.int)) (hd : 6 ≤ d) {s0 : Int64} {h : AH} {z : (Int32 × AH)} (hf : X7_doubtOf_76 s0 h = some z) (hk : Q = QM G X h0 (some (vi z.1)) z.2) {lv : List (Nat × AV)} (hl : lle lv []) : V G X 7 h0 Q h 76 lv [vl s0] := by
  refine V.sub hl ?_
  unfold X7_doubtOf_76 at hf
  refine v_lstore ok dX7_doubtOf_76 (by decide) ?_
  refine v_lload ok dX7_doubtOf_78 rfl ?_
  refine v_lconst ok 0 dX7_doubtOf_80 rfl ?_
  refine v_lcmp ok dX7_doubtOf_81 ?_
  refine v_if_ge ok 89 dX7_doubtOf_82 rfl hf (fun hf => ?_) (fun hf => ?_)
  ·
    refine v_lload ok dX7_doubtOf_89 rfl ?_
    refine v_l2i ok dX7_doubtOf_91 ?_
    exact v_iret ok hr (by cases hf; exact hk) dX7_doubtOf_92
  ·
    refine v_iconst ok 0 dX7_doubtOf_85 rfl ?_
    refine v_goto ok 92 dX7_doubtOf_86 rfl ?_
    exact v_iret ok hr (by cases hf; exact hk) dX7_doubtOf_92
theorem W_X7_doubtOf {G : GT} {X : CX} {d : Nat} {h0 : AH} {Q : State → Prop} (ok : Ok G X RX7 cX7_doubtOf 7 d h0) (hr : (cxm X).sig.returnType = (Option.some Jvm.ClassFile.FieldType.int)) (hd : 6 ≤ d) {a0 : Nat} {x1 : Int32} {x2 : Int32} {x3 : Int32} {h : AH} {z : (Int32 × AH)} (hf : X7_doubtOf a0 x1 x2 x3 h = some z) (hk : Q = QM G X h0 (some (vi z.1)) z.2) {lv : List (Nat × AV)} (hl : lle lv [(0, vr (some a0)), (1, vi x1), (2, vi x2), (3, vi x3)]) : V G X 7 h0 Q h 0 lv [] := by
  refine V.sub hl ?_
  unfold X7_doubtOf at hf
  refine v_aload_n ok 0 dX7_doubtOf_0 rfl rfl ?_
  refine v_iload_n ok 1 dX7_doubtOf_1 rfl rfl ?_
  refine v_iload_n ok 2 dX7_doubtOf_2 rfl rfl ?_
  refine v_cVi ok (RX7, TX7, 117) cf_7.1 [vi x1, vi x2] (F := fun a => X7_glyphOf a x1 x2 h) (fun a v h1 _ hv => M_X7_glyphOf ok.2.2.2.2.2.2.1 (d := 1) (Nat.le_refl _) hv) (by exact Nat.le_trans (by decide) hd) cw_X7_glyphOf q2353 q2355 qs113 dX7_doubtOf_3 [] rfl (Nat.le_of_ble_eq_true rfl) hf (fun v1 h2 hf => ?_)
  refine v_istore ok dX7_doubtOf_6 (by decide) ?_
  refine v_aload_n ok 0 dX7_doubtOf_8 rfl rfl ?_
  refine v_iload_n ok 3 dX7_doubtOf_9 rfl rfl ?_
  refine v_iload ok dX7_doubtOf_10 rfl ?_
  refine v_iconst ok (-1) dX7_doubtOf_12 rfl ?_
  refine v_ixor ok dX7_doubtOf_13 ?_
  refine v_iand ok dX7_doubtOf_14 ?_
  refine v_cSi ok [vi (x3 &&& (v1 ^^^ (-1)))] (F := X7_bits (x3 &&& (v1 ^^^ (-1))) h2) (fun v h1 hv => M_X7_bits ok.2.2.2.2.2.2.1 (d := 1) (Nat.le_refl _) hv) (by exact Nat.le_trans (by decide) hd) cw_X7_bits q2381 q2382 dX7_doubtOf_15 [vr (some a0)] rfl (Nat.le_of_ble_eq_true rfl) hf (fun v3 h4 hf => ?_)
  refine v_pI ok fl_X7_449 ⟨fun _ _ _ => rfl, rfl⟩ (FN.of cf_7.1 rfl) dX7_doubtOf_18 hf (fun h5 hf => ?_)
  refine v_aload_n ok 0 dX7_doubtOf_21 rfl rfl ?_
  refine v_iload ok dX7_doubtOf_22 rfl ?_
  refine v_iload_n ok 3 dX7_doubtOf_24 rfl rfl ?_
  refine v_iconst ok (-1) dX7_doubtOf_25 rfl ?_
  refine v_ixor ok dX7_doubtOf_26 ?_
  refine v_iand ok dX7_doubtOf_27 ?_
  refine v_cSi ok [vi (v1 &&& (x3 ^^^ (-1)))] (F := X7_bits (v1 &&& (x3 ^^^ (-1))) h5) (fun v h1 hv => M_X7_bits ok.2.2.2.2.2.2.1 (d := 1) (Nat.le_refl _) hv) (by exact Nat.le_trans (by decide) hd) cw_X7_bits q2381 q2382 dX7_doubtOf_28 [vr (some a0)] rfl (Nat.le_of_ble_eq_true rfl) hf (fun v6 h7 hf => ?_)
  refine v_pI ok fl_X7_452 ⟨fun _ _ _ => rfl, rfl⟩ (FN.of cf_7.1 rfl) dX7_doubtOf_31 hf (fun h8 hf => ?_)
  refine v_aload_n ok 0 dX7_doubtOf_34 rfl rfl ?_
  refine v_iload ok dX7_doubtOf_35 rfl ?_
  refine v_cSi ok [vi v1] (F := X7_bits v1 h8) (fun v h1 hv => M_X7_bits ok.2.2.2.2.2.2.1 (d := 1) (Nat.le_refl _) hv) (by exact Nat.le_trans (by decide) hd) cw_X7_bits q2381 q2382 dX7_doubtOf_37 [vr (some a0)] rfl (Nat.le_of_ble_eq_true rfl) hf (fun v9 h10 hf => ?_)
  refine v_pI ok fl_X7_455 ⟨fun _ _ _ => rfl, rfl⟩ (FN.of cf_7.1 rfl) dX7_doubtOf_40 hf (fun h11 hf => ?_)
  refine v_aload_n ok 0 dX7_doubtOf_43 rfl rfl ?_
  refine v_gR ok fl_X7_123 (by first | exact Or.inl ⟨_, rfl⟩ | exact Or.inr ⟨_, rfl⟩) dX7_doubtOf_44 hf (fun v12 hf => ?_)
  refine v_iconst ok 2 dX7_doubtOf_47 rfl ?_
  refine v_iald ok rfl dX7_doubtOf_48 hf (fun v13 hf => ?_)
  refine v_iconst ok (-1) dX7_doubtOf_49 rfl ?_
  refine v_icmp_ne ok 71 dX7_doubtOf_50 rfl hf (fun hf => ?_) (fun hf => ?_)
  ·
    refine v_aload_n ok 0 dX7_doubtOf_71 rfl rfl ?_
    refine v_iconst ok 0 dX7_doubtOf_72 rfl ?_
    refine v_cVl ok (RX7, TX7, 117) cf_7.1 [vi 0] (F := fun a => X7_codesTell a 0 h11) (fun a v h1 _ hv => M_X7_codesTell ok.2.2.2.2.2.2.1 (d := 5) (Nat.le_refl _) hv) (by exact Nat.le_trans (by decide) hd) cw_X7_codesTell q2455 q2457 qs127 dX7_doubtOf_73 [] rfl (Nat.le_of_ble_eq_true rfl) hf (fun v14 h15 hf => ?_)
    exact W_X7_doubtOf_76 ok hr hd hf hk trivial
  ·
    refine v_aload_n ok 0 dX7_doubtOf_53 rfl rfl ?_
    refine v_gI ok fl_X7_449 (fun _ _ _ => rfl) dX7_doubtOf_54 hf (fun v16 hf => ?_)
    refine v_i2l ok dX7_doubtOf_57 ?_
    refine v_ldc2 ok q2433 dX7_doubtOf_58 ?_
    refine v_aload_n ok 0 dX7_doubtOf_61 rfl rfl ?_
    refine v_gI ok fl_X7_452 (fun _ _ _ => rfl) dX7_doubtOf_62 hf (fun v17 hf => ?_)
    refine v_i2l ok dX7_doubtOf_65 ?_
    refine v_lmul ok dX7_doubtOf_66 ?_
    refine v_ladd ok dX7_doubtOf_67 ?_
    refine v_goto ok 76 dX7_doubtOf_68 rfl ?_
    exact W_X7_doubtOf_76 ok hr hd hf hk trivial
theorem M_X7_doubtOf {G : GT} {l : Launch} (hG : Glob G) {d : Nat} (hd : 6 ≤ d) {a0 : Nat} {x1 : Int32} {x2 : Int32} {x3 : Int32} {h : AH} {v : Int32} {h' : AH} (hf : X7_doubtOf a0 x1 x2 x3 h = some (v, h')) : MM G l yX7_doubtOf cX7_doubtOf 7 (Option.some Jvm.ClassFile.FieldType.int) d [vr (some a0), vi x1, vi x2, vi x3] h (some (vi v)) h' := by
  refine mm_of hG (plainFor_of_name (by decide)) (Nat.le_of_ble_eq_true rfl) (fun X hX ok hr hnm => ?_)
  subst hX
  exact W_X7_doubtOf ok hr hd hf rfl ⟨rfl, rfl, rfl, rfl, trivial⟩
theorem cw_X7_doubt : CW yX7_doubt cX7_doubt 4 (Option.some Jvm.ClassFile.FieldType.long) 3 := ⟨q2450, q185, ⟨by decide, by decide⟩, by decide +kernel, by decide⟩
theorem W_X7_doubt_28 {G : GT} {X : CX} {d : Nat} {h0 : AH} {Q : State → Prop} (ok : Ok G X RX7 cX7_doubt 4 d h0) (hr : (cxm X).sig.returnType = (Option.some Jvm.ClassFile.FieldType.long)) (hd : 7 ≤ d) {h : AH} {z : (Int64 × AH)} (hf : X7_doubt_28  h = some z) (hk : Q = QM G X h0 (some (vl z.1)) z.2) {lv : List (Nat × AV)} (hl : lle lv []) : V G X 4 h0 Q h 28 lv [] := by
  refine V.sub hl ?_
  unfold X7_doubt_28 at hf
  refine v_ldc2 ok q2483 dX7_doubt_28 ?_
  exact v_lret ok hr (by cases hf; exact hk) dX7_doubt_31
theorem W_X7_doubt {G : GT} {X : CX} {d : Nat} {h0 : AH} {Q : State → Prop} (ok : Ok G X RX7 cX7_doubt 4 d h0) (hr : (cxm X).sig.returnType = (Option.some Jvm.ClassFile.FieldType.long)) (hd : 7 ≤ d) {a0 : Nat} {x1 : Int32} {x2 : Int32} {x3 : Int32} {h : AH} {z : (Int64 × AH)} (hf : X7_doubt a0 x1 x2 x3 h = some z) (hk : Q = QM G X h0 (some (vl z.1)) z.2) {lv : List (Nat × AV)} (hl : lle lv [(0, vr (some a0)), (1, vi x1), (2, vi x2), (3, vi x3)]) : V G X 4 h0 Q h 0 lv [] := by
  refine V.sub hl ?_
  unfold X7_doubt at hf
  refine v_aload_n ok 0 dX7_doubt_0 rfl rfl ?_
  refine v_iload_n ok 1 dX7_doubt_1 rfl rfl ?_
  refine v_iload_n ok 2 dX7_doubt_2 rfl rfl ?_
  refine v_cVi ok (RX7, TX7, 117) cf_7.1 [vi x1, vi x2] (F := fun a => X7_isLetterOf a x1 x2 h) (fun a v h1 _ hv => M_X7_isLetterOf ok.2.2.2.2.2.2.1 (d := 3) (Nat.le_refl _) hv) (by exact Nat.le_trans (by decide) hd) cw_X7_isLetterOf q2388 q2390 qs118 dX7_doubt_3 [] rfl (Nat.le_of_ble_eq_true rfl) hf (fun v1 h2 hf => ?_)
  refine v_if_eq ok 28 dX7_doubt_6 rfl hf (fun hf => ?_) (fun hf => ?_)
  ·
    exact W_X7_doubt_28 ok hr hd hf hk trivial
  ·
    refine v_aload_n ok 0 dX7_doubt_9 rfl rfl ?_
    refine v_iload_n ok 3 dX7_doubt_10 rfl rfl ?_
    refine v_cVi ok (RX7, TX7, 117) cf_7.1 [vi x3] (F := fun a => X7_isGlyph a x3 h2) (fun a v h1 _ hv => M_X7_isGlyph ok.2.2.2.2.2.2.1 (d := 2) (Nat.le_refl _) hv) (by exact Nat.le_trans (by decide) hd) cw_X7_isGlyph q2438 q2440 qs125 dX7_doubt_11 [] rfl (Nat.le_of_ble_eq_true rfl) hf (fun v3 h4 hf => ?_)
    refine v_if_eq ok 28 dX7_doubt_14 rfl hf (fun hf => ?_) (fun hf => ?_)
    ·
      exact W_X7_doubt_28 ok hr hd hf hk trivial
    ·
      refine v_aload_n ok 0 dX7_doubt_17 rfl rfl ?_
      refine v_iload_n ok 1 dX7_doubt_18 rfl rfl ?_
      refine v_iload_n ok 2 dX7_doubt_19 rfl rfl ?_
      refine v_iload_n ok 3 dX7_doubt_20 rfl rfl ?_
      refine v_cVi ok (RX7, TX7, 117) cf_7.1 [vi x1, vi x2, vi x3] (F := fun a => X7_doubtOf a x1 x2 x3 h4) (fun a v h1 _ hv => M_X7_doubtOf ok.2.2.2.2.2.2.1 (d := 6) (Nat.le_refl _) hv) (by exact Nat.le_trans (by decide) hd) cw_X7_doubtOf q2451 q2453 qs126 dX7_doubt_21 [] rfl (Nat.le_of_ble_eq_true rfl) hf (fun v5 h6 hf => ?_)
      refine v_i2l ok dX7_doubt_24 ?_
      refine v_goto ok 31 dX7_doubt_25 rfl ?_
      exact v_lret ok hr (by cases hf; exact hk) dX7_doubt_31
theorem M_X7_doubt {G : GT} {l : Launch} (hG : Glob G) {d : Nat} (hd : 7 ≤ d) {a0 : Nat} {x1 : Int32} {x2 : Int32} {x3 : Int32} {h : AH} {v : Int64} {h' : AH} (hf : X7_doubt a0 x1 x2 x3 h = some (v, h')) : MM G l yX7_doubt cX7_doubt 4 (Option.some Jvm.ClassFile.FieldType.long) d [vr (some a0), vi x1, vi x2, vi x3] h (some (vl v)) h' := by
  refine mm_of hG (plainFor_of_name (by decide)) (Nat.le_of_ble_eq_true rfl) (fun X hX ok hr hnm => ?_)
  subst hX
  exact W_X7_doubt ok hr hd hf rfl ⟨rfl, rfl, rfl, rfl, trivial⟩
