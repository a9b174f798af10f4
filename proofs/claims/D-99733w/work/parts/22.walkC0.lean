set_option maxRecDepth 100000
theorem cw_J0_init : CW yJ0_init cJ0_init 1 none 0 := ⟨q233, q170, ⟨by decide, by decide⟩, by decide +kernel, by decide⟩
theorem W_J0_init {G : GT} {X : CX} {d : Nat} {h0 : AH} {Q : State → Prop} (ok : Ok G X RJ0 cJ0_init 1 d h0) (hr : (cxm X).sig.returnType = none) (hd : 1 ≤ d) (hnm : (cxm X).name = "<init>") {a0 : Nat} {h : AH} {z : (AH)} (hf : J0_init a0 h = some z) (hk : Q = QM G X h0 none z) {lv : List (Nat × AV)} (hl : lle lv [(0, vr (some a0))]) : V G X 1 h0 Q h 0 lv [] := by
  refine V.sub hl ?_
  unfold J0_init at hf
  refine v_aload_n ok 0 dJ0_init_0 rfl rfl ?_
  refine v_objInit ok q234 q215 q216 (by omega) (Nat.le_of_ble_eq_true rfl) dJ0_init_1 hf (fun _ hf => ?_)
  exact v_vret ok hr (by cases hf; exact hk) dJ0_init_4
theorem M_J0_init {G : GT} {l : Launch} (hG : Glob G) {d : Nat} (hd : 1 ≤ d) {a0 : Nat} {h : AH} {h' : AH} (hf : J0_init a0 h = some h') : MM G l yJ0_init cJ0_init 1 none d [vr (some a0)] h none h' := by
  refine mm_of hG (plainFor_of_name (by decide)) (Nat.le_of_ble_eq_true rfl) (fun X hX ok hr hnm => ?_)
  subst hX
  exact W_J0_init ok hr hd hnm hf rfl ⟨rfl, trivial⟩
theorem cw_J1_init : CW yJ1_init cJ1_init 1 none 0 := ⟨q230, q171, ⟨by decide, by decide⟩, by decide +kernel, by decide⟩
theorem W_J1_init {G : GT} {X : CX} {d : Nat} {h0 : AH} {Q : State → Prop} (ok : Ok G X RJ1 cJ1_init 1 d h0) (hr : (cxm X).sig.returnType = none) (hd : 2 ≤ d) (hnm : (cxm X).name = "<init>") {a0 : Nat} {h : AH} {z : (AH)} (hf : J1_init a0 h = some z) (hk : Q = QM G X h0 none z) {lv : List (Nat × AV)} (hl : lle lv [(0, vr (some a0))]) : V G X 1 h0 Q h 0 lv [] := by
  refine V.sub hl ?_
  unfold J1_init at hf
  refine v_aload_n ok 0 dJ1_init_0 rfl rfl ?_
  refine v_cIv ok [] rfl (F := fun a => J0_init a h) (fun a h1 _ hv => M_J0_init ok.2.2.2.2.2.2.1 (d := 1) (Nat.le_refl _) hv) (by exact Nat.le_trans (by decide) hd) cw_J0_init q231 q232 dJ1_init_1 [] rfl (Nat.le_of_ble_eq_true rfl) hf (fun h1 hf => ?_)
  refine v_aload_n ok 0 dJ1_init_4 rfl rfl ?_
  refine v_iconst ok 0 dJ1_init_5 rfl ?_
  refine v_pI ok fl_J1_7 ⟨fun _ _ _ => rfl, rfl⟩ (FN.of cf_23.1 rfl) dJ1_init_6 hf (fun h2 hf => ?_)
  exact v_vret ok hr (by cases hf; exact hk) dJ1_init_9
theorem M_J1_init {G : GT} {l : Launch} (hG : Glob G) {d : Nat} (hd : 2 ≤ d) {a0 : Nat} {h : AH} {h' : AH} (hf : J1_init a0 h = some h') : MM G l yJ1_init cJ1_init 1 none d [vr (some a0)] h none h' := by
  refine mm_of hG (plainFor_of_name (by decide)) (Nat.le_of_ble_eq_true rfl) (fun X hX ok hr hnm => ?_)
  subst hX
  exact W_J1_init ok hr hd hnm hf rfl ⟨rfl, trivial⟩
theorem cw_J10_compress_2 : CW yJ10_compress_2 cJ10_compress_2 7 (Option.some Jvm.ClassFile.FieldType.int) 5 := ⟨q722, q187, ⟨by decide, by decide⟩, by decide +kernel, by decide⟩
def pkJ10_compress_2_3 (G : GT) (X : CX) (h0 : AH) (Q : State → Prop) (x0 : Option Nat) (x2 : Option Nat) (x4 : Int32) (o : ((Int32 × Int32 × Int32 × AH) ⊕ (Int32 × AH))) : Prop := match o with
  | .inl s => ∀ lv : List (Nat × AV), lle lv [(0, vr x0), (1, vi s.1), (2, vr x2), (3, vi s.2.1), (4, vi x4), (5, vi s.2.2.1)] → V G X 7 h0 Q s.2.2.2 3 lv []
  | .inr z => Q = QM G X h0 (some (vi z.1)) z.2
theorem W_J10_compress_2_3b {G : GT} {X : CX} {d : Nat} {h0 : AH} {Q : State → Prop} (ok : Ok G X RJ10 cJ10_compress_2 7 d h0) (hr : (cxm X).sig.returnType = (Option.some Jvm.ClassFile.FieldType.int)) (hd : 1 ≤ d) {x0 : Option Nat} {x2 : Option Nat} {x4 : Int32} {x1 : Int32} {x3 : Int32} {x5 : Int32} {h : AH} {z : ((Int32 × Int32 × Int32 × AH) ⊕ (Int32 × AH))} (hf : J10_compress_2_3b  x0 x2 x4 x1 x3 x5 h = some z) (hk : pkJ10_compress_2_3 G X h0 Q x0 x2 x4 z) {lv : List (Nat × AV)} (hl : lle lv [(0, vr x0), (1, vi x1), (2, vr x2), (3, vi x3), (4, vi x4), (5, vi x5)]) : V G X 7 h0 Q h 3 lv [] := by
  refine V.sub hl ?_
  unfold J10_compress_2_3b at hf
  refine v_iload ok dJ10_compress_2_3 rfl ?_
  refine v_iload ok dJ10_compress_2_5 rfl ?_
  refine v_icmp_ge ok 44 dJ10_compress_2_7 rfl hf (fun hf => ?_) (fun hf => ?_)
  ·
    refine v_iload ok dJ10_compress_2_44 rfl ?_
    exact v_iret ok hr (by cases hf; exact hk) dJ10_compress_2_46
  ·
    refine v_aload_n ok 0 dJ10_compress_2_10 rfl rfl ?_
    refine v_iload_n ok 1 dJ10_compress_2_11 rfl rfl ?_
    refine v_cald ok rfl dJ10_compress_2_12 hf (fun v1 hf => ?_)
    refine v_istore ok dJ10_compress_2_13 (by decide) ?_
    refine v_iload ok dJ10_compress_2_15 rfl ?_
    refine v_sipush ok 255 dJ10_compress_2_17 rfl ?_
    refine v_icmp_le ok 26 dJ10_compress_2_20 rfl hf (fun hf => ?_) (fun hf => ?_)
    ·
      refine v_aload_n ok 2 dJ10_compress_2_26 rfl rfl ?_
      refine v_iload_n ok 3 dJ10_compress_2_27 rfl rfl ?_
      refine v_iload ok dJ10_compress_2_28 rfl ?_
      refine v_i2b ok dJ10_compress_2_30 ?_
      refine v_bast ok rfl dJ10_compress_2_31 hf (fun h2 hf => ?_)
      refine v_iinc ok x1 (x1 + 1) dJ10_compress_2_32 rfl rfl (by decide) ?_
      refine v_iinc ok x3 (x3 + 1) dJ10_compress_2_35 rfl rfl (by decide) ?_
      refine v_iinc ok x5 (x5 + 1) dJ10_compress_2_38 rfl rfl (by decide) ?_
      refine v_goto ok 3 dJ10_compress_2_41 rfl ?_
      cases hf; exact hk _ ⟨rfl, rfl, rfl, rfl, rfl, rfl, trivial⟩
    ·
      refine v_iload ok dJ10_compress_2_23 rfl ?_
      exact v_iret ok hr (by cases hf; exact hk) dJ10_compress_2_25
theorem W_J10_compress_2_3 {G : GT} {X : CX} {d : Nat} {h0 : AH} {Q : State → Prop} (ok : Ok G X RJ10 cJ10_compress_2 7 d h0) (hr : (cxm X).sig.returnType = (Option.some Jvm.ClassFile.FieldType.int)) (hd : 1 ≤ d) {x0 : Option Nat} {x1 : Int32} {x2 : Option Nat} {x3 : Int32} {x4 : Int32} {x5 : Int32} {h : AH} {z : (Int32 × AH)} (hf : J10_compress_2_3  x0 x1 x2 x3 x4 x5 h = some z) (hk : Q = QM G X h0 (some (vi z.1)) z.2) {lv : List (Nat × AV)} (hl : lle lv [(0, vr x0), (1, vi x1), (2, vr x2), (3, vi x3), (4, vi x4), (5, vi x5)]) : V G X 7 h0 Q h 3 lv [] := by
  unfold J10_compress_2_3 at hf
  exact loopC_walk (Wh := fun s : Int32 × Int32 × Int32 × AH => ∀ lv : List (Nat × AV), lle lv [(0, vr x0), (1, vi s.1), (2, vr x2), (3, vi s.2.1), (4, vi x4), (5, vi s.2.2.1)] → V G X 7 h0 Q s.2.2.2 3 lv []) (PK := fun z => Q = QM G X h0 (some (vi z.1)) z.2) (fun s o hf hk lv hl => W_J10_compress_2_3b ok hr hd hf (by cases o <;> exact hk) hl) _ z hf hk lv hl
theorem W_J10_compress_2 {G : GT} {X : CX} {d : Nat} {h0 : AH} {Q : State → Prop} (ok : Ok G X RJ10 cJ10_compress_2 7 d h0) (hr : (cxm X).sig.returnType = (Option.some Jvm.ClassFile.FieldType.int)) (hd : 1 ≤ d) {x0 : Option Nat} {x1 : Int32} {x2 : Option Nat} {x3 : Int32} {x4 : Int32} {h : AH} {z : (Int32 × AH)} (hf : J10_compress_2 x0 x1 x2 x3 x4 h = some z) (hk : Q = QM G X h0 (some (vi z.1)) z.2) {lv : List (Nat × AV)} (hl : lle lv [(0, vr x0), (1, vi x1), (2, vr x2), (3, vi x3), (4, vi x4)]) : V G X 7 h0 Q h 0 lv [] := by
  refine V.sub hl ?_
  unfold J10_compress_2 at hf
  refine v_iconst ok 0 dJ10_compress_2_0 rfl ?_
  refine v_istore ok dJ10_compress_2_1 (by decide) ?_
  exact W_J10_compress_2_3 ok hr hd hf hk ⟨rfl, rfl, rfl, rfl, rfl, rfl, trivial⟩
theorem M_J10_compress_2 {G : GT} {l : Launch} (hG : Glob G) {d : Nat} (hd : 1 ≤ d) {x0 : Option Nat} {x1 : Int32} {x2 : Option Nat} {x3 : Int32} {x4 : Int32} {h : AH} {v : Int32} {h' : AH} (hf : J10_compress_2 x0 x1 x2 x3 x4 h = some (v, h')) : MM G l yJ10_compress_2 cJ10_compress_2 7 (Option.some Jvm.ClassFile.FieldType.int) d [vr x0, vi x1, vr x2, vi x3, vi x4] h (some (vi v)) h' := by
  refine mm_of hG (plainFor_of_name (by decide)) (Nat.le_of_ble_eq_true rfl) (fun X hX ok hr hnm => ?_)
  subst hX
  exact W_J10_compress_2 ok hr hd hf rfl ⟨rfl, rfl, rfl, rfl, rfl, trivial⟩
theorem cw_J10_length : CW yJ10_length cJ10_length 1 (Option.some Jvm.ClassFile.FieldType.int) 1 := ⟨q740, q187, ⟨by decide, by decide⟩, by decide +kernel, by decide⟩
theorem W_J10_length {G : GT} {X : CX} {d : Nat} {h0 : AH} {Q : State → Prop} (ok : Ok G X RJ10 cJ10_length 1 d h0) (hr : (cxm X).sig.returnType = (Option.some Jvm.ClassFile.FieldType.int)) (hd : 1 ≤ d) {x0 : Option Nat} {h : AH} {z : (Int32 × AH)} (hf : J10_length x0 h = some z) (hk : Q = QM G X h0 (some (vi z.1)) z.2) {lv : List (Nat × AV)} (hl : lle lv [(0, vr x0)]) : V G X 1 h0 Q h 0 lv [] := by
  refine V.sub hl ?_
  unfold J10_length at hf
  refine v_aload_n ok 0 dJ10_length_0 rfl rfl ?_
  refine v_alen ok dJ10_length_1 hf (fun v1 hf => ?_)
  refine v_iconst ok 1 dJ10_length_2 rfl ?_
  refine v_ishr ok dJ10_length_3 ?_
  exact v_iret ok hr (by cases hf; exact hk) dJ10_length_4
theorem M_J10_length {G : GT} {l : Launch} (hG : Glob G) {d : Nat} (hd : 1 ≤ d) {x0 : Option Nat} {h : AH} {v : Int32} {h' : AH} (hf : J10_length x0 h = some (v, h')) : MM G l yJ10_length cJ10_length 1 (Option.some Jvm.ClassFile.FieldType.int) d [vr x0] h (some (vi v)) h' := by
  refine mm_of hG (plainFor_of_name (by decide)) (Nat.le_of_ble_eq_true rfl) (fun X hX ok hr hnm => ?_)
  subst hX
  exact W_J10_length ok hr hd hf rfl ⟨rfl, trivial⟩
theorem cw_J11_checkFromIndexSize : CW yJ11_checkFromIndexSize cJ11_checkFromIndexSize 4 (Option.some Jvm.ClassFile.FieldType.int) 4 := ⟨q761, q188, ⟨by decide, by decide⟩, by decide +kernel, by decide⟩
theorem W_J11_checkFromIndexSize_15 {G : GT} {X : CX} {d : Nat} {h0 : AH} {Q : State → Prop} (ok : Ok G X RJ11 cJ11_checkFromIndexSize 4 d h0) (hr : (cxm X).sig.returnType = (Option.some Jvm.ClassFile.FieldType.int)) (hd : 1 ≤ d) {x0 : Int32} {x1 : Int32} {x2 : Int32} {x3 : Option Nat} {h : AH} {z : (Int32 × AH)} (hf : J11_checkFromIndexSize_15 x0 x1 x2 x3 h = some z) (hk : Q = QM G X h0 (some (vi z.1)) z.2) {lv : List (Nat × AV)} (hl : lle lv [(0, vi x0), (1, vi x1), (2, vi x2), (3, vr x3)]) : V G X 4 h0 Q h 15 lv [] := by
  refine V.sub hl ?_
  unfold J11_checkFromIndexSize_15 at hf
  refine v_aload_n ok 3 dJ11_checkFromIndexSize_15 rfl rfl ?_
  refine v_iload_n ok 0 dJ11_checkFromIndexSize_16 rfl rfl ?_
  refine v_iload_n ok 1 dJ11_checkFromIndexSize_17 rfl rfl ?_
  refine v_iload_n ok 2 dJ11_checkFromIndexSize_18 rfl rfl ?_
  cases hf
theorem W_J11_checkFromIndexSize {G : GT} {X : CX} {d : Nat} {h0 : AH} {Q : State → Prop} (ok : Ok G X RJ11 cJ11_checkFromIndexSize 4 d h0) (hr : (cxm X).sig.returnType = (Option.some Jvm.ClassFile.FieldType.int)) (hd : 1 ≤ d) {x0 : Int32} {x1 : Int32} {x2 : Int32} {x3 : Option Nat} {h : AH} {z : (Int32 × AH)} (hf : J11_checkFromIndexSize x0 x1 x2 x3 h = some z) (hk : Q = QM G X h0 (some (vi z.1)) z.2) {lv : List (Nat × AV)} (hl : lle lv [(0, vi x0), (1, vi x1), (2, vi x2), (3, vr x3)]) : V G X 4 h0 Q h 0 lv [] := by
  refine V.sub hl ?_
  unfold J11_checkFromIndexSize at hf
  refine v_iload_n ok 2 dJ11_checkFromIndexSize_0 rfl rfl ?_
  refine v_iload_n ok 0 dJ11_checkFromIndexSize_1 rfl rfl ?_
  refine v_ior ok dJ11_checkFromIndexSize_2 ?_
  refine v_iload_n ok 1 dJ11_checkFromIndexSize_3 rfl rfl ?_
  refine v_ior ok dJ11_checkFromIndexSize_4 ?_
  refine v_if_lt ok 15 dJ11_checkFromIndexSize_5 rfl hf (fun hf => ?_) (fun hf => ?_)
  ·
    exact W_J11_checkFromIndexSize_15 ok hr hd hf hk ⟨rfl, rfl, rfl, rfl, trivial⟩
  ·
    refine v_iload_n ok 1 dJ11_checkFromIndexSize_8 rfl rfl ?_
    refine v_iload_n ok 2 dJ11_checkFromIndexSize_9 rfl rfl ?_
    refine v_iload_n ok 0 dJ11_checkFromIndexSize_10 rfl rfl ?_
    refine v_isub ok dJ11_checkFromIndexSize_11 ?_
    refine v_icmp_le ok 23 dJ11_checkFromIndexSize_12 rfl hf (fun hf => ?_) (fun hf => ?_)
    ·
      refine v_iload_n ok 0 dJ11_checkFromIndexSize_23 rfl rfl ?_
      exact v_iret ok hr (by cases hf; exact hk) dJ11_checkFromIndexSize_24
    ·
      exact W_J11_checkFromIndexSize_15 ok hr hd hf hk ⟨rfl, rfl, rfl, rfl, trivial⟩
theorem M_J11_checkFromIndexSize {G : GT} {l : Launch} (hG : Glob G) {d : Nat} (hd : 1 ≤ d) {x0 : Int32} {x1 : Int32} {x2 : Int32} {x3 : Option Nat} {h : AH} {v : Int32} {h' : AH} (hf : J11_checkFromIndexSize x0 x1 x2 x3 h = some (v, h')) : MM G l yJ11_checkFromIndexSize cJ11_checkFromIndexSize 4 (Option.some Jvm.ClassFile.FieldType.int) d [vi x0, vi x1, vi x2, vr x3] h (some (vi v)) h' := by
  refine mm_of hG (plainFor_of_name (by decide)) (Nat.le_of_ble_eq_true rfl) (fun X hX ok hr hnm => ?_)
  subst hX
  exact W_J11_checkFromIndexSize ok hr hd hf rfl ⟨rfl, rfl, rfl, rfl, trivial⟩
theorem cw_J9_checkBoundsOffCount : CW yJ9_checkBoundsOffCount cJ9_checkBoundsOffCount 3 (Option.some Jvm.ClassFile.FieldType.int) 3 := ⟨q756, q186, ⟨by decide, by decide⟩, by decide +kernel, by decide⟩
theorem W_J9_checkBoundsOffCount {G : GT} {X : CX} {d : Nat} {h0 : AH} {Q : State → Prop} (ok : Ok G X RJ9 cJ9_checkBoundsOffCount 3 d h0) (hr : (cxm X).sig.returnType = (Option.some Jvm.ClassFile.FieldType.int)) (hd : 2 ≤ d) {x0 : Int32} {x1 : Int32} {x2 : Int32} {h : AH} {z : (Int32 × AH)} (hf : J9_checkBoundsOffCount x0 x1 x2 h = some z) (hk : Q = QM G X h0 (some (vi z.1)) z.2) {lv : List (Nat × AV)} (hl : lle lv [(0, vi x0), (1, vi x1), (2, vi x2)]) : V G X 3 h0 Q h 0 lv [] := by
  refine V.sub hl ?_
  unfold J9_checkBoundsOffCount at hf
  refine v_iload_n ok 0 dJ9_checkBoundsOffCount_0 rfl rfl ?_
  refine v_iload_n ok 1 dJ9_checkBoundsOffCount_1 rfl rfl ?_
  refine v_iload_n ok 2 dJ9_checkBoundsOffCount_2 rfl rfl ?_
  refine v_gets ok (v := vr (hR h 120 13)) (List.mem_of_getElem? (i := 13) rfl) q757 rfl dJ9_checkBoundsOffCount_3 ?_
  refine v_cSi ok [vi x0, vi x1, vi x2, vr (hR h 120 13)] (F := J11_checkFromIndexSize x0 x1 x2 (hR h 120 13) h) (fun v h1 hv => M_J11_checkFromIndexSize ok.2.2.2.2.2.2.1 (d := 1) (Nat.le_refl _) hv) (by exact Nat.le_trans (by decide) hd) cw_J11_checkFromIndexSize q759 q760 dJ9_checkBoundsOffCount_6 [] rfl (Nat.le_of_ble_eq_true rfl) hf (fun v1 h2 hf => ?_)
  exact v_iret ok hr (by cases hf; exact hk) dJ9_checkBoundsOffCount_9
theorem M_J9_checkBoundsOffCount {G : GT} {l : Launch} (hG : Glob G) {d : Nat} (hd : 2 ≤ d) {x0 : Int32} {x1 : Int32} {x2 : Int32} {h : AH} {v : Int32} {h' : AH} (hf : J9_checkBoundsOffCount x0 x1 x2 h = some (v, h')) : MM G l yJ9_checkBoundsOffCount cJ9_checkBoundsOffCount 3 (Option.some Jvm.ClassFile.FieldType.int) d [vi x0, vi x1, vi x2] h (some (vi v)) h' := by
  refine mm_of hG (plainFor_of_name (by decide)) (Nat.le_of_ble_eq_true rfl) (fun X hX ok hr hnm => ?_)
  subst hX
  exact W_J9_checkBoundsOffCount ok hr hd hf rfl ⟨rfl, rfl, rfl, trivial⟩
theorem cw_J10_checkBoundsOffCount : CW yJ10_checkBoundsOffCount cJ10_checkBoundsOffCount 3 none 3 := ⟨q753, q187, ⟨by decide, by decide⟩, by decide +kernel, by decide⟩
theorem W_J10_checkBoundsOffCount {G : GT} {X : CX} {d : Nat} {h0 : AH} {Q : State → Prop} (ok : Ok G X RJ10 cJ10_checkBoundsOffCount 3 d h0) (hr : (cxm X).sig.returnType = none) (hd : 3 ≤ d) {x0 : Int32} {x1 : Int32} {x2 : Option Nat} {h : AH} {z : (AH)} (hf : J10_checkBoundsOffCount x0 x1 x2 h = some z) (hk : Q = QM G X h0 none z) {lv : List (Nat × AV)} (hl : lle lv [(0, vi x0), (1, vi x1), (2, vr x2)]) : V G X 3 h0 Q h 0 lv [] := by
  refine V.sub hl ?_
  unfold J10_checkBoundsOffCount at hf
  refine v_iload_n ok 0 dJ10_checkBoundsOffCount_0 rfl rfl ?_
  refine v_iload_n ok 1 dJ10_checkBoundsOffCount_1 rfl rfl ?_
  refine v_aload_n ok 2 dJ10_checkBoundsOffCount_2 rfl rfl ?_
  refine v_cSi ok [vr x2] (F := J10_length x2 h) (fun v h1 hv => M_J10_length ok.2.2.2.2.2.2.1 (d := 1) (Nat.le_refl _) hv) (by exact Nat.le_trans (by decide) hd) cw_J10_length q738 q739 dJ10_checkBoundsOffCount_3 [vi x1, vi x0] rfl (Nat.le_of_ble_eq_true rfl) hf (fun v1 h2 hf => ?_)
  refine v_cSi ok [vi x0, vi x1, vi v1] (F := J9_checkBoundsOffCount x0 x1 v1 h2) (fun v h1 hv => M_J9_checkBoundsOffCount ok.2.2.2.2.2.2.1 (d := 2) (Nat.le_refl _) hv) (by exact Nat.le_trans (by decide) hd) cw_J9_checkBoundsOffCount q754 q755 dJ10_checkBoundsOffCount_6 [] rfl (Nat.le_of_ble_eq_true rfl) hf (fun v3 h4 hf => ?_)
  refine v_pop ok dJ10_checkBoundsOffCount_9 rfl ?_
  exact v_vret ok hr (by cases hf; exact hk) dJ10_checkBoundsOffCount_10
theorem M_J10_checkBoundsOffCount {G : GT} {l : Launch} (hG : Glob G) {d : Nat} (hd : 3 ≤ d) {x0 : Int32} {x1 : Int32} {x2 : Option Nat} {h : AH} {h' : AH} (hf : J10_checkBoundsOffCount x0 x1 x2 h = some h') : MM G l yJ10_checkBoundsOffCount cJ10_checkBoundsOffCount 3 none d [vi x0, vi x1, vr x2] h none h' := by
  refine mm_of hG (plainFor_of_name (by decide)) (Nat.le_of_ble_eq_true rfl) (fun X hX ok hr hnm => ?_)
  subst hX
  exact W_J10_checkBoundsOffCount ok hr hd hf rfl ⟨rfl, rfl, rfl, trivial⟩
theorem cw_J10_getChar : CW yJ10_getChar cJ10_getChar 2 (Option.some Jvm.ClassFile.FieldType.char) 2 := ⟨q747, q187, ⟨by decide, by decide⟩, by decide +kernel, by decide⟩
theorem W_J10_getChar_18 {G : GT} {X : CX} {d : Nat} {h0 : AH} {Q : State → Prop} (ok : Ok G X RJ10 cJ10_getChar 2 d h0) (hr : (cxm X).sig.returnType = (Option.some Jvm.ClassFile.FieldType.char)) (hd : 2 ≤ d) {h : AH} {z : (Int32 × AH)} (hf : J10_getChar_18  h = some z) (hk : Q = QM G X h0 (some (vi z.1)) z.2) {lv : List (Nat × AV)} (hl : lle lv []) : V G X 2 h0 Q h 18 lv [] := by
  refine V.sub hl ?_
  unfold J10_getChar_18 at hf
  cases hf
theorem W_J10_getChar_28 {G : GT} {X : CX} {d : Nat} {h0 : AH} {Q : State → Prop} (ok : Ok G X RJ10 cJ10_getChar 2 d h0) (hr : (cxm X).sig.returnType = (Option.some Jvm.ClassFile.FieldType.char)) (hd : 2 ≤ d) {x0 : Option Nat} {x1 : Int32} {h : AH} {z : (Int32 × AH)} (hf : J10_getChar_28 x0 x1 h = some z) (hk : Q = QM G X h0 (some (vi z.1)) z.2) {lv : List (Nat × AV)} (hl : lle lv [(0, vr x0), (1, vi x1)]) : V G X 2 h0 Q h 28 lv [] := by
  refine V.sub hl ?_
  unfold J10_getChar_28 at hf
  refine v_iload_n ok 1 dJ10_getChar_28 rfl rfl ?_
  refine v_iconst ok 1 dJ10_getChar_29 rfl ?_
  refine v_ishl ok dJ10_getChar_30 ?_
  refine v_istore_n ok 1 dJ10_getChar_31 rfl (by decide) ?_
  refine v_aload_n ok 0 dJ10_getChar_32 rfl rfl ?_
  refine v_iload_n ok 1 dJ10_getChar_33 rfl rfl ?_
  refine v_iinc ok (jshl x1 1) ((jshl x1 1) + 1) dJ10_getChar_34 rfl rfl (by decide) ?_
  refine v_bald ok rfl dJ10_getChar_37 hf (fun v1 hf => ?_)
  refine v_sipush ok 255 dJ10_getChar_38 rfl ?_
  refine v_iand ok dJ10_getChar_41 ?_
  refine v_gets ok (v := vi (hI h 120 2)) (List.mem_of_getElem? (i := 2) rfl) q741 rfl dJ10_getChar_42 ?_
  refine v_ishl ok dJ10_getChar_45 ?_
  refine v_aload_n ok 0 dJ10_getChar_46 rfl rfl ?_
  refine v_iload_n ok 1 dJ10_getChar_47 rfl rfl ?_
  refine v_bald ok rfl dJ10_getChar_48 hf (fun v2 hf => ?_)
  refine v_sipush ok 255 dJ10_getChar_49 rfl ?_
  refine v_iand ok dJ10_getChar_52 ?_
  refine v_gets ok (v := vi (hI h 120 3)) (List.mem_of_getElem? (i := 3) rfl) q743 rfl dJ10_getChar_53 ?_
  refine v_ishl ok dJ10_getChar_56 ?_
  refine v_ior ok dJ10_getChar_57 ?_
  refine v_i2c ok dJ10_getChar_58 ?_
  exact v_cret ok hr hf (fun hf => by cases hf; exact hk) dJ10_getChar_59
theorem W_J10_getChar {G : GT} {X : CX} {d : Nat} {h0 : AH} {Q : State → Prop} (ok : Ok G X RJ10 cJ10_getChar 2 d h0) (hr : (cxm X).sig.returnType = (Option.some Jvm.ClassFile.FieldType.char)) (hd : 2 ≤ d) {x0 : Option Nat} {x1 : Int32} {h : AH} {z : (Int32 × AH)} (hf : J10_getChar x0 x1 h = some z) (hk : Q = QM G X h0 (some (vi z.1)) z.2) {lv : List (Nat × AV)} (hl : lle lv [(0, vr x0), (1, vi x1)]) : V G X 2 h0 Q h 0 lv [] := by
  refine V.sub hl ?_
  unfold J10_getChar at hf
  refine v_gets ok (v := vi (hI h 120 1)) (List.mem_of_getElem? (i := 1) rfl) q736 rfl dJ10_getChar_0 ?_
  refine v_if_ne ok 28 dJ10_getChar_3 rfl hf (fun hf => ?_) (fun hf => ?_)
  ·
    exact W_J10_getChar_28 ok hr hd hf hk ⟨rfl, rfl, trivial⟩
  ·
    refine v_iload_n ok 1 dJ10_getChar_6 rfl rfl ?_
    refine v_if_lt ok 18 dJ10_getChar_7 rfl hf (fun hf => ?_) (fun hf => ?_)
    ·
      exact W_J10_getChar_18 ok hr hd hf hk trivial
    ·
      refine v_iload_n ok 1 dJ10_getChar_10 rfl rfl ?_
      refine v_aload_n ok 0 dJ10_getChar_11 rfl rfl ?_
      refine v_cSi ok [vr x0] (F := J10_length x0 h) (fun v h1 hv => M_J10_length ok.2.2.2.2.2.2.1 (d := 1) (Nat.le_refl _) hv) (by exact Nat.le_trans (by decide) hd) cw_J10_length q738 q739 dJ10_getChar_12 [vi x1] rfl (Nat.le_of_ble_eq_true rfl) hf (fun v5 h6 hf => ?_)
      refine v_icmp_lt ok 28 dJ10_getChar_15 rfl hf (fun hf => ?_) (fun hf => ?_)
      ·
        exact W_J10_getChar_28 ok hr hd hf hk ⟨rfl, rfl, trivial⟩
      ·
        exact W_J10_getChar_18 ok hr hd hf hk trivial
theorem M_J10_getChar {G : GT} {l : Launch} (hG : Glob G) {d : Nat} (hd : 2 ≤ d) {x0 : Option Nat} {x1 : Int32} {h : AH} {v : Int32} {h' : AH} (hf : J10_getChar x0 x1 h = some (v, h')) : MM G l yJ10_getChar cJ10_getChar 2 (Option.some Jvm.ClassFile.FieldType.char) d [vr x0, vi x1] h (some (vi v)) h' := by
  refine mm_of hG (plainFor_of_name (by decide)) (Nat.le_of_ble_eq_true rfl) (fun X hX ok hr hnm => ?_)
  subst hX
  exact W_J10_getChar ok hr hd hf rfl ⟨rfl, rfl, trivial⟩
theorem cw_J10_compress_3 : CW yJ10_compress_3 cJ10_compress_3 7 (Option.some Jvm.ClassFile.FieldType.int) 5 := ⟨q750, q187, ⟨by decide, by decide⟩, by decide +kernel, by decide⟩
def pkJ10_compress_3_10 (G : GT) (X : CX) (h0 : AH) (Q : State → Prop) (x0 : Option Nat) (x2 : Option Nat) (x4 : Int32) (o : ((Int32 × Int32 × Int32 × AH) ⊕ (Int32 × AH))) : Prop := match o with
  | .inl s => ∀ lv : List (Nat × AV), lle lv [(0, vr x0), (1, vi s.1), (2, vr x2), (3, vi s.2.1), (4, vi x4), (5, vi s.2.2.1)] → V G X 7 h0 Q s.2.2.2 10 lv []
  | .inr z => Q = QM G X h0 (some (vi z.1)) z.2
theorem W_J10_compress_3_10b {G : GT} {X : CX} {d : Nat} {h0 : AH} {Q : State → Prop} (ok : Ok G X RJ10 cJ10_compress_3 7 d h0) (hr : (cxm X).sig.returnType = (Option.some Jvm.ClassFile.FieldType.int)) (hd : 4 ≤ d) {x0 : Option Nat} {x2 : Option Nat} {x4 : Int32} {x1 : Int32} {x3 : Int32} {x5 : Int32} {h : AH} {z : ((Int32 × Int32 × Int32 × AH) ⊕ (Int32 × AH))} (hf : J10_compress_3_10b  x0 x2 x4 x1 x3 x5 h = some z) (hk : pkJ10_compress_3_10 G X h0 Q x0 x2 x4 z) {lv : List (Nat × AV)} (hl : lle lv [(0, vr x0), (1, vi x1), (2, vr x2), (3, vi x3), (4, vi x4), (5, vi x5)]) : V G X 7 h0 Q h 10 lv [] := by
  refine V.sub hl ?_
  unfold J10_compress_3_10b at hf
  refine v_iload ok dJ10_compress_3_10 rfl ?_
  refine v_iload ok dJ10_compress_3_12 rfl ?_
  refine v_icmp_ge ok 53 dJ10_compress_3_14 rfl hf (fun hf => ?_) (fun hf => ?_)
  ·
    refine v_iload ok dJ10_compress_3_53 rfl ?_
    exact v_iret ok hr (by cases hf; exact hk) dJ10_compress_3_55
  ·
    refine v_aload_n ok 0 dJ10_compress_3_17 rfl rfl ?_
    refine v_iload_n ok 1 dJ10_compress_3_18 rfl rfl ?_
    refine v_cSi ok [vr x0, vi x1] (F := J10_getChar x0 x1 h) (fun v h1 hv => M_J10_getChar ok.2.2.2.2.2.2.1 (d := 2) (Nat.le_refl _) hv) (by exact Nat.le_trans (by decide) hd) cw_J10_getChar q745 q746 dJ10_compress_3_19 [] rfl (Nat.le_of_ble_eq_true rfl) hf (fun v1 h2 hf => ?_)
    refine v_istore ok dJ10_compress_3_22 (by decide) ?_
    refine v_iload ok dJ10_compress_3_24 rfl ?_
    refine v_sipush ok 255 dJ10_compress_3_26 rfl ?_
    refine v_icmp_le ok 35 dJ10_compress_3_29 rfl hf (fun hf => ?_) (fun hf => ?_)
    ·
      refine v_aload_n ok 2 dJ10_compress_3_35 rfl rfl ?_
      refine v_iload_n ok 3 dJ10_compress_3_36 rfl rfl ?_
      refine v_iload ok dJ10_compress_3_37 rfl ?_
      refine v_i2b ok dJ10_compress_3_39 ?_
      refine v_bast ok rfl dJ10_compress_3_40 hf (fun h3 hf => ?_)
      refine v_iinc ok x1 (x1 + 1) dJ10_compress_3_41 rfl rfl (by decide) ?_
      refine v_iinc ok x3 (x3 + 1) dJ10_compress_3_44 rfl rfl (by decide) ?_
      refine v_iinc ok x5 (x5 + 1) dJ10_compress_3_47 rfl rfl (by decide) ?_
      refine v_goto ok 10 dJ10_compress_3_50 rfl ?_
      cases hf; exact hk _ ⟨rfl, rfl, rfl, rfl, rfl, rfl, trivial⟩
    ·
      refine v_iload ok dJ10_compress_3_32 rfl ?_
      exact v_iret ok hr (by cases hf; exact hk) dJ10_compress_3_34
theorem W_J10_compress_3_10 {G : GT} {X : CX} {d : Nat} {h0 : AH} {Q : State → Prop} (ok : Ok G X RJ10 cJ10_compress_3 7 d h0) (hr : (cxm X).sig.returnType = (Option.some Jvm.ClassFile.FieldType.int)) (hd : 4 ≤ d) {x0 : Option Nat} {x1 : Int32} {x2 : Option Nat} {x3 : Int32} {x4 : Int32} {x5 : Int32} {h : AH} {z : (Int32 × AH)} (hf : J10_compress_3_10  x0 x1 x2 x3 x4 x5 h = some z) (hk : Q = QM G X h0 (some (vi z.1)) z.2) {lv : List (Nat × AV)} (hl : lle lv [(0, vr x0), (1, vi x1), (2, vr x2), (3, vi x3), (4, vi x4), (5, vi x5)]) : V G X 7 h0 Q h 10 lv [] := by
  unfold J10_compress_3_10 at hf
  exact loopC_walk (Wh := fun s : Int32 × Int32 × Int32 × AH => ∀ lv : List (Nat × AV), lle lv [(0, vr x0), (1, vi s.1), (2, vr x2), (3, vi s.2.1), (4, vi x4), (5, vi s.2.2.1)] → V G X 7 h0 Q s.2.2.2 10 lv []) (PK := fun z => Q = QM G X h0 (some (vi z.1)) z.2) (fun s o hf hk lv hl => W_J10_compress_3_10b ok hr hd hf (by cases o <;> exact hk) hl) _ z hf hk lv hl
theorem W_J10_compress_3 {G : GT} {X : CX} {d : Nat} {h0 : AH} {Q : State → Prop} (ok : Ok G X RJ10 cJ10_compress_3 7 d h0) (hr : (cxm X).sig.returnType = (Option.some Jvm.ClassFile.FieldType.int)) (hd : 4 ≤ d) {x0 : Option Nat} {x1 : Int32} {x2 : Option Nat} {x3 : Int32} {x4 : Int32} {h : AH} {z : (Int32 × AH)} (hf : J10_compress_3 x0 x1 x2 x3 x4 h = some z) (hk : Q = QM G X h0 (some (vi z.1)) z.2) {lv : List (Nat × AV)} (hl : lle lv [(0, vr x0), (1, vi x1), (2, vr x2), (3, vi x3), (4, vi x4)]) : V G X 7 h0 Q h 0 lv [] := by
  refine V.sub hl ?_
  unfold J10_compress_3 at hf
  refine v_iload_n ok 1 dJ10_compress_3_0 rfl rfl ?_
  refine v_iload ok dJ10_compress_3_1 rfl ?_
  refine v_aload_n ok 0 dJ10_compress_3_3 rfl rfl ?_
  refine v_cSv ok [vi x1, vi x4, vr x0] (F := J10_checkBoundsOffCount x1 x4 x0 h) (fun h1 hv => M_J10_checkBoundsOffCount ok.2.2.2.2.2.2.1 (d := 3) (Nat.le_refl _) hv) (by exact Nat.le_trans (by decide) hd) cw_J10_checkBoundsOffCount q751 q752 dJ10_compress_3_4 [] rfl (Nat.le_of_ble_eq_true rfl) hf (fun h4 hf => ?_)
  refine v_iconst ok 0 dJ10_compress_3_7 rfl ?_
  refine v_istore ok dJ10_compress_3_8 (by decide) ?_
  exact W_J10_compress_3_10 ok hr hd hf hk ⟨rfl, rfl, rfl, rfl, rfl, rfl, trivial⟩
theorem M_J10_compress_3 {G : GT} {l : Launch} (hG : Glob G) {d : Nat} (hd : 4 ≤ d) {x0 : Option Nat} {x1 : Int32} {x2 : Option Nat} {x3 : Int32} {x4 : Int32} {h : AH} {v : Int32} {h' : AH} (hf : J10_compress_3 x0 x1 x2 x3 x4 h = some (v, h')) : MM G l yJ10_compress_3 cJ10_compress_3 7 (Option.some Jvm.ClassFile.FieldType.int) d [vr x0, vi x1, vr x2, vi x3, vi x4] h (some (vi v)) h' := by
  refine mm_of hG (plainFor_of_name (by decide)) (Nat.le_of_ble_eq_true rfl) (fun X hX ok hr hnm => ?_)
  subst hX
  exact W_J10_compress_3 ok hr hd hf rfl ⟨rfl, rfl, rfl, rfl, rfl, trivial⟩
theorem cw_J10_newBytesLength : CW yJ10_newBytesLength cJ10_newBytesLength 1 (Option.some Jvm.ClassFile.FieldType.int) 1 := ⟨q731, q187, ⟨by decide, by decide⟩, by decide +kernel, by decide⟩
theorem W_J10_newBytesLength {G : GT} {X : CX} {d : Nat} {h0 : AH} {Q : State → Prop} (ok : Ok G X RJ10 cJ10_newBytesLength 1 d h0) (hr : (cxm X).sig.returnType = (Option.some Jvm.ClassFile.FieldType.int)) (hd : 1 ≤ d) {x0 : Int32} {h : AH} {z : (Int32 × AH)} (hf : J10_newBytesLength x0 h = some z) (hk : Q = QM G X h0 (some (vi z.1)) z.2) {lv : List (Nat × AV)} (hl : lle lv [(0, vi x0)]) : V G X 1 h0 Q h 0 lv [] := by
  refine V.sub hl ?_
  unfold J10_newBytesLength at hf
  refine v_iload_n ok 0 dJ10_newBytesLength_0 rfl rfl ?_
  refine v_if_ge ok 12 dJ10_newBytesLength_1 rfl hf (fun hf => ?_) (fun hf => ?_)
  ·
    refine v_iload_n ok 0 dJ10_newBytesLength_12 rfl rfl ?_
    refine v_ldc ok q732 dJ10_newBytesLength_13 ?_
    refine v_icmp_lt ok 55 dJ10_newBytesLength_15 rfl hf (fun hf => ?_) (fun hf => ?_)
    ·
      refine v_iload_n ok 0 dJ10_newBytesLength_55 rfl rfl ?_
      refine v_iconst ok 1 dJ10_newBytesLength_56 rfl ?_
      refine v_ishl ok dJ10_newBytesLength_57 ?_
      exact v_iret ok hr (by cases hf; exact hk) dJ10_newBytesLength_58
    ·
      cases hf
  ·
    cases hf
theorem M_J10_newBytesLength {G : GT} {l : Launch} (hG : Glob G) {d : Nat} (hd : 1 ≤ d) {x0 : Int32} {h : AH} {v : Int32} {h' : AH} (hf : J10_newBytesLength x0 h = some (v, h')) : MM G l yJ10_newBytesLength cJ10_newBytesLength 1 (Option.some Jvm.ClassFile.FieldType.int) d [vi x0] h (some (vi v)) h' := by
  refine mm_of hG (plainFor_of_name (by decide)) (Nat.le_of_ble_eq_true rfl) (fun X hX ok hr hnm => ?_)
  subst hX
  exact W_J10_newBytesLength ok hr hd hf rfl ⟨rfl, trivial⟩
theorem cw_J10_newBytesFor : CW yJ10_newBytesFor cJ10_newBytesFor 1 (Option.some (Jvm.ClassFile.FieldType.array Jvm.ClassFile.FieldType.byte)) 1 := ⟨q728, q187, ⟨by decide, by decide⟩, by decide +kernel, by decide⟩
theorem W_J10_newBytesFor {G : GT} {X : CX} {d : Nat} {h0 : AH} {Q : State → Prop} (ok : Ok G X RJ10 cJ10_newBytesFor 1 d h0) (hr : (cxm X).sig.returnType = (Option.some (Jvm.ClassFile.FieldType.array Jvm.ClassFile.FieldType.byte))) (hd : 2 ≤ d) {x0 : Int32} {h : AH} {z : (Option Nat × AH)} (hf : J10_newBytesFor x0 h = some z) (hk : Q = QM G X h0 (some (vr z.1)) z.2) {lv : List (Nat × AV)} (hl : lle lv [(0, vi x0)]) : V G X 1 h0 Q h 0 lv [] := by
  refine V.sub hl ?_
  unfold J10_newBytesFor at hf
  refine v_iload_n ok 0 dJ10_newBytesFor_0 rfl rfl ?_
  refine v_cSi ok [vi x0] (F := J10_newBytesLength x0 h) (fun v h1 hv => M_J10_newBytesLength ok.2.2.2.2.2.2.1 (d := 1) (Nat.le_refl _) hv) (by exact Nat.le_trans (by decide) hd) cw_J10_newBytesLength q729 q730 dJ10_newBytesFor_1 [] rfl (Nat.le_of_ble_eq_true rfl) hf (fun v1 h2 hf => ?_)
  refine v_newarr ok (t := 101) (atype := .byte) (by decide) (by decide) rfl q452 (fun _ _ _ _ e1 e2 => by first | exact congrArg Value.int e1.symm | exact congrArg Value.long e2.symm) (by decide) dJ10_newBytesFor_4 hf (fun v3 h4 hf => ?_)
  exact v_aret ok hr (by first | exact Or.inl ⟨_, rfl⟩ | exact Or.inr ⟨_, rfl⟩) (by cases hf; exact hk) dJ10_newBytesFor_6
theorem M_J10_newBytesFor {G : GT} {l : Launch} (hG : Glob G) {d : Nat} (hd : 2 ≤ d) {x0 : Int32} {h : AH} {v : Option Nat} {h' : AH} (hf : J10_newBytesFor x0 h = some (v, h')) : MM G l yJ10_newBytesFor cJ10_newBytesFor 1 (Option.some (Jvm.ClassFile.FieldType.array Jvm.ClassFile.FieldType.byte)) d [vi x0] h (some (vr v)) h' := by
  refine mm_of hG (plainFor_of_name (by decide)) (Nat.le_of_ble_eq_true rfl) (fun X hX ok hr hnm => ?_)
  subst hX
  exact W_J10_newBytesFor ok hr hd hf rfl ⟨rfl, trivial⟩
theorem cw_J10_putChar : CW yJ10_putChar cJ10_putChar 3 none 3 := ⟨q735, q187, ⟨by decide, by decide⟩, by decide +kernel, by decide⟩
theorem W_J10_putChar_18 {G : GT} {X : CX} {d : Nat} {h0 : AH} {Q : State → Prop} (ok : Ok G X RJ10 cJ10_putChar 3 d h0) (hr : (cxm X).sig.returnType = none) (hd : 2 ≤ d) {h : AH} {z : (AH)} (hf : J10_putChar_18  h = some z) (hk : Q = QM G X h0 none z) {lv : List (Nat × AV)} (hl : lle lv []) : V G X 3 h0 Q h 18 lv [] := by
  refine V.sub hl ?_
  unfold J10_putChar_18 at hf
  cases hf
theorem W_J10_putChar_28 {G : GT} {X : CX} {d : Nat} {h0 : AH} {Q : State → Prop} (ok : Ok G X RJ10 cJ10_putChar 3 d h0) (hr : (cxm X).sig.returnType = none) (hd : 2 ≤ d) {x0 : Option Nat} {x1 : Int32} {x2 : Int32} {h : AH} {z : (AH)} (hf : J10_putChar_28 x0 x1 x2 h = some z) (hk : Q = QM G X h0 none z) {lv : List (Nat × AV)} (hl : lle lv [(0, vr x0), (1, vi x1), (2, vi x2)]) : V G X 3 h0 Q h 28 lv [] := by
  refine V.sub hl ?_
  unfold J10_putChar_28 at hf
  refine v_iload_n ok 1 dJ10_putChar_28 rfl rfl ?_
  refine v_iconst ok 1 dJ10_putChar_29 rfl ?_
  refine v_ishl ok dJ10_putChar_30 ?_
  refine v_istore_n ok 1 dJ10_putChar_31 rfl (by decide) ?_
  refine v_aload_n ok 0 dJ10_putChar_32 rfl rfl ?_
  refine v_iload_n ok 1 dJ10_putChar_33 rfl rfl ?_
  refine v_iinc ok (jshl x1 1) ((jshl x1 1) + 1) dJ10_putChar_34 rfl rfl (by decide) ?_
  refine v_iload_n ok 2 dJ10_putChar_37 rfl rfl ?_
  refine v_gets ok (v := vi (hI h 120 2)) (List.mem_of_getElem? (i := 2) rfl) q741 rfl dJ10_putChar_38 ?_
  refine v_ishr ok dJ10_putChar_41 ?_
  refine v_i2b ok dJ10_putChar_42 ?_
  refine v_bast ok rfl dJ10_putChar_43 hf (fun h1 hf => ?_)
  refine v_aload_n ok 0 dJ10_putChar_44 rfl rfl ?_
  refine v_iload_n ok 1 dJ10_putChar_45 rfl rfl ?_
  refine v_iload_n ok 2 dJ10_putChar_46 rfl rfl ?_
  refine v_gets ok (v := vi (hI h1 120 3)) (List.mem_of_getElem? (i := 3) rfl) q743 rfl dJ10_putChar_47 ?_
  refine v_ishr ok dJ10_putChar_50 ?_
  refine v_i2b ok dJ10_putChar_51 ?_
  refine v_bast ok rfl dJ10_putChar_52 hf (fun h2 hf => ?_)
  exact v_vret ok hr (by cases hf; exact hk) dJ10_putChar_53
theorem W_J10_putChar {G : GT} {X : CX} {d : Nat} {h0 : AH} {Q : State → Prop} (ok : Ok G X RJ10 cJ10_putChar 3 d h0) (hr : (cxm X).sig.returnType = none) (hd : 2 ≤ d) {x0 : Option Nat} {x1 : Int32} {x2 : Int32} {h : AH} {z : (AH)} (hf : J10_putChar x0 x1 x2 h = some z) (hk : Q = QM G X h0 none z) {lv : List (Nat × AV)} (hl : lle lv [(0, vr x0), (1, vi x1), (2, vi x2)]) : V G X 3 h0 Q h 0 lv [] := by
  refine V.sub hl ?_
  unfold J10_putChar at hf
  refine v_gets ok (v := vi (hI h 120 1)) (List.mem_of_getElem? (i := 1) rfl) q736 rfl dJ10_putChar_0 ?_
  refine v_if_ne ok 28 dJ10_putChar_3 rfl hf (fun hf => ?_) (fun hf => ?_)
  ·
    exact W_J10_putChar_28 ok hr hd hf hk ⟨rfl, rfl, rfl, trivial⟩
  ·
    refine v_iload_n ok 1 dJ10_putChar_6 rfl rfl ?_
    refine v_if_lt ok 18 dJ10_putChar_7 rfl hf (fun hf => ?_) (fun hf => ?_)
    ·
      exact W_J10_putChar_18 ok hr hd hf hk trivial
    ·
      refine v_iload_n ok 1 dJ10_putChar_10 rfl rfl ?_
      refine v_aload_n ok 0 dJ10_putChar_11 rfl rfl ?_
      refine v_cSi ok [vr x0] (F := J10_length x0 h) (fun v h1 hv => M_J10_length ok.2.2.2.2.2.2.1 (d := 1) (Nat.le_refl _) hv) (by exact Nat.le_trans (by decide) hd) cw_J10_length q738 q739 dJ10_putChar_12 [vi x1] rfl (Nat.le_of_ble_eq_true rfl) hf (fun v3 h4 hf => ?_)
      refine v_icmp_lt ok 28 dJ10_putChar_15 rfl hf (fun hf => ?_) (fun hf => ?_)
      ·
        exact W_J10_putChar_28 ok hr hd hf hk ⟨rfl, rfl, rfl, trivial⟩
      ·
        exact W_J10_putChar_18 ok hr hd hf hk trivial
theorem M_J10_putChar {G : GT} {l : Launch} (hG : Glob G) {d : Nat} (hd : 2 ≤ d) {x0 : Option Nat} {x1 : Int32} {x2 : Int32} {h : AH} {h' : AH} (hf : J10_putChar x0 x1 x2 h = some h') : MM G l yJ10_putChar cJ10_putChar 3 none d [vr x0, vi x1, vi x2] h none h' := by
  refine mm_of hG (plainFor_of_name (by decide)) (Nat.le_of_ble_eq_true rfl) (fun X hX ok hr hnm => ?_)
  subst hX
  exact W_J10_putChar ok hr hd hf rfl ⟨rfl, rfl, rfl, trivial⟩
theorem cw_J10_toBytes : CW yJ10_toBytes cJ10_toBytes 5 (Option.some (Jvm.ClassFile.FieldType.array Jvm.ClassFile.FieldType.byte)) 3 := ⟨q725, q187, ⟨by decide, by decide⟩, by decide +kernel, by decide⟩
def pkJ10_toBytes_8 (G : GT) (X : CX) (h0 : AH) (Q : State → Prop) (x0 : Option Nat) (x2 : Int32) (x3 : Option Nat) (o : ((Int32 × Int32 × AH) ⊕ (Option Nat × AH))) : Prop := match o with
  | .inl s => ∀ lv : List (Nat × AV), lle lv [(0, vr x0), (1, vi s.1), (2, vi x2), (3, vr x3), (4, vi s.2.1)] → V G X 5 h0 Q s.2.2 8 lv []
  | .inr z => Q = QM G X h0 (some (vr z.1)) z.2
theorem W_J10_toBytes_8b {G : GT} {X : CX} {d : Nat} {h0 : AH} {Q : State → Prop} (ok : Ok G X RJ10 cJ10_toBytes 5 d h0) (hr : (cxm X).sig.returnType = (Option.some (Jvm.ClassFile.FieldType.array Jvm.ClassFile.FieldType.byte))) (hd : 3 ≤ d) {x0 : Option Nat} {x2 : Int32} {x3 : Option Nat} {x1 : Int32} {x4 : Int32} {h : AH} {z : ((Int32 × Int32 × AH) ⊕ (Option Nat × AH))} (hf : J10_toBytes_8b  x0 x2 x3 x1 x4 h = some z) (hk : pkJ10_toBytes_8 G X h0 Q x0 x2 x3 z) {lv : List (Nat × AV)} (hl : lle lv [(0, vr x0), (1, vi x1), (2, vi x2), (3, vr x3), (4, vi x4)]) : V G X 5 h0 Q h 8 lv [] := by
  refine V.sub hl ?_
  unfold J10_toBytes_8b at hf
  refine v_iload ok dJ10_toBytes_8 rfl ?_
  refine v_iload_n ok 2 dJ10_toBytes_10 rfl rfl ?_
  refine v_icmp_ge ok 32 dJ10_toBytes_11 rfl hf (fun hf => ?_) (fun hf => ?_)
  ·
    refine v_aload_n ok 3 dJ10_toBytes_32 rfl rfl ?_
    exact v_aret ok hr (by first | exact Or.inl ⟨_, rfl⟩ | exact Or.inr ⟨_, rfl⟩) (by cases hf; exact hk) dJ10_toBytes_33
  ·
    refine v_aload_n ok 3 dJ10_toBytes_14 rfl rfl ?_
    refine v_iload ok dJ10_toBytes_15 rfl ?_
    refine v_aload_n ok 0 dJ10_toBytes_17 rfl rfl ?_
    refine v_iload_n ok 1 dJ10_toBytes_18 rfl rfl ?_
    refine v_cald ok rfl dJ10_toBytes_19 hf (fun v1 hf => ?_)
    refine v_cSv ok [vr x3, vi x4, vi v1] (F := J10_putChar x3 x4 v1 h) (fun h1 hv => M_J10_putChar ok.2.2.2.2.2.2.1 (d := 2) (Nat.le_refl _) hv) (by exact Nat.le_trans (by decide) hd) cw_J10_putChar q733 q734 dJ10_toBytes_20 [] rfl (Nat.le_of_ble_eq_true rfl) hf (fun h2 hf => ?_)
    refine v_iinc ok x1 (x1 + 1) dJ10_toBytes_23 rfl rfl (by decide) ?_
    refine v_iinc ok x4 (x4 + 1) dJ10_toBytes_26 rfl rfl (by decide) ?_
    refine v_goto ok 8 dJ10_toBytes_29 rfl ?_
    cases hf; exact hk _ ⟨rfl, rfl, rfl, rfl, rfl, trivial⟩
theorem W_J10_toBytes_8 {G : GT} {X : CX} {d : Nat} {h0 : AH} {Q : State → Prop} (ok : Ok G X RJ10 cJ10_toBytes 5 d h0) (hr : (cxm X).sig.returnType = (Option.some (Jvm.ClassFile.FieldType.array Jvm.ClassFile.FieldType.byte))) (hd : 3 ≤ d) {x0 : Option Nat} {x1 : Int32} {x2 : Int32} {x3 : Option Nat} {x4 : Int32} {h : AH} {z : (Option Nat × AH)} (hf : J10_toBytes_8  x0 x1 x2 x3 x4 h = some z) (hk : Q = QM G X h0 (some (vr z.1)) z.2) {lv : List (Nat × AV)} (hl : lle lv [(0, vr x0), (1, vi x1), (2, vi x2), (3, vr x3), (4, vi x4)]) : V G X 5 h0 Q h 8 lv [] := by
  unfold J10_toBytes_8 at hf
  exact loopC_walk (Wh := fun s : Int32 × Int32 × AH => ∀ lv : List (Nat × AV), lle lv [(0, vr x0), (1, vi s.1), (2, vi x2), (3, vr x3), (4, vi s.2.1)] → V G X 5 h0 Q s.2.2 8 lv []) (PK := fun z => Q = QM G X h0 (some (vr z.1)) z.2) (fun s o hf hk lv hl => W_J10_toBytes_8b ok hr hd hf (by cases o <;> exact hk) hl) _ z hf hk lv hl
theorem W_J10_toBytes {G : GT} {X : CX} {d : Nat} {h0 : AH} {Q : State → Prop} (ok : Ok G X RJ10 cJ10_toBytes 5 d h0) (hr : (cxm X).sig.returnType = (Option.some (Jvm.ClassFile.FieldType.array Jvm.ClassFile.FieldType.byte))) (hd : 3 ≤ d) {x0 : Option Nat} {x1 : Int32} {x2 : Int32} {h : AH} {z : (Option Nat × AH)} (hf : J10_toBytes x0 x1 x2 h = some z) (hk : Q = QM G X h0 (some (vr z.1)) z.2) {lv : List (Nat × AV)} (hl : lle lv [(0, vr x0), (1, vi x1), (2, vi x2)]) : V G X 5 h0 Q h 0 lv [] := by
  refine V.sub hl ?_
  unfold J10_toBytes at hf
  refine v_iload_n ok 2 dJ10_toBytes_0 rfl rfl ?_
  refine v_cSr ok [vi x2] (F := J10_newBytesFor x2 h) (fun v h1 hv => M_J10_newBytesFor ok.2.2.2.2.2.2.1 (d := 2) (Nat.le_refl _) hv) (by exact Nat.le_trans (by decide) hd) cw_J10_newBytesFor q726 q727 dJ10_toBytes_1 [] rfl (Nat.le_of_ble_eq_true rfl) hf (fun v3 h4 hf => ?_)
  refine v_astore_n ok 3 dJ10_toBytes_4 rfl (by decide) ?_
  refine v_iconst ok 0 dJ10_toBytes_5 rfl ?_
  refine v_istore ok dJ10_toBytes_6 (by decide) ?_
  exact W_J10_toBytes_8 ok hr hd hf hk ⟨rfl, rfl, rfl, rfl, rfl, trivial⟩
theorem M_J10_toBytes {G : GT} {l : Launch} (hG : Glob G) {d : Nat} (hd : 3 ≤ d) {x0 : Option Nat} {x1 : Int32} {x2 : Int32} {h : AH} {v : Option Nat} {h' : AH} (hf : J10_toBytes x0 x1 x2 h = some (v, h')) : MM G l yJ10_toBytes cJ10_toBytes 5 (Option.some (Jvm.ClassFile.FieldType.array Jvm.ClassFile.FieldType.byte)) d [vr x0, vi x1, vi x2] h (some (vr v)) h' := by
  refine mm_of hG (plainFor_of_name (by decide)) (Nat.le_of_ble_eq_true rfl) (fun X hX ok hr hnm => ?_)
  subst hX
  exact W_J10_toBytes ok hr hd hf rfl ⟨rfl, rfl, rfl, trivial⟩
theorem cw_J10_compress : CW yJ10_compress cJ10_compress 6 (Option.some (Jvm.ClassFile.FieldType.array Jvm.ClassFile.FieldType.byte)) 3 := ⟨q719, q187, ⟨by decide, by decide⟩, by decide +kernel, by decide⟩
theorem W_J10_compress {G : GT} {X : CX} {d : Nat} {h0 : AH} {Q : State → Prop} (ok : Ok G X RJ10 cJ10_compress 6 d h0) (hr : (cxm X).sig.returnType = (Option.some (Jvm.ClassFile.FieldType.array Jvm.ClassFile.FieldType.byte))) (hd : 5 ≤ d) {x0 : Option Nat} {x1 : Int32} {x2 : Int32} {h : AH} {z : (Option Nat × AH)} (hf : J10_compress x0 x1 x2 h = some z) (hk : Q = QM G X h0 (some (vr z.1)) z.2) {lv : List (Nat × AV)} (hl : lle lv [(0, vr x0), (1, vi x1), (2, vi x2)]) : V G X 6 h0 Q h 0 lv [] := by
  refine V.sub hl ?_
  unfold J10_compress at hf
  refine v_iload_n ok 2 dJ10_compress_0 rfl rfl ?_
  refine v_newarr ok (t := 101) (atype := .byte) (by decide) (by decide) rfl q452 (fun _ _ _ _ e1 e2 => by first | exact congrArg Value.int e1.symm | exact congrArg Value.long e2.symm) (by decide) dJ10_compress_1 hf (fun v1 h2 hf => ?_)
  refine v_astore_n ok 3 dJ10_compress_3 rfl (by decide) ?_
  refine v_aload_n ok 0 dJ10_compress_4 rfl rfl ?_
  refine v_iload_n ok 1 dJ10_compress_5 rfl rfl ?_
  refine v_aload_n ok 3 dJ10_compress_6 rfl rfl ?_
  refine v_iconst ok 0 dJ10_compress_7 rfl ?_
  refine v_iload_n ok 2 dJ10_compress_8 rfl rfl ?_
  refine v_cSi ok [vr x0, vi x1, vr v1, vi 0, vi x2] (F := J10_compress_2 x0 x1 v1 0 x2 h2) (fun v h1 hv => M_J10_compress_2 ok.2.2.2.2.2.2.1 (d := 1) (Nat.le_refl _) hv) (by exact Nat.le_trans (by decide) hd) cw_J10_compress_2 q720 q721 dJ10_compress_9 [] rfl (Nat.le_of_ble_eq_true rfl) hf (fun v3 h4 hf => ?_)
  refine v_istore ok dJ10_compress_12 (by decide) ?_
  refine v_iload ok dJ10_compress_14 rfl ?_
  refine v_iload_n ok 2 dJ10_compress_16 rfl rfl ?_
  refine v_icmp_eq ok 57 dJ10_compress_17 rfl hf (fun hf => ?_) (fun hf => ?_)
  ·
    refine v_aload_n ok 3 dJ10_compress_57 rfl rfl ?_
    exact v_aret ok hr (by first | exact Or.inl ⟨_, rfl⟩ | exact Or.inr ⟨_, rfl⟩) (by cases hf; exact hk) dJ10_compress_58
  ·
    refine v_aload_n ok 0 dJ10_compress_20 rfl rfl ?_
    refine v_iload_n ok 1 dJ10_compress_21 rfl rfl ?_
    refine v_iload_n ok 2 dJ10_compress_22 rfl rfl ?_
    refine v_cSr ok [vr x0, vi x1, vi x2] (F := J10_toBytes x0 x1 x2 h4) (fun v h1 hv => M_J10_toBytes ok.2.2.2.2.2.2.1 (d := 3) (Nat.le_refl _) hv) (by exact Nat.le_trans (by decide) hd) cw_J10_toBytes q723 q724 dJ10_compress_23 [] rfl (Nat.le_of_ble_eq_true rfl) hf (fun v5 h6 hf => ?_)
    refine v_astore ok dJ10_compress_26 (by decide) ?_
    refine v_aload ok dJ10_compress_28 rfl ?_
    refine v_iload ok dJ10_compress_30 rfl ?_
    refine v_cSi ok [vr v5, vi v3] (F := J10_getChar v5 v3 h6) (fun v h1 hv => M_J10_getChar ok.2.2.2.2.2.2.1 (d := 2) (Nat.le_refl _) hv) (by exact Nat.le_trans (by decide) hd) cw_J10_getChar q745 q746 dJ10_compress_32 [] rfl (Nat.le_of_ble_eq_true rfl) hf (fun v7 h8 hf => ?_)
    refine v_sipush ok 255 dJ10_compress_35 rfl ?_
    refine v_icmp_gt ok 54 dJ10_compress_38 rfl hf (fun hf => ?_) (fun hf => ?_)
    ·
      refine v_aload ok dJ10_compress_54 rfl ?_
      exact v_aret ok hr (by first | exact Or.inl ⟨_, rfl⟩ | exact Or.inr ⟨_, rfl⟩) (by cases hf; exact hk) dJ10_compress_56
    ·
      refine v_aload ok dJ10_compress_41 rfl ?_
      refine v_iconst ok 0 dJ10_compress_43 rfl ?_
      refine v_aload_n ok 3 dJ10_compress_44 rfl rfl ?_
      refine v_iconst ok 0 dJ10_compress_45 rfl ?_
      refine v_iload_n ok 2 dJ10_compress_46 rfl rfl ?_
      refine v_cSi ok [vr v5, vi 0, vr v1, vi 0, vi x2] (F := J10_compress_3 v5 0 v1 0 x2 h8) (fun v h1 hv => M_J10_compress_3 ok.2.2.2.2.2.2.1 (d := 4) (Nat.le_refl _) hv) (by exact Nat.le_trans (by decide) hd) cw_J10_compress_3 q748 q749 dJ10_compress_47 [] rfl (Nat.le_of_ble_eq_true rfl) hf (fun v9 h10 hf => ?_)
      refine v_iload_n ok 2 dJ10_compress_50 rfl rfl ?_
      refine v_icmp_eq ok 57 dJ10_compress_51 rfl hf (fun hf => ?_) (fun hf => ?_)
      ·
        refine v_aload_n ok 3 dJ10_compress_57 rfl rfl ?_
        exact v_aret ok hr (by first | exact Or.inl ⟨_, rfl⟩ | exact Or.inr ⟨_, rfl⟩) (by cases hf; exact hk) dJ10_compress_58
      ·
        refine v_aload ok dJ10_compress_54 rfl ?_
        exact v_aret ok hr (by first | exact Or.inl ⟨_, rfl⟩ | exact Or.inr ⟨_, rfl⟩) (by cases hf; exact hk) dJ10_compress_56
theorem M_J10_compress {G : GT} {l : Launch} (hG : Glob G) {d : Nat} (hd : 5 ≤ d) {x0 : Option Nat} {x1 : Int32} {x2 : Int32} {h : AH} {v : Option Nat} {h' : AH} (hf : J10_compress x0 x1 x2 h = some (v, h')) : MM G l yJ10_compress cJ10_compress 6 (Option.some (Jvm.ClassFile.FieldType.array Jvm.ClassFile.FieldType.byte)) d [vr x0, vi x1, vi x2] h (some (vr v)) h' := by
  refine mm_of hG (plainFor_of_name (by decide)) (Nat.le_of_ble_eq_true rfl) (fun X hX ok hr hnm => ?_)
  subst hX
  exact W_J10_compress ok hr hd hf rfl ⟨rfl, rfl, rfl, trivial⟩
theorem cw_J10_coderFromArrayLen : CW yJ10_coderFromArrayLen cJ10_coderFromArrayLen 2 (Option.some Jvm.ClassFile.FieldType.byte) 2 := ⟨q764, q187, ⟨by decide, by decide⟩, by decide +kernel, by decide⟩
theorem W_J10_coderFromArrayLen {G : GT} {X : CX} {d : Nat} {h0 : AH} {Q : State → Prop} (ok : Ok G X RJ10 cJ10_coderFromArrayLen 2 d h0) (hr : (cxm X).sig.returnType = (Option.some Jvm.ClassFile.FieldType.byte)) (hd : 1 ≤ d) {x0 : Option Nat} {x1 : Int32} {h : AH} {z : (Int32 × AH)} (hf : J10_coderFromArrayLen x0 x1 h = some z) (hk : Q = QM G X h0 (some (vi z.1)) z.2) {lv : List (Nat × AV)} (hl : lle lv [(0, vr x0), (1, vi x1)]) : V G X 2 h0 Q h 0 lv [] := by
  refine V.sub hl ?_
  unfold J10_coderFromArrayLen at hf
  refine v_iload_n ok 1 dJ10_coderFromArrayLen_0 rfl rfl ?_
  refine v_aload_n ok 0 dJ10_coderFromArrayLen_1 rfl rfl ?_
  refine v_alen ok dJ10_coderFromArrayLen_2 hf (fun v1 hf => ?_)
  refine v_isub ok dJ10_coderFromArrayLen_3 ?_
  refine v_bipush ok 31 dJ10_coderFromArrayLen_4 rfl ?_
  refine v_iushr ok dJ10_coderFromArrayLen_6 ?_
  refine v_i2b ok dJ10_coderFromArrayLen_7 ?_
  exact v_zret ok hr (by decide) hf (fun hf => by cases hf; exact hk) dJ10_coderFromArrayLen_8
theorem M_J10_coderFromArrayLen {G : GT} {l : Launch} (hG : Glob G) {d : Nat} (hd : 1 ≤ d) {x0 : Option Nat} {x1 : Int32} {h : AH} {v : Int32} {h' : AH} (hf : J10_coderFromArrayLen x0 x1 h = some (v, h')) : MM G l yJ10_coderFromArrayLen cJ10_coderFromArrayLen 2 (Option.some Jvm.ClassFile.FieldType.byte) d [vr x0, vi x1] h (some (vi v)) h' := by
  refine mm_of hG (plainFor_of_name (by decide)) (Nat.le_of_ble_eq_true rfl) (fun X hX ok hr hnm => ?_)
  subst hX
  exact W_J10_coderFromArrayLen ok hr hd hf rfl ⟨rfl, rfl, trivial⟩
theorem cw_J3_hashCode_2 : CW yJ3_hashCode_2 cJ3_hashCode_2 6 (Option.some Jvm.ClassFile.FieldType.int) 4 := ⟨q824, q173, ⟨by decide, by decide⟩, by decide +kernel, by decide⟩
def pkJ3_hashCode_2_8 (G : GT) (X : CX) (h0 : AH) (Q : State → Prop) (x1 : Option Nat) (x4 : Int32) (o : ((Int32 × Int32 × AH) ⊕ (Int32 × AH))) : Prop := match o with
  | .inl s => ∀ lv : List (Nat × AV), lle lv [(0, vi s.1), (1, vr x1), (4, vi x4), (5, vi s.2.1)] → V G X 6 h0 Q s.2.2 8 lv []
  | .inr z => Q = QM G X h0 (some (vi z.1)) z.2
theorem W_J3_hashCode_2_8b {G : GT} {X : CX} {d : Nat} {h0 : AH} {Q : State → Prop} (ok : Ok G X RJ3 cJ3_hashCode_2 6 d h0) (hr : (cxm X).sig.returnType = (Option.some Jvm.ClassFile.FieldType.int)) (hd : 1 ≤ d) {x1 : Option Nat} {x4 : Int32} {x0 : Int32} {x5 : Int32} {h : AH} {z : ((Int32 × Int32 × AH) ⊕ (Int32 × AH))} (hf : J3_hashCode_2_8b  x1 x4 x0 x5 h = some z) (hk : pkJ3_hashCode_2_8 G X h0 Q x1 x4 z) {lv : List (Nat × AV)} (hl : lle lv [(0, vi x0), (1, vr x1), (4, vi x4), (5, vi x5)]) : V G X 6 h0 Q h 8 lv [] := by
  refine V.sub hl ?_
  unfold J3_hashCode_2_8b at hf
  refine v_iload ok dJ3_hashCode_2_8 rfl ?_
  refine v_iload ok dJ3_hashCode_2_10 rfl ?_
  refine v_icmp_ge ok 31 dJ3_hashCode_2_12 rfl hf (fun hf => ?_) (fun hf => ?_)
  ·
    refine v_iload_n ok 0 dJ3_hashCode_2_31 rfl rfl ?_
    exact v_iret ok hr (by cases hf; exact hk) dJ3_hashCode_2_32
  ·
    refine v_bipush ok 31 dJ3_hashCode_2_15 rfl ?_
    refine v_iload_n ok 0 dJ3_hashCode_2_17 rfl rfl ?_
    refine v_imul ok dJ3_hashCode_2_18 ?_
    refine v_aload_n ok 1 dJ3_hashCode_2_19 rfl rfl ?_
    refine v_iload ok dJ3_hashCode_2_20 rfl ?_
    refine v_bald ok rfl dJ3_hashCode_2_22 hf (fun v1 hf => ?_)
    refine v_iadd ok dJ3_hashCode_2_23 ?_
    refine v_istore_n ok 0 dJ3_hashCode_2_24 rfl (by decide) ?_
    refine v_iinc ok x5 (x5 + 1) dJ3_hashCode_2_25 rfl rfl (by decide) ?_
    refine v_goto ok 8 dJ3_hashCode_2_28 rfl ?_
    cases hf; exact hk _ ⟨rfl, rfl, rfl, rfl, trivial⟩
theorem W_J3_hashCode_2_8 {G : GT} {X : CX} {d : Nat} {h0 : AH} {Q : State → Prop} (ok : Ok G X RJ3 cJ3_hashCode_2 6 d h0) (hr : (cxm X).sig.returnType = (Option.some Jvm.ClassFile.FieldType.int)) (hd : 1 ≤ d) {x0 : Int32} {x1 : Option Nat} {x4 : Int32} {x5 : Int32} {h : AH} {z : (Int32 × AH)} (hf : J3_hashCode_2_8  x0 x1 x4 x5 h = some z) (hk : Q = QM G X h0 (some (vi z.1)) z.2) {lv : List (Nat × AV)} (hl : lle lv [(0, vi x0), (1, vr x1), (4, vi x4), (5, vi x5)]) : V G X 6 h0 Q h 8 lv [] := by
  unfold J3_hashCode_2_8 at hf
  exact loopC_walk (Wh := fun s : Int32 × Int32 × AH => ∀ lv : List (Nat × AV), lle lv [(0, vi s.1), (1, vr x1), (4, vi x4), (5, vi s.2.1)] → V G X 6 h0 Q s.2.2 8 lv []) (PK := fun z => Q = QM G X h0 (some (vi z.1)) z.2) (fun s o hf hk lv hl => W_J3_hashCode_2_8b ok hr hd hf (by cases o <;> exact hk) hl) _ z hf hk lv hl
theorem W_J3_hashCode_2 {G : GT} {X : CX} {d : Nat} {h0 : AH} {Q : State → Prop} (ok : Ok G X RJ3 cJ3_hashCode_2 6 d h0) (hr : (cxm X).sig.returnType = (Option.some Jvm.ClassFile.FieldType.int)) (hd : 1 ≤ d) {x0 : Int32} {x1 : Option Nat} {x2 : Int32} {x3 : Int32} {h : AH} {z : (Int32 × AH)} (hf : J3_hashCode_2 x0 x1 x2 x3 h = some z) (hk : Q = QM G X h0 (some (vi z.1)) z.2) {lv : List (Nat × AV)} (hl : lle lv [(0, vi x0), (1, vr x1), (2, vi x2), (3, vi x3)]) : V G X 6 h0 Q h 0 lv [] := by
  refine V.sub hl ?_
  unfold J3_hashCode_2 at hf
  refine v_iload_n ok 2 dJ3_hashCode_2_0 rfl rfl ?_
  refine v_iload_n ok 3 dJ3_hashCode_2_1 rfl rfl ?_
  refine v_iadd ok dJ3_hashCode_2_2 ?_
  refine v_istore ok dJ3_hashCode_2_3 (by decide) ?_
  refine v_iload_n ok 2 dJ3_hashCode_2_5 rfl rfl ?_
  refine v_istore ok dJ3_hashCode_2_6 (by decide) ?_
  exact W_J3_hashCode_2_8 ok hr hd hf hk ⟨rfl, rfl, rfl, rfl, trivial⟩
theorem M_J3_hashCode_2 {G : GT} {l : Launch} (hG : Glob G) {d : Nat} (hd : 1 ≤ d) {x0 : Int32} {x1 : Option Nat} {x2 : Int32} {x3 : Int32} {h : AH} {v : Int32} {h' : AH} (hf : J3_hashCode_2 x0 x1 x2 x3 h = some (v, h')) : MM G l yJ3_hashCode_2 cJ3_hashCode_2 6 (Option.some Jvm.ClassFile.FieldType.int) d [vi x0, vr x1, vi x2, vi x3] h (some (vi v)) h' := by
  refine mm_of hG (plainFor_of_name (by decide)) (Nat.le_of_ble_eq_true rfl) (fun X hX ok hr hnm => ?_)
  subst hX
  exact W_J3_hashCode_2 ok hr hd hf rfl ⟨rfl, rfl, rfl, rfl, trivial⟩
theorem cw_J3_signedHashCode : CW yJ3_signedHashCode cJ3_signedHashCode 6 (Option.some Jvm.ClassFile.FieldType.int) 4 := ⟨q801, q173, ⟨by decide, by decide⟩, by decide +kernel, by decide⟩
def pkJ3_signedHashCode_8 (G : GT) (X : CX) (h0 : AH) (Q : State → Prop) (x1 : Option Nat) (x4 : Int32) (o : ((Int32 × Int32 × AH) ⊕ (Int32 × AH))) : Prop := match o with
  | .inl s => ∀ lv : List (Nat × AV), lle lv [(0, vi s.1), (1, vr x1), (4, vi x4), (5, vi s.2.1)] → V G X 6 h0 Q s.2.2 8 lv []
  | .inr z => Q = QM G X h0 (some (vi z.1)) z.2
theorem W_J3_signedHashCode_8b {G : GT} {X : CX} {d : Nat} {h0 : AH} {Q : State → Prop} (ok : Ok G X RJ3 cJ3_signedHashCode 6 d h0) (hr : (cxm X).sig.returnType = (Option.some Jvm.ClassFile.FieldType.int)) (hd : 1 ≤ d) {x1 : Option Nat} {x4 : Int32} {x0 : Int32} {x5 : Int32} {h : AH} {z : ((Int32 × Int32 × AH) ⊕ (Int32 × AH))} (hf : J3_signedHashCode_8b  x1 x4 x0 x5 h = some z) (hk : pkJ3_signedHashCode_8 G X h0 Q x1 x4 z) {lv : List (Nat × AV)} (hl : lle lv [(0, vi x0), (1, vr x1), (4, vi x4), (5, vi x5)]) : V G X 6 h0 Q h 8 lv [] := by
  refine V.sub hl ?_
  unfold J3_signedHashCode_8b at hf
  refine v_iload ok dJ3_signedHashCode_8 rfl ?_
  refine v_iload ok dJ3_signedHashCode_10 rfl ?_
  refine v_icmp_ge ok 35 dJ3_signedHashCode_12 rfl hf (fun hf => ?_) (fun hf => ?_)
  ·
    refine v_iload_n ok 0 dJ3_signedHashCode_35 rfl rfl ?_
    exact v_iret ok hr (by cases hf; exact hk) dJ3_signedHashCode_36
  ·
    refine v_bipush ok 31 dJ3_signedHashCode_15 rfl ?_
    refine v_iload_n ok 0 dJ3_signedHashCode_17 rfl rfl ?_
    refine v_imul ok dJ3_signedHashCode_18 ?_
    refine v_aload_n ok 1 dJ3_signedHashCode_19 rfl rfl ?_
    refine v_iload ok dJ3_signedHashCode_20 rfl ?_
    refine v_bald ok rfl dJ3_signedHashCode_22 hf (fun v1 hf => ?_)
    refine v_sipush ok 255 dJ3_signedHashCode_23 rfl ?_
    refine v_iand ok dJ3_signedHashCode_26 ?_
    refine v_iadd ok dJ3_signedHashCode_27 ?_
    refine v_istore_n ok 0 dJ3_signedHashCode_28 rfl (by decide) ?_
    refine v_iinc ok x5 (x5 + 1) dJ3_signedHashCode_29 rfl rfl (by decide) ?_
    refine v_goto ok 8 dJ3_signedHashCode_32 rfl ?_
    cases hf; exact hk _ ⟨rfl, rfl, rfl, rfl, trivial⟩
theorem W_J3_signedHashCode_8 {G : GT} {X : CX} {d : Nat} {h0 : AH} {Q : State → Prop} (ok : Ok G X RJ3 cJ3_signedHashCode 6 d h0) (hr : (cxm X).sig.returnType = (Option.some Jvm.ClassFile.FieldType.int)) (hd : 1 ≤ d) {x0 : Int32} {x1 : Option Nat} {x4 : Int32} {x5 : Int32} {h : AH} {z : (Int32 × AH)} (hf : J3_signedHashCode_8  x0 x1 x4 x5 h = some z) (hk : Q = QM G X h0 (some (vi z.1)) z.2) {lv : List (Nat × AV)} (hl : lle lv [(0, vi x0), (1, vr x1), (4, vi x4), (5, vi x5)]) : V G X 6 h0 Q h 8 lv [] := by
  unfold J3_signedHashCode_8 at hf
  exact loopC_walk (Wh := fun s : Int32 × Int32 × AH => ∀ lv : List (Nat × AV), lle lv [(0, vi s.1), (1, vr x1), (4, vi x4), (5, vi s.2.1)] → V G X 6 h0 Q s.2.2 8 lv []) (PK := fun z => Q = QM G X h0 (some (vi z.1)) z.2) (fun s o hf hk lv hl => W_J3_signedHashCode_8b ok hr hd hf (by cases o <;> exact hk) hl) _ z hf hk lv hl
theorem W_J3_signedHashCode {G : GT} {X : CX} {d : Nat} {h0 : AH} {Q : State → Prop} (ok : Ok G X RJ3 cJ3_signedHashCode 6 d h0) (hr : (cxm X).sig.returnType = (Option.some Jvm.ClassFile.FieldType.int)) (hd : 1 ≤ d) {x0 : Int32} {x1 : Option Nat} {x2 : Int32} {x3 : Int32} {h : AH} {z : (Int32 × AH)} (hf : J3_signedHashCode x0 x1 x2 x3 h = some z) (hk : Q = QM G X h0 (some (vi z.1)) z.2) {lv : List (Nat × AV)} (hl : lle lv [(0, vi x0), (1, vr x1), (2, vi x2), (3, vi x3)]) : V G X 6 h0 Q h 0 lv [] := by
  refine V.sub hl ?_
  unfold J3_signedHashCode at hf
  refine v_iload_n ok 2 dJ3_signedHashCode_0 rfl rfl ?_
  refine v_iload_n ok 3 dJ3_signedHashCode_1 rfl rfl ?_
  refine v_iadd ok dJ3_signedHashCode_2 ?_
  refine v_istore ok dJ3_signedHashCode_3 (by decide) ?_
  refine v_iload_n ok 2 dJ3_signedHashCode_5 rfl rfl ?_
  refine v_istore ok dJ3_signedHashCode_6 (by decide) ?_
  exact W_J3_signedHashCode_8 ok hr hd hf hk ⟨rfl, rfl, rfl, rfl, trivial⟩
theorem M_J3_signedHashCode {G : GT} {l : Launch} (hG : Glob G) {d : Nat} (hd : 1 ≤ d) {x0 : Int32} {x1 : Option Nat} {x2 : Int32} {x3 : Int32} {h : AH} {v : Int32} {h' : AH} (hf : J3_signedHashCode x0 x1 x2 x3 h = some (v, h')) : MM G l yJ3_signedHashCode cJ3_signedHashCode 6 (Option.some Jvm.ClassFile.FieldType.int) d [vi x0, vr x1, vi x2, vi x3] h (some (vi v)) h' := by
  refine mm_of hG (plainFor_of_name (by decide)) (Nat.le_of_ble_eq_true rfl) (fun X hX ok hr hnm => ?_)
  subst hX
  exact W_J3_signedHashCode ok hr hd hf rfl ⟨rfl, rfl, rfl, rfl, trivial⟩
theorem cw_J3_utf16hashCode : CW yJ3_utf16hashCode cJ3_utf16hashCode 6 (Option.some Jvm.ClassFile.FieldType.int) 4 := ⟨q804, q173, ⟨by decide, by decide⟩, by decide +kernel, by decide⟩
theorem W_J3_utf16hashCode {G : GT} {X : CX} {d : Nat} {h0 : AH} {Q : State → Prop} (ok : Ok G X RJ3 cJ3_utf16hashCode 6 d h0) (hr : (cxm X).sig.returnType = (Option.some Jvm.ClassFile.FieldType.int)) (hd : 1 ≤ d) {x0 : Int32} {x1 : Option Nat} {x2 : Int32} {x3 : Int32} {h : AH} {z : (Int32 × AH)} (hf : J3_utf16hashCode x0 x1 x2 x3 h = some z) (hk : Q = QM G X h0 (some (vi z.1)) z.2) {lv : List (Nat × AV)} (hl : lle lv [(0, vi x0), (1, vr x1), (2, vi x2), (3, vi x3)]) : V G X 6 h0 Q h 0 lv [] := by
  refine V.sub hl ?_
  unfold J3_utf16hashCode at hf
  refine v_iload_n ok 2 dJ3_utf16hashCode_0 rfl rfl ?_
  refine v_iload_n ok 3 dJ3_utf16hashCode_1 rfl rfl ?_
  refine v_iadd ok dJ3_utf16hashCode_2 ?_
  refine v_istore ok dJ3_utf16hashCode_3 (by decide) ?_
  refine v_iload_n ok 2 dJ3_utf16hashCode_5 rfl rfl ?_
  refine v_istore ok dJ3_utf16hashCode_6 (by decide) ?_
  refine v_iload ok dJ3_utf16hashCode_8 rfl ?_
  refine v_iload ok dJ3_utf16hashCode_10 rfl ?_
  refine v_icmp_ge ok 38 dJ3_utf16hashCode_12 rfl hf (fun hf => ?_) (fun hf => ?_)
  ·
    refine v_iload_n ok 0 dJ3_utf16hashCode_38 rfl rfl ?_
    exact v_iret ok hr (by cases hf; exact hk) dJ3_utf16hashCode_39
  ·
    refine v_bipush ok 31 dJ3_utf16hashCode_15 rfl ?_
    refine v_iload_n ok 0 dJ3_utf16hashCode_17 rfl rfl ?_
    refine v_imul ok dJ3_utf16hashCode_18 ?_
    refine v_gets ok (v := vr (hR h 120 12)) (List.mem_of_getElem? (i := 12) rfl) q805 rfl dJ3_utf16hashCode_19 ?_
    refine v_aload_n ok 1 dJ3_utf16hashCode_22 rfl rfl ?_
    refine v_iload ok dJ3_utf16hashCode_23 rfl ?_
    cases hf
theorem M_J3_utf16hashCode {G : GT} {l : Launch} (hG : Glob G) {d : Nat} (hd : 1 ≤ d) {x0 : Int32} {x1 : Option Nat} {x2 : Int32} {x3 : Int32} {h : AH} {v : Int32} {h' : AH} (hf : J3_utf16hashCode x0 x1 x2 x3 h = some (v, h')) : MM G l yJ3_utf16hashCode cJ3_utf16hashCode 6 (Option.some Jvm.ClassFile.FieldType.int) d [vi x0, vr x1, vi x2, vi x3] h (some (vi v)) h' := by
  refine mm_of hG (plainFor_of_name (by decide)) (Nat.le_of_ble_eq_true rfl) (fun X hX ok hr hnm => ?_)
  subst hX
  exact W_J3_utf16hashCode ok hr hd hf rfl ⟨rfl, rfl, rfl, rfl, trivial⟩
theorem cw_J3_vectorizedHashCode : CW yJ3_vectorizedHashCode cJ3_vectorizedHashCode 5 (Option.some Jvm.ClassFile.FieldType.int) 5 := ⟨q797, q173, ⟨by decide, by decide⟩, by decide +kernel, by decide⟩
theorem W_J3_vectorizedHashCode_129 {G : GT} {X : CX} {d : Nat} {h0 : AH} {Q : State → Prop} (ok : Ok G X RJ3 cJ3_vectorizedHashCode 5 d h0) (hr : (cxm X).sig.returnType = (Option.some Jvm.ClassFile.FieldType.int)) (hd : 2 ≤ d) {h : AH} {z : (Int32 × AH)} (hf : J3_vectorizedHashCode_129  h = some z) (hk : Q = QM G X h0 (some (vi z.1)) z.2) {lv : List (Nat × AV)} (hl : lle lv []) : V G X 5 h0 Q h 129 lv [] := by
  refine V.sub hl ?_
  unfold J3_vectorizedHashCode_129 at hf
  cases hf
theorem W_J3_vectorizedHashCode {G : GT} {X : CX} {d : Nat} {h0 : AH} {Q : State → Prop} (ok : Ok G X RJ3 cJ3_vectorizedHashCode 5 d h0) (hr : (cxm X).sig.returnType = (Option.some Jvm.ClassFile.FieldType.int)) (hd : 2 ≤ d) {x0 : Option Nat} {x1 : Int32} {x2 : Int32} {x3 : Int32} {x4 : Int32} {h : AH} {z : (Int32 × AH)} (hf : J3_vectorizedHashCode x0 x1 x2 x3 x4 h = some z) (hk : Q = QM G X h0 (some (vi z.1)) z.2) {lv : List (Nat × AV)} (hl : lle lv [(0, vr x0), (1, vi x1), (2, vi x2), (3, vi x3), (4, vi x4)]) : V G X 5 h0 Q h 0 lv [] := by
  refine V.sub hl ?_
  unfold J3_vectorizedHashCode at hf
  refine v_iload ok dJ3_vectorizedHashCode_0 rfl ?_
  refine sw_if (v := 4) hf (fun e_ hf => ?_) (fun n1 hf => ?_)
  ·
    refine v_tableIn ok 4 44 dJ3_vectorizedHashCode_2 e_ (by decide) (by decide) rfl rfl ?_
    refine v_iload_n ok 3 dJ3_vectorizedHashCode_44 rfl rfl ?_
    refine v_aload_n ok 0 dJ3_vectorizedHashCode_45 rfl rfl ?_
    refine v_cast_ ok ck__B q798 dJ3_vectorizedHashCode_46 hf (fun hf => ?_)
    refine v_iload_n ok 1 dJ3_vectorizedHashCode_49 rfl rfl ?_
    refine v_iload_n ok 2 dJ3_vectorizedHashCode_50 rfl rfl ?_
    refine v_cSi ok [vi x3, vr x0, vi x1, vi x2] (F := J3_signedHashCode x3 x0 x1 x2 h) (fun v h1 hv => M_J3_signedHashCode ok.2.2.2.2.2.2.1 (d := 1) (Nat.le_refl _) hv) (by exact Nat.le_trans (by decide) hd) cw_J3_signedHashCode q799 q800 dJ3_vectorizedHashCode_51 [] rfl (Nat.le_of_ble_eq_true rfl) hf (fun v2 h3 hf => ?_)
    refine v_goto ok 157 dJ3_vectorizedHashCode_54 rfl ?_
    exact v_iret ok hr (by cases hf; exact hk) dJ3_vectorizedHashCode_157
  ·
    refine sw_if (v := 5) hf (fun e_ hf => ?_) (fun n4 hf => ?_)
    ·
      refine v_tableIn ok 5 57 dJ3_vectorizedHashCode_2 e_ (by decide) (by decide) rfl rfl ?_
      refine v_aload_n ok 0 dJ3_vectorizedHashCode_57 rfl rfl ?_
      refine v_inst ok ck__B q798 dJ3_vectorizedHashCode_58 hf (fun v5 hf => ?_)
      refine v_if_eq ok 77 dJ3_vectorizedHashCode_61 rfl hf (fun hf => ?_) (fun hf => ?_)
      ·
        refine v_iload_n ok 3 dJ3_vectorizedHashCode_77 rfl rfl ?_
        refine v_aload_n ok 0 dJ3_vectorizedHashCode_78 rfl rfl ?_
        cases hf
      ·
        refine v_iload_n ok 3 dJ3_vectorizedHashCode_64 rfl rfl ?_
        refine v_aload_n ok 0 dJ3_vectorizedHashCode_65 rfl rfl ?_
        refine v_cast_ ok ck__B q798 dJ3_vectorizedHashCode_66 hf (fun hf => ?_)
        refine v_iload_n ok 1 dJ3_vectorizedHashCode_69 rfl rfl ?_
        refine v_iload_n ok 2 dJ3_vectorizedHashCode_70 rfl rfl ?_
        refine v_cSi ok [vi x3, vr x0, vi x1, vi x2] (F := J3_utf16hashCode x3 x0 x1 x2 h) (fun v h1 hv => M_J3_utf16hashCode ok.2.2.2.2.2.2.1 (d := 1) (Nat.le_refl _) hv) (by exact Nat.le_trans (by decide) hd) cw_J3_utf16hashCode q802 q803 dJ3_vectorizedHashCode_71 [] rfl (Nat.le_of_ble_eq_true rfl) hf (fun v6 h7 hf => ?_)
        refine v_goto ok 157 dJ3_vectorizedHashCode_74 rfl ?_
        exact v_iret ok hr (by cases hf; exact hk) dJ3_vectorizedHashCode_157
    ·
      refine sw_if (v := 6) hf (fun e_ hf => ?_) (fun n8 hf => ?_)
      ·
        refine v_tableIn ok 6 129 dJ3_vectorizedHashCode_2 e_ (by decide) (by decide) rfl rfl ?_
        exact W_J3_vectorizedHashCode_129 ok hr hd hf hk trivial
      ·
        refine sw_if (v := 7) hf (fun e_ hf => ?_) (fun n9 hf => ?_)
        ·
          refine v_tableIn ok 7 129 dJ3_vectorizedHashCode_2 e_ (by decide) (by decide) rfl rfl ?_
          exact W_J3_vectorizedHashCode_129 ok hr hd hf hk trivial
        ·
          refine sw_if (v := 8) hf (fun e_ hf => ?_) (fun n10 hf => ?_)
          ·
            refine v_tableIn ok 8 90 dJ3_vectorizedHashCode_2 e_ (by decide) (by decide) rfl rfl ?_
            refine v_iload_n ok 3 dJ3_vectorizedHashCode_90 rfl rfl ?_
            refine v_aload_n ok 0 dJ3_vectorizedHashCode_91 rfl rfl ?_
            refine v_cast_ ok ck__B q798 dJ3_vectorizedHashCode_92 hf (fun hf => ?_)
            refine v_iload_n ok 1 dJ3_vectorizedHashCode_95 rfl rfl ?_
            refine v_iload_n ok 2 dJ3_vectorizedHashCode_96 rfl rfl ?_
            refine v_cSi ok [vi x3, vr x0, vi x1, vi x2] (F := J3_hashCode_2 x3 x0 x1 x2 h) (fun v h1 hv => M_J3_hashCode_2 ok.2.2.2.2.2.2.1 (d := 1) (Nat.le_refl _) hv) (by exact Nat.le_trans (by decide) hd) cw_J3_hashCode_2 q822 q823 dJ3_vectorizedHashCode_97 [] rfl (Nat.le_of_ble_eq_true rfl) hf (fun v11 h12 hf => ?_)
            refine v_goto ok 157 dJ3_vectorizedHashCode_100 rfl ?_
            exact v_iret ok hr (by cases hf; exact hk) dJ3_vectorizedHashCode_157
          ·
            refine sw_if (v := 9) hf (fun e_ hf => ?_) (fun n13 hf => ?_)
            ·
              refine v_tableIn ok 9 103 dJ3_vectorizedHashCode_2 e_ (by decide) (by decide) rfl rfl ?_
              refine v_iload_n ok 3 dJ3_vectorizedHashCode_103 rfl rfl ?_
              refine v_aload_n ok 0 dJ3_vectorizedHashCode_104 rfl rfl ?_
              cases hf
            ·
              refine sw_if (v := 10) hf (fun e_ hf => ?_) (fun n14 hf => ?_)
              ·
                refine v_tableIn ok 10 116 dJ3_vectorizedHashCode_2 e_ (by decide) (by decide) rfl rfl ?_
                refine v_iload_n ok 3 dJ3_vectorizedHashCode_116 rfl rfl ?_
                refine v_aload_n ok 0 dJ3_vectorizedHashCode_117 rfl rfl ?_
                cases hf
              ·
                have n1 := ne_toI 4 (by decide) n1
                have n4 := ne_toI 5 (by decide) n4
                have n8 := ne_toI 6 (by decide) n8
                have n9 := ne_toI 7 (by decide) n9
                have n10 := ne_toI 8 (by decide) n10
                have n13 := ne_toI 9 (by decide) n13
                have n14 := ne_toI 10 (by decide) n14
                refine v_tableOut ok 129 dJ3_vectorizedHashCode_2 (by omega) rfl ?_
                exact W_J3_vectorizedHashCode_129 ok hr hd hf hk trivial
theorem M_J3_vectorizedHashCode {G : GT} {l : Launch} (hG : Glob G) {d : Nat} (hd : 2 ≤ d) {x0 : Option Nat} {x1 : Int32} {x2 : Int32} {x3 : Int32} {x4 : Int32} {h : AH} {v : Int32} {h' : AH} (hf : J3_vectorizedHashCode x0 x1 x2 x3 x4 h = some (v, h')) : MM G l yJ3_vectorizedHashCode cJ3_vectorizedHashCode 5 (Option.some Jvm.ClassFile.FieldType.int) d [vr x0, vi x1, vi x2, vi x3, vi x4] h (some (vi v)) h' := by
  refine mm_of hG (plainFor_of_name (by decide)) (Nat.le_of_ble_eq_true rfl) (fun X hX ok hr hnm => ?_)
  subst hX
  exact W_J3_vectorizedHashCode ok hr hd hf rfl ⟨rfl, rfl, rfl, rfl, rfl, trivial⟩
theorem cw_J10_hashCode : CW yJ10_hashCode cJ10_hashCode 1 (Option.some Jvm.ClassFile.FieldType.int) 1 := ⟨q835, q187, ⟨by decide, by decide⟩, by decide +kernel, by decide⟩
theorem W_J10_hashCode {G : GT} {X : CX} {d : Nat} {h0 : AH} {Q : State → Prop} (ok : Ok G X RJ10 cJ10_hashCode 1 d h0) (hr : (cxm X).sig.returnType = (Option.some Jvm.ClassFile.FieldType.int)) (hd : 3 ≤ d) {x0 : Option Nat} {h : AH} {z : (Int32 × AH)} (hf : J10_hashCode x0 h = some z) (hk : Q = QM G X h0 (some (vi z.1)) z.2) {lv : List (Nat × AV)} (hl : lle lv [(0, vr x0)]) : V G X 1 h0 Q h 0 lv [] := by
  refine V.sub hl ?_
  unfold J10_hashCode at hf
  refine v_aload_n ok 0 dJ10_hashCode_0 rfl rfl ?_
  refine v_alen ok dJ10_hashCode_1 hf (fun v1 hf => ?_)
  refine sw_if (v := 0) hf (fun e_ hf => ?_) (fun n2 hf => ?_)
  ·
    refine v_lookup ok (off := 26) 28 dJ10_hashCode_2 (by decide) (by rw [e_]; try rfl) rfl ?_
    refine v_iconst ok 0 dJ10_hashCode_28 rfl ?_
    refine v_goto ok 51 dJ10_hashCode_29 rfl ?_
    exact v_iret ok hr (by cases hf; exact hk) dJ10_hashCode_51
  ·
    refine sw_if (v := 2) hf (fun e_ hf => ?_) (fun n3 hf => ?_)
    ·
      refine v_lookup ok (off := 30) 32 dJ10_hashCode_2 (by decide) (by rw [e_]; try rfl) rfl ?_
      refine v_aload_n ok 0 dJ10_hashCode_32 rfl rfl ?_
      refine v_iconst ok 0 dJ10_hashCode_33 rfl ?_
      refine v_cSi ok [vr x0, vi 0] (F := J10_getChar x0 0 h) (fun v h1 hv => M_J10_getChar ok.2.2.2.2.2.2.1 (d := 2) (Nat.le_refl _) hv) (by exact Nat.le_trans (by decide) hd) cw_J10_getChar q745 q746 dJ10_hashCode_34 [] rfl (Nat.le_of_ble_eq_true rfl) hf (fun v4 h5 hf => ?_)
      refine v_goto ok 51 dJ10_hashCode_37 rfl ?_
      exact v_iret ok hr (by cases hf; exact hk) dJ10_hashCode_51
    ·
      have n2 := ne_toI 0 (by decide) n2
      have n3 := ne_toI 2 (by decide) n3
      refine v_lookup ok (off := 38) 40 dJ10_hashCode_2 (by decide) (by simp only [Op.lookupswitch.offset, List.find?]; simp [Ne.symm n2, n2, Ne.symm n3, n3]) rfl ?_
      refine v_aload_n ok 0 dJ10_hashCode_40 rfl rfl ?_
      refine v_iconst ok 0 dJ10_hashCode_41 rfl ?_
      refine v_aload_n ok 0 dJ10_hashCode_42 rfl rfl ?_
      refine v_alen ok dJ10_hashCode_43 hf (fun v6 hf => ?_)
      refine v_iconst ok 1 dJ10_hashCode_44 rfl ?_
      refine v_ishr ok dJ10_hashCode_45 ?_
      refine v_iconst ok 0 dJ10_hashCode_46 rfl ?_
      refine v_iconst ok 5 dJ10_hashCode_47 rfl ?_
      refine v_cSi ok [vr x0, vi 0, vi (jshr v6 1), vi 0, vi 5] (F := J3_vectorizedHashCode x0 0 (jshr v6 1) 0 5 h) (fun v h1 hv => M_J3_vectorizedHashCode ok.2.2.2.2.2.2.1 (d := 2) (Nat.le_refl _) hv) (by exact Nat.le_trans (by decide) hd) cw_J3_vectorizedHashCode q836 q796 dJ10_hashCode_48 [] rfl (Nat.le_of_ble_eq_true rfl) hf (fun v7 h8 hf => ?_)
      exact v_iret ok hr (by cases hf; exact hk) dJ10_hashCode_51
theorem M_J10_hashCode {G : GT} {l : Launch} (hG : Glob G) {d : Nat} (hd : 3 ≤ d) {x0 : Option Nat} {h : AH} {v : Int32} {h' : AH} (hf : J10_hashCode x0 h = some (v, h')) : MM G l yJ10_hashCode cJ10_hashCode 1 (Option.some Jvm.ClassFile.FieldType.int) d [vr x0] h (some (vi v)) h' := by
  refine mm_of hG (plainFor_of_name (by decide)) (Nat.le_of_ble_eq_true rfl) (fun X hX ok hr hnm => ?_)
  subst hX
  exact W_J10_hashCode ok hr hd hf rfl ⟨rfl, trivial⟩
theorem cw_J11_checkIndex : CW yJ11_checkIndex cJ11_checkIndex 3 (Option.some Jvm.ClassFile.FieldType.int) 3 := ⟨q877, q188, ⟨by decide, by decide⟩, by decide +kernel, by decide⟩
theorem W_J11_checkIndex_9 {G : GT} {X : CX} {d : Nat} {h0 : AH} {Q : State → Prop} (ok : Ok G X RJ11 cJ11_checkIndex 3 d h0) (hr : (cxm X).sig.returnType = (Option.some Jvm.ClassFile.FieldType.int)) (hd : 1 ≤ d) {x0 : Int32} {x1 : Int32} {x2 : Option Nat} {h : AH} {z : (Int32 × AH)} (hf : J11_checkIndex_9 x0 x1 x2 h = some z) (hk : Q = QM G X h0 (some (vi z.1)) z.2) {lv : List (Nat × AV)} (hl : lle lv [(0, vi x0), (1, vi x1), (2, vr x2)]) : V G X 3 h0 Q h 9 lv [] := by
  refine V.sub hl ?_
  unfold J11_checkIndex_9 at hf
  refine v_aload_n ok 2 dJ11_checkIndex_9 rfl rfl ?_
  refine v_iload_n ok 0 dJ11_checkIndex_10 rfl rfl ?_
  refine v_iload_n ok 1 dJ11_checkIndex_11 rfl rfl ?_
  cases hf
theorem W_J11_checkIndex {G : GT} {X : CX} {d : Nat} {h0 : AH} {Q : State → Prop} (ok : Ok G X RJ11 cJ11_checkIndex 3 d h0) (hr : (cxm X).sig.returnType = (Option.some Jvm.ClassFile.FieldType.int)) (hd : 1 ≤ d) {x0 : Int32} {x1 : Int32} {x2 : Option Nat} {h : AH} {z : (Int32 × AH)} (hf : J11_checkIndex x0 x1 x2 h = some z) (hk : Q = QM G X h0 (some (vi z.1)) z.2) {lv : List (Nat × AV)} (hl : lle lv [(0, vi x0), (1, vi x1), (2, vr x2)]) : V G X 3 h0 Q h 0 lv [] := by
  refine V.sub hl ?_
  unfold J11_checkIndex at hf
  refine v_iload_n ok 0 dJ11_checkIndex_0 rfl rfl ?_
  refine v_if_lt ok 9 dJ11_checkIndex_1 rfl hf (fun hf => ?_) (fun hf => ?_)
  ·
    exact W_J11_checkIndex_9 ok hr hd hf hk ⟨rfl, rfl, rfl, trivial⟩
  ·
    refine v_iload_n ok 0 dJ11_checkIndex_4 rfl rfl ?_
    refine v_iload_n ok 1 dJ11_checkIndex_5 rfl rfl ?_
    refine v_icmp_lt ok 16 dJ11_checkIndex_6 rfl hf (fun hf => ?_) (fun hf => ?_)
    ·
      refine v_iload_n ok 0 dJ11_checkIndex_16 rfl rfl ?_
      exact v_iret ok hr (by cases hf; exact hk) dJ11_checkIndex_17
    ·
      exact W_J11_checkIndex_9 ok hr hd hf hk ⟨rfl, rfl, rfl, trivial⟩
theorem M_J11_checkIndex {G : GT} {l : Launch} (hG : Glob G) {d : Nat} (hd : 1 ≤ d) {x0 : Int32} {x1 : Int32} {x2 : Option Nat} {h : AH} {v : Int32} {h' : AH} (hf : J11_checkIndex x0 x1 x2 h = some (v, h')) : MM G l yJ11_checkIndex cJ11_checkIndex 3 (Option.some Jvm.ClassFile.FieldType.int) d [vi x0, vi x1, vr x2] h (some (vi v)) h' := by
  refine mm_of hG (plainFor_of_name (by decide)) (Nat.le_of_ble_eq_true rfl) (fun X hX ok hr hnm => ?_)
  subst hX
  exact W_J11_checkIndex ok hr hd hf rfl ⟨rfl, rfl, rfl, trivial⟩
theorem cw_J9_checkIndex : CW yJ9_checkIndex cJ9_checkIndex 2 none 2 := ⟨q874, q186, ⟨by decide, by decide⟩, by decide +kernel, by decide⟩
theorem W_J9_checkIndex {G : GT} {X : CX} {d : Nat} {h0 : AH} {Q : State → Prop} (ok : Ok G X RJ9 cJ9_checkIndex 2 d h0) (hr : (cxm X).sig.returnType = none) (hd : 2 ≤ d) {x0 : Int32} {x1 : Int32} {h : AH} {z : (AH)} (hf : J9_checkIndex x0 x1 h = some z) (hk : Q = QM G X h0 none z) {lv : List (Nat × AV)} (hl : lle lv [(0, vi x0), (1, vi x1)]) : V G X 2 h0 Q h 0 lv [] := by
  refine V.sub hl ?_
  unfold J9_checkIndex at hf
  refine v_iload_n ok 0 dJ9_checkIndex_0 rfl rfl ?_
  refine v_iload_n ok 1 dJ9_checkIndex_1 rfl rfl ?_
  refine v_gets ok (v := vr (hR h 120 13)) (List.mem_of_getElem? (i := 13) rfl) q757 rfl dJ9_checkIndex_2 ?_
  refine v_cSi ok [vi x0, vi x1, vr (hR h 120 13)] (F := J11_checkIndex x0 x1 (hR h 120 13) h) (fun v h1 hv => M_J11_checkIndex ok.2.2.2.2.2.2.1 (d := 1) (Nat.le_refl _) hv) (by exact Nat.le_trans (by decide) hd) cw_J11_checkIndex q875 q876 dJ9_checkIndex_5 [] rfl (Nat.le_of_ble_eq_true rfl) hf (fun v1 h2 hf => ?_)
  refine v_pop ok dJ9_checkIndex_8 rfl ?_
  exact v_vret ok hr (by cases hf; exact hk) dJ9_checkIndex_9
theorem M_J9_checkIndex {G : GT} {l : Launch} (hG : Glob G) {d : Nat} (hd : 2 ≤ d) {x0 : Int32} {x1 : Int32} {h : AH} {h' : AH} (hf : J9_checkIndex x0 x1 h = some h') : MM G l yJ9_checkIndex cJ9_checkIndex 2 none d [vi x0, vi x1] h none h' := by
  refine mm_of hG (plainFor_of_name (by decide)) (Nat.le_of_ble_eq_true rfl) (fun X hX ok hr hnm => ?_)
  subst hX
  exact W_J9_checkIndex ok hr hd hf rfl ⟨rfl, rfl, trivial⟩
theorem cw_J10_checkIndex : CW yJ10_checkIndex cJ10_checkIndex 2 none 2 := ⟨q883, q187, ⟨by decide, by decide⟩, by decide +kernel, by decide⟩
theorem W_J10_checkIndex {G : GT} {X : CX} {d : Nat} {h0 : AH} {Q : State → Prop} (ok : Ok G X RJ10 cJ10_checkIndex 2 d h0) (hr : (cxm X).sig.returnType = none) (hd : 3 ≤ d) {x0 : Int32} {x1 : Option Nat} {h : AH} {z : (AH)} (hf : J10_checkIndex x0 x1 h = some z) (hk : Q = QM G X h0 none z) {lv : List (Nat × AV)} (hl : lle lv [(0, vi x0), (1, vr x1)]) : V G X 2 h0 Q h 0 lv [] := by
  refine V.sub hl ?_
  unfold J10_checkIndex at hf
  refine v_iload_n ok 0 dJ10_checkIndex_0 rfl rfl ?_
  refine v_aload_n ok 1 dJ10_checkIndex_1 rfl rfl ?_
  refine v_cSi ok [vr x1] (F := J10_length x1 h) (fun v h1 hv => M_J10_length ok.2.2.2.2.2.2.1 (d := 1) (Nat.le_refl _) hv) (by exact Nat.le_trans (by decide) hd) cw_J10_length q738 q739 dJ10_checkIndex_2 [vi x0] rfl (Nat.le_of_ble_eq_true rfl) hf (fun v1 h2 hf => ?_)
  refine v_cSv ok [vi x0, vi v1] (F := J9_checkIndex x0 v1 h2) (fun h1 hv => M_J9_checkIndex ok.2.2.2.2.2.2.1 (d := 2) (Nat.le_refl _) hv) (by exact Nat.le_trans (by decide) hd) cw_J9_checkIndex q884 q873 dJ10_checkIndex_5 [] rfl (Nat.le_of_ble_eq_true rfl) hf (fun h3 hf => ?_)
  exact v_vret ok hr (by cases hf; exact hk) dJ10_checkIndex_8
theorem M_J10_checkIndex {G : GT} {l : Launch} (hG : Glob G) {d : Nat} (hd : 3 ≤ d) {x0 : Int32} {x1 : Option Nat} {h : AH} {h' : AH} (hf : J10_checkIndex x0 x1 h = some h') : MM G l yJ10_checkIndex cJ10_checkIndex 2 none d [vi x0, vr x1] h none h' := by
  refine mm_of hG (plainFor_of_name (by decide)) (Nat.le_of_ble_eq_true rfl) (fun X hX ok hr hnm => ?_)
  subst hX
  exact W_J10_checkIndex ok hr hd hf rfl ⟨rfl, rfl, trivial⟩
theorem cw_J10_charAt : CW yJ10_charAt cJ10_charAt 2 (Option.some Jvm.ClassFile.FieldType.char) 2 := ⟨q880, q187, ⟨by decide, by decide⟩, by decide +kernel, by decide⟩
theorem W_J10_charAt {G : GT} {X : CX} {d : Nat} {h0 : AH} {Q : State → Prop} (ok : Ok G X RJ10 cJ10_charAt 2 d h0) (hr : (cxm X).sig.returnType = (Option.some Jvm.ClassFile.FieldType.char)) (hd : 4 ≤ d) {x0 : Option Nat} {x1 : Int32} {h : AH} {z : (Int32 × AH)} (hf : J10_charAt x0 x1 h = some z) (hk : Q = QM G X h0 (some (vi z.1)) z.2) {lv : List (Nat × AV)} (hl : lle lv [(0, vr x0), (1, vi x1)]) : V G X 2 h0 Q h 0 lv [] := by
  refine V.sub hl ?_
  unfold J10_charAt at hf
  refine v_iload_n ok 1 dJ10_charAt_0 rfl rfl ?_
  refine v_aload_n ok 0 dJ10_charAt_1 rfl rfl ?_
  refine v_cSv ok [vi x1, vr x0] (F := J10_checkIndex x1 x0 h) (fun h1 hv => M_J10_checkIndex ok.2.2.2.2.2.2.1 (d := 3) (Nat.le_refl _) hv) (by exact Nat.le_trans (by decide) hd) cw_J10_checkIndex q881 q882 dJ10_charAt_2 [] rfl (Nat.le_of_ble_eq_true rfl) hf (fun h1 hf => ?_)
  refine v_aload_n ok 0 dJ10_charAt_5 rfl rfl ?_
  refine v_iload_n ok 1 dJ10_charAt_6 rfl rfl ?_
  refine v_cSi ok [vr x0, vi x1] (F := J10_getChar x0 x1 h1) (fun v h1 hv => M_J10_getChar ok.2.2.2.2.2.2.1 (d := 2) (Nat.le_refl _) hv) (by exact Nat.le_trans (by decide) hd) cw_J10_getChar q745 q746 dJ10_charAt_7 [] rfl (Nat.le_of_ble_eq_true rfl) hf (fun v2 h3 hf => ?_)
  exact v_cret ok hr hf (fun hf => by cases hf; exact hk) dJ10_charAt_10
theorem M_J10_charAt {G : GT} {l : Launch} (hG : Glob G) {d : Nat} (hd : 4 ≤ d) {x0 : Option Nat} {x1 : Int32} {h : AH} {v : Int32} {h' : AH} (hf : J10_charAt x0 x1 h = some (v, h')) : MM G l yJ10_charAt cJ10_charAt 2 (Option.some Jvm.ClassFile.FieldType.char) d [vr x0, vi x1] h (some (vi v)) h' := by
  refine mm_of hG (plainFor_of_name (by decide)) (Nat.le_of_ble_eq_true rfl) (fun X hX ok hr hnm => ?_)
  subst hX
  exact W_J10_charAt ok hr hd hf rfl ⟨rfl, rfl, trivial⟩
theorem cw_J10_inflate : CW yJ10_inflate cJ10_inflate 6 none 5 := ⟨q1205, q187, ⟨by decide, by decide⟩, by decide +kernel, by decide⟩
def pkJ10_inflate_10 (G : GT) (X : CX) (h0 : AH) (Q : State → Prop) (x0 : Option Nat) (x2 : Option Nat) (x4 : Int32) (o : ((Int32 × Int32 × Int32 × AH) ⊕ (AH))) : Prop := match o with
  | .inl s => ∀ lv : List (Nat × AV), lle lv [(0, vr x0), (1, vi s.1), (2, vr x2), (3, vi s.2.1), (4, vi x4), (5, vi s.2.2.1)] → V G X 6 h0 Q s.2.2.2 10 lv []
  | .inr z => Q = QM G X h0 none z
theorem W_J10_inflate_10b {G : GT} {X : CX} {d : Nat} {h0 : AH} {Q : State → Prop} (ok : Ok G X RJ10 cJ10_inflate 6 d h0) (hr : (cxm X).sig.returnType = none) (hd : 4 ≤ d) {x0 : Option Nat} {x2 : Option Nat} {x4 : Int32} {x1 : Int32} {x3 : Int32} {x5 : Int32} {h : AH} {z : ((Int32 × Int32 × Int32 × AH) ⊕ (AH))} (hf : J10_inflate_10b  x0 x2 x4 x1 x3 x5 h = some z) (hk : pkJ10_inflate_10 G X h0 Q x0 x2 x4 z) {lv : List (Nat × AV)} (hl : lle lv [(0, vr x0), (1, vi x1), (2, vr x2), (3, vi x3), (4, vi x4), (5, vi x5)]) : V G X 6 h0 Q h 10 lv [] := by
  refine V.sub hl ?_
  unfold J10_inflate_10b at hf
  refine v_iload ok dJ10_inflate_10 rfl ?_
  refine v_iload ok dJ10_inflate_12 rfl ?_
  refine v_icmp_ge ok 41 dJ10_inflate_14 rfl hf (fun hf => ?_) (fun hf => ?_)
  ·
    exact v_vret ok hr (by cases hf; exact hk) dJ10_inflate_41
  ·
    refine v_aload_n ok 2 dJ10_inflate_17 rfl rfl ?_
    refine v_iload_n ok 3 dJ10_inflate_18 rfl rfl ?_
    refine v_iinc ok x3 (x3 + 1) dJ10_inflate_19 rfl rfl (by decide) ?_
    refine v_aload_n ok 0 dJ10_inflate_22 rfl rfl ?_
    refine v_iload_n ok 1 dJ10_inflate_23 rfl rfl ?_
    refine v_iinc ok x1 (x1 + 1) dJ10_inflate_24 rfl rfl (by decide) ?_
    refine v_bald ok rfl dJ10_inflate_27 hf (fun v1 hf => ?_)
    refine v_sipush ok 255 dJ10_inflate_28 rfl ?_
    refine v_iand ok dJ10_inflate_31 ?_
    refine v_cSv ok [vr x2, vi x3, vi (v1 &&& 255)] (F := J10_putChar x2 x3 (v1 &&& 255) h) (fun h1 hv => M_J10_putChar ok.2.2.2.2.2.2.1 (d := 2) (Nat.le_refl _) hv) (by exact Nat.le_trans (by decide) hd) cw_J10_putChar q733 q734 dJ10_inflate_32 [] rfl (Nat.le_of_ble_eq_true rfl) hf (fun h2 hf => ?_)
    refine v_iinc ok x5 (x5 + 1) dJ10_inflate_35 rfl rfl (by decide) ?_
    refine v_goto ok 10 dJ10_inflate_38 rfl ?_
    cases hf; exact hk _ ⟨rfl, rfl, rfl, rfl, rfl, rfl, trivial⟩
theorem W_J10_inflate_10 {G : GT} {X : CX} {d : Nat} {h0 : AH} {Q : State → Prop} (ok : Ok G X RJ10 cJ10_inflate 6 d h0) (hr : (cxm X).sig.returnType = none) (hd : 4 ≤ d) {x0 : Option Nat} {x1 : Int32} {x2 : Option Nat} {x3 : Int32} {x4 : Int32} {x5 : Int32} {h : AH} {z : (AH)} (hf : J10_inflate_10  x0 x1 x2 x3 x4 x5 h = some z) (hk : Q = QM G X h0 none z) {lv : List (Nat × AV)} (hl : lle lv [(0, vr x0), (1, vi x1), (2, vr x2), (3, vi x3), (4, vi x4), (5, vi x5)]) : V G X 6 h0 Q h 10 lv [] := by
  unfold J10_inflate_10 at hf
  exact loopC_walk (Wh := fun s : Int32 × Int32 × Int32 × AH => ∀ lv : List (Nat × AV), lle lv [(0, vr x0), (1, vi s.1), (2, vr x2), (3, vi s.2.1), (4, vi x4), (5, vi s.2.2.1)] → V G X 6 h0 Q s.2.2.2 10 lv []) (PK := fun z => Q = QM G X h0 none z) (fun s o hf hk lv hl => W_J10_inflate_10b ok hr hd hf (by cases o <;> exact hk) hl) _ z hf hk lv hl
theorem W_J10_inflate {G : GT} {X : CX} {d : Nat} {h0 : AH} {Q : State → Prop} (ok : Ok G X RJ10 cJ10_inflate 6 d h0) (hr : (cxm X).sig.returnType = none) (hd : 4 ≤ d) {x0 : Option Nat} {x1 : Int32} {x2 : Option Nat} {x3 : Int32} {x4 : Int32} {h : AH} {z : (AH)} (hf : J10_inflate x0 x1 x2 x3 x4 h = some z) (hk : Q = QM G X h0 none z) {lv : List (Nat × AV)} (hl : lle lv [(0, vr x0), (1, vi x1), (2, vr x2), (3, vi x3), (4, vi x4)]) : V G X 6 h0 Q h 0 lv [] := by
  refine V.sub hl ?_
  unfold J10_inflate at hf
  refine v_iload_n ok 3 dJ10_inflate_0 rfl rfl ?_
  refine v_iload ok dJ10_inflate_1 rfl ?_
  refine v_aload_n ok 2 dJ10_inflate_3 rfl rfl ?_
  refine v_cSv ok [vi x3, vi x4, vr x2] (F := J10_checkBoundsOffCount x3 x4 x2 h) (fun h1 hv => M_J10_checkBoundsOffCount ok.2.2.2.2.2.2.1 (d := 3) (Nat.le_refl _) hv) (by exact Nat.le_trans (by decide) hd) cw_J10_checkBoundsOffCount q751 q752 dJ10_inflate_4 [] rfl (Nat.le_of_ble_eq_true rfl) hf (fun h3 hf => ?_)
  refine v_iconst ok 0 dJ10_inflate_7 rfl ?_
  refine v_istore ok dJ10_inflate_8 (by decide) ?_
  exact W_J10_inflate_10 ok hr hd hf hk ⟨rfl, rfl, rfl, rfl, rfl, rfl, trivial⟩
theorem M_J10_inflate {G : GT} {l : Launch} (hG : Glob G) {d : Nat} (hd : 4 ≤ d) {x0 : Option Nat} {x1 : Int32} {x2 : Option Nat} {x3 : Int32} {x4 : Int32} {h : AH} {h' : AH} (hf : J10_inflate x0 x1 x2 x3 x4 h = some h') : MM G l yJ10_inflate cJ10_inflate 6 none d [vr x0, vi x1, vr x2, vi x3, vi x4] h none h' := by
  refine mm_of hG (plainFor_of_name (by decide)) (Nat.le_of_ble_eq_true rfl) (fun X hX ok hr hnm => ?_)
  subst hX
  exact W_J10_inflate ok hr hd hf rfl ⟨rfl, rfl, rfl, rfl, rfl, trivial⟩
theorem cw_J10_putCharSB : CW yJ10_putCharSB cJ10_putCharSB 3 none 3 := ⟨q1208, q187, ⟨by decide, by decide⟩, by decide +kernel, by decide⟩
theorem W_J10_putCharSB {G : GT} {X : CX} {d : Nat} {h0 : AH} {Q : State → Prop} (ok : Ok G X RJ10 cJ10_putCharSB 3 d h0) (hr : (cxm X).sig.returnType = none) (hd : 4 ≤ d) {x0 : Option Nat} {x1 : Int32} {x2 : Int32} {h : AH} {z : (AH)} (hf : J10_putCharSB x0 x1 x2 h = some z) (hk : Q = QM G X h0 none z) {lv : List (Nat × AV)} (hl : lle lv [(0, vr x0), (1, vi x1), (2, vi x2)]) : V G X 3 h0 Q h 0 lv [] := by
  refine V.sub hl ?_
  unfold J10_putCharSB at hf
  refine v_iload_n ok 1 dJ10_putCharSB_0 rfl rfl ?_
  refine v_aload_n ok 0 dJ10_putCharSB_1 rfl rfl ?_
  refine v_cSv ok [vi x1, vr x0] (F := J10_checkIndex x1 x0 h) (fun h1 hv => M_J10_checkIndex ok.2.2.2.2.2.2.1 (d := 3) (Nat.le_refl _) hv) (by exact Nat.le_trans (by decide) hd) cw_J10_checkIndex q881 q882 dJ10_putCharSB_2 [] rfl (Nat.le_of_ble_eq_true rfl) hf (fun h1 hf => ?_)
  refine v_aload_n ok 0 dJ10_putCharSB_5 rfl rfl ?_
  refine v_iload_n ok 1 dJ10_putCharSB_6 rfl rfl ?_
  refine v_iload_n ok 2 dJ10_putCharSB_7 rfl rfl ?_
  refine v_cSv ok [vr x0, vi x1, vi x2] (F := J10_putChar x0 x1 x2 h1) (fun h1 hv => M_J10_putChar ok.2.2.2.2.2.2.1 (d := 2) (Nat.le_refl _) hv) (by exact Nat.le_trans (by decide) hd) cw_J10_putChar q733 q734 dJ10_putCharSB_8 [] rfl (Nat.le_of_ble_eq_true rfl) hf (fun h2 hf => ?_)
  exact v_vret ok hr (by cases hf; exact hk) dJ10_putCharSB_11
theorem M_J10_putCharSB {G : GT} {l : Launch} (hG : Glob G) {d : Nat} (hd : 4 ≤ d) {x0 : Option Nat} {x1 : Int32} {x2 : Int32} {h : AH} {h' : AH} (hf : J10_putCharSB x0 x1 x2 h = some h') : MM G l yJ10_putCharSB cJ10_putCharSB 3 none d [vr x0, vi x1, vi x2] h none h' := by
  refine mm_of hG (plainFor_of_name (by decide)) (Nat.le_of_ble_eq_true rfl) (fun X hX ok hr hnm => ?_)
  subst hX
  exact W_J10_putCharSB ok hr hd hf rfl ⟨rfl, rfl, rfl, trivial⟩
theorem cw_J12_hashCode : CW yJ12_hashCode cJ12_hashCode 1 (Option.some Jvm.ClassFile.FieldType.int) 1 := ⟨q794, q189, ⟨by decide, by decide⟩, by decide +kernel, by decide⟩
theorem W_J12_hashCode {G : GT} {X : CX} {d : Nat} {h0 : AH} {Q : State → Prop} (ok : Ok G X RJ12 cJ12_hashCode 1 d h0) (hr : (cxm X).sig.returnType = (Option.some Jvm.ClassFile.FieldType.int)) (hd : 3 ≤ d) {x0 : Option Nat} {h : AH} {z : (Int32 × AH)} (hf : J12_hashCode x0 h = some z) (hk : Q = QM G X h0 (some (vi z.1)) z.2) {lv : List (Nat × AV)} (hl : lle lv [(0, vr x0)]) : V G X 1 h0 Q h 0 lv [] := by
  refine V.sub hl ?_
  unfold J12_hashCode at hf
  refine v_aload_n ok 0 dJ12_hashCode_0 rfl rfl ?_
  refine v_alen ok dJ12_hashCode_1 hf (fun v1 hf => ?_)
  refine sw_if (v := 0) hf (fun e_ hf => ?_) (fun n2 hf => ?_)
  ·
    refine v_lookup ok (off := 26) 28 dJ12_hashCode_2 (by decide) (by rw [e_]; try rfl) rfl ?_
    refine v_iconst ok 0 dJ12_hashCode_28 rfl ?_
    refine v_goto ok 51 dJ12_hashCode_29 rfl ?_
    exact v_iret ok hr (by cases hf; exact hk) dJ12_hashCode_51
  ·
    refine sw_if (v := 1) hf (fun e_ hf => ?_) (fun n3 hf => ?_)
    ·
      refine v_lookup ok (off := 30) 32 dJ12_hashCode_2 (by decide) (by rw [e_]; try rfl) rfl ?_
      refine v_aload_n ok 0 dJ12_hashCode_32 rfl rfl ?_
      refine v_iconst ok 0 dJ12_hashCode_33 rfl ?_
      refine v_bald ok rfl dJ12_hashCode_34 hf (fun v4 hf => ?_)
      refine v_sipush ok 255 dJ12_hashCode_35 rfl ?_
      refine v_iand ok dJ12_hashCode_38 ?_
      refine v_goto ok 51 dJ12_hashCode_39 rfl ?_
      exact v_iret ok hr (by cases hf; exact hk) dJ12_hashCode_51
    ·
      have n2 := ne_toI 0 (by decide) n2
      have n3 := ne_toI 1 (by decide) n3
      refine v_lookup ok (off := 40) 42 dJ12_hashCode_2 (by decide) (by simp only [Op.lookupswitch.offset, List.find?]; simp [Ne.symm n2, n2, Ne.symm n3, n3]) rfl ?_
      refine v_aload_n ok 0 dJ12_hashCode_42 rfl rfl ?_
      refine v_iconst ok 0 dJ12_hashCode_43 rfl ?_
      refine v_aload_n ok 0 dJ12_hashCode_44 rfl rfl ?_
      refine v_alen ok dJ12_hashCode_45 hf (fun v5 hf => ?_)
      refine v_iconst ok 0 dJ12_hashCode_46 rfl ?_
      refine v_iconst ok 4 dJ12_hashCode_47 rfl ?_
      refine v_cSi ok [vr x0, vi 0, vi v5, vi 0, vi 4] (F := J3_vectorizedHashCode x0 0 v5 0 4 h) (fun v h1 hv => M_J3_vectorizedHashCode ok.2.2.2.2.2.2.1 (d := 2) (Nat.le_refl _) hv) (by exact Nat.le_trans (by decide) hd) cw_J3_vectorizedHashCode q795 q796 dJ12_hashCode_48 [] rfl (Nat.le_of_ble_eq_true rfl) hf (fun v6 h7 hf => ?_)
      exact v_iret ok hr (by cases hf; exact hk) dJ12_hashCode_51
theorem M_J12_hashCode {G : GT} {l : Launch} (hG : Glob G) {d : Nat} (hd : 3 ≤ d) {x0 : Option Nat} {h : AH} {v : Int32} {h' : AH} (hf : J12_hashCode x0 h = some (v, h')) : MM G l yJ12_hashCode cJ12_hashCode 1 (Option.some Jvm.ClassFile.FieldType.int) d [vr x0] h (some (vi v)) h' := by
  refine mm_of hG (plainFor_of_name (by decide)) (Nat.le_of_ble_eq_true rfl) (fun X hX ok hr hnm => ?_)
  subst hX
  exact W_J12_hashCode ok hr hd hf rfl ⟨rfl, trivial⟩
theorem cw_J12_equals : CW yJ12_equals cJ12_equals 3 (Option.some Jvm.ClassFile.FieldType.boolean) 2 := ⟨q844, q189, ⟨by decide, by decide⟩, by decide +kernel, by decide⟩
def pkJ12_equals_9 (G : GT) (X : CX) (h0 : AH) (Q : State → Prop) (x0 : Option Nat) (x1 : Option Nat) (o : ((Int32 × AH) ⊕ (Int32 × AH))) : Prop := match o with
  | .inl s => ∀ lv : List (Nat × AV), lle lv [(0, vr x0), (1, vr x1), (2, vi s.1)] → V G X 3 h0 Q s.2 9 lv []
  | .inr z => Q = QM G X h0 (some (vi z.1)) z.2
theorem W_J12_equals_9b {G : GT} {X : CX} {d : Nat} {h0 : AH} {Q : State → Prop} (ok : Ok G X RJ12 cJ12_equals 3 d h0) (hr : (cxm X).sig.returnType = (Option.some Jvm.ClassFile.FieldType.boolean)) (hd : 1 ≤ d) {x0 : Option Nat} {x1 : Option Nat} {x2 : Int32} {h : AH} {z : ((Int32 × AH) ⊕ (Int32 × AH))} (hf : J12_equals_9b  x0 x1 x2 h = some z) (hk : pkJ12_equals_9 G X h0 Q x0 x1 z) {lv : List (Nat × AV)} (hl : lle lv [(0, vr x0), (1, vr x1), (2, vi x2)]) : V G X 3 h0 Q h 9 lv [] := by
  refine V.sub hl ?_
  unfold J12_equals_9b at hf
  refine v_iload_n ok 2 dJ12_equals_9 rfl rfl ?_
  refine v_aload_n ok 0 dJ12_equals_10 rfl rfl ?_
  refine v_alen ok dJ12_equals_11 hf (fun v1 hf => ?_)
  refine v_icmp_ge ok 32 dJ12_equals_12 rfl hf (fun hf => ?_) (fun hf => ?_)
  ·
    refine v_iconst ok 1 dJ12_equals_32 rfl ?_
    exact v_zretL ok hr (by decide) (by decide) (by cases hf; exact hk) dJ12_equals_33
  ·
    refine v_aload_n ok 0 dJ12_equals_15 rfl rfl ?_
    refine v_iload_n ok 2 dJ12_equals_16 rfl rfl ?_
    refine v_bald ok rfl dJ12_equals_17 hf (fun v2 hf => ?_)
    refine v_aload_n ok 1 dJ12_equals_18 rfl rfl ?_
    refine v_iload_n ok 2 dJ12_equals_19 rfl rfl ?_
    refine v_bald ok rfl dJ12_equals_20 hf (fun v3 hf => ?_)
    refine v_icmp_eq ok 26 dJ12_equals_21 rfl hf (fun hf => ?_) (fun hf => ?_)
    ·
      refine v_iinc ok x2 (x2 + 1) dJ12_equals_26 rfl rfl (by decide) ?_
      refine v_goto ok 9 dJ12_equals_29 rfl ?_
      cases hf; exact hk _ ⟨rfl, rfl, rfl, trivial⟩
    ·
      refine v_iconst ok 0 dJ12_equals_24 rfl ?_
      exact v_zretL ok hr (by decide) (by decide) (by cases hf; exact hk) dJ12_equals_25
theorem W_J12_equals_9 {G : GT} {X : CX} {d : Nat} {h0 : AH} {Q : State → Prop} (ok : Ok G X RJ12 cJ12_equals 3 d h0) (hr : (cxm X).sig.returnType = (Option.some Jvm.ClassFile.FieldType.boolean)) (hd : 1 ≤ d) {x0 : Option Nat} {x1 : Option Nat} {x2 : Int32} {h : AH} {z : (Int32 × AH)} (hf : J12_equals_9  x0 x1 x2 h = some z) (hk : Q = QM G X h0 (some (vi z.1)) z.2) {lv : List (Nat × AV)} (hl : lle lv [(0, vr x0), (1, vr x1), (2, vi x2)]) : V G X 3 h0 Q h 9 lv [] := by
  unfold J12_equals_9 at hf
  exact loopC_walk (Wh := fun s : Int32 × AH => ∀ lv : List (Nat × AV), lle lv [(0, vr x0), (1, vr x1), (2, vi s.1)] → V G X 3 h0 Q s.2 9 lv []) (PK := fun z => Q = QM G X h0 (some (vi z.1)) z.2) (fun s o hf hk lv hl => W_J12_equals_9b ok hr hd hf (by cases o <;> exact hk) hl) _ z hf hk lv hl
theorem W_J12_equals {G : GT} {X : CX} {d : Nat} {h0 : AH} {Q : State → Prop} (ok : Ok G X RJ12 cJ12_equals 3 d h0) (hr : (cxm X).sig.returnType = (Option.some Jvm.ClassFile.FieldType.boolean)) (hd : 1 ≤ d) {x0 : Option Nat} {x1 : Option Nat} {h : AH} {z : (Int32 × AH)} (hf : J12_equals x0 x1 h = some z) (hk : Q = QM G X h0 (some (vi z.1)) z.2) {lv : List (Nat × AV)} (hl : lle lv [(0, vr x0), (1, vr x1)]) : V G X 3 h0 Q h 0 lv [] := by
  refine V.sub hl ?_
  unfold J12_equals at hf
  refine v_aload_n ok 0 dJ12_equals_0 rfl rfl ?_
  refine v_alen ok dJ12_equals_1 hf (fun v4 hf => ?_)
  refine v_aload_n ok 1 dJ12_equals_2 rfl rfl ?_
  refine v_alen ok dJ12_equals_3 hf (fun v5 hf => ?_)
  refine v_icmp_ne ok 34 dJ12_equals_4 rfl hf (fun hf => ?_) (fun hf => ?_)
  ·
    refine v_iconst ok 0 dJ12_equals_34 rfl ?_
    exact v_zretL ok hr (by decide) (by decide) (by cases hf; exact hk) dJ12_equals_35
  ·
    refine v_iconst ok 0 dJ12_equals_7 rfl ?_
    refine v_istore_n ok 2 dJ12_equals_8 rfl (by decide) ?_
    exact W_J12_equals_9 ok hr hd hf hk ⟨rfl, rfl, rfl, trivial⟩
theorem M_J12_equals {G : GT} {l : Launch} (hG : Glob G) {d : Nat} (hd : 1 ≤ d) {x0 : Option Nat} {x1 : Option Nat} {h : AH} {v : Int32} {h' : AH} (hf : J12_equals x0 x1 h = some (v, h')) : MM G l yJ12_equals cJ12_equals 3 (Option.some Jvm.ClassFile.FieldType.boolean) d [vr x0, vr x1] h (some (vi v)) h' := by
  refine mm_of hG (plainFor_of_name (by decide)) (Nat.le_of_ble_eq_true rfl) (fun X hX ok hr hnm => ?_)
  subst hX
  exact W_J12_equals ok hr hd hf rfl ⟨rfl, rfl, trivial⟩
theorem cw_J12_charAt : CW yJ12_charAt cJ12_charAt 2 (Option.some Jvm.ClassFile.FieldType.char) 2 := ⟨q871, q189, ⟨by decide, by decide⟩, by decide +kernel, by decide⟩
theorem W_J12_charAt {G : GT} {X : CX} {d : Nat} {h0 : AH} {Q : State → Prop} (ok : Ok G X RJ12 cJ12_charAt 2 d h0) (hr : (cxm X).sig.returnType = (Option.some Jvm.ClassFile.FieldType.char)) (hd : 3 ≤ d) {x0 : Option Nat} {x1 : Int32} {h : AH} {z : (Int32 × AH)} (hf : J12_charAt x0 x1 h = some z) (hk : Q = QM G X h0 (some (vi z.1)) z.2) {lv : List (Nat × AV)} (hl : lle lv [(0, vr x0), (1, vi x1)]) : V G X 2 h0 Q h 0 lv [] := by
  refine V.sub hl ?_
  unfold J12_charAt at hf
  refine v_iload_n ok 1 dJ12_charAt_0 rfl rfl ?_
  refine v_aload_n ok 0 dJ12_charAt_1 rfl rfl ?_
  refine v_alen ok dJ12_charAt_2 hf (fun v1 hf => ?_)
  refine v_cSv ok [vi x1, vi v1] (F := J9_checkIndex x1 v1 h) (fun h1 hv => M_J9_checkIndex ok.2.2.2.2.2.2.1 (d := 2) (Nat.le_refl _) hv) (by exact Nat.le_trans (by decide) hd) cw_J9_checkIndex q872 q873 dJ12_charAt_3 [] rfl (Nat.le_of_ble_eq_true rfl) hf (fun h2 hf => ?_)
  refine v_aload_n ok 0 dJ12_charAt_6 rfl rfl ?_
  refine v_iload_n ok 1 dJ12_charAt_7 rfl rfl ?_
  refine v_bald ok rfl dJ12_charAt_8 hf (fun v3 hf => ?_)
  refine v_sipush ok 255 dJ12_charAt_9 rfl ?_
  refine v_iand ok dJ12_charAt_12 ?_
  refine v_i2c ok dJ12_charAt_13 ?_
  exact v_cret ok hr hf (fun hf => by cases hf; exact hk) dJ12_charAt_14
theorem M_J12_charAt {G : GT} {l : Launch} (hG : Glob G) {d : Nat} (hd : 3 ≤ d) {x0 : Option Nat} {x1 : Int32} {h : AH} {v : Int32} {h' : AH} (hf : J12_charAt x0 x1 h = some (v, h')) : MM G l yJ12_charAt cJ12_charAt 2 (Option.some Jvm.ClassFile.FieldType.char) d [vr x0, vi x1] h (some (vi v)) h' := by
  refine mm_of hG (plainFor_of_name (by decide)) (Nat.le_of_ble_eq_true rfl) (fun X hX ok hr hnm => ?_)
  subst hX
  exact W_J12_charAt ok hr hd hf rfl ⟨rfl, rfl, trivial⟩
theorem cw_J12_canEncode : CW yJ12_canEncode cJ12_canEncode 1 (Option.some Jvm.ClassFile.FieldType.boolean) 1 := ⟨q1195, q189, ⟨by decide, by decide⟩, by decide +kernel, by decide⟩
theorem W_J12_canEncode {G : GT} {X : CX} {d : Nat} {h0 : AH} {Q : State → Prop} (ok : Ok G X RJ12 cJ12_canEncode 1 d h0) (hr : (cxm X).sig.returnType = (Option.some Jvm.ClassFile.FieldType.boolean)) (hd : 1 ≤ d) {x0 : Int32} {h : AH} {z : (Int32 × AH)} (hf : J12_canEncode x0 h = some z) (hk : Q = QM G X h0 (some (vi z.1)) z.2) {lv : List (Nat × AV)} (hl : lle lv [(0, vi x0)]) : V G X 1 h0 Q h 0 lv [] := by
  refine V.sub hl ?_
  unfold J12_canEncode at hf
  refine v_iload_n ok 0 dJ12_canEncode_0 rfl rfl ?_
  refine v_sipush ok 255 dJ12_canEncode_1 rfl ?_
  refine v_icmp_gt ok 11 dJ12_canEncode_4 rfl hf (fun hf => ?_) (fun hf => ?_)
  ·
    refine v_iconst ok 0 dJ12_canEncode_11 rfl ?_
    exact v_zretL ok hr (by decide) (by decide) (by cases hf; exact hk) dJ12_canEncode_12
  ·
    refine v_iconst ok 1 dJ12_canEncode_7 rfl ?_
    refine v_goto ok 12 dJ12_canEncode_8 rfl ?_
    exact v_zretL ok hr (by decide) (by decide) (by cases hf; exact hk) dJ12_canEncode_12
theorem M_J12_canEncode {G : GT} {l : Launch} (hG : Glob G) {d : Nat} (hd : 1 ≤ d) {x0 : Int32} {h : AH} {v : Int32} {h' : AH} (hf : J12_canEncode x0 h = some (v, h')) : MM G l yJ12_canEncode cJ12_canEncode 1 (Option.some Jvm.ClassFile.FieldType.boolean) d [vi x0] h (some (vi v)) h' := by
  refine mm_of hG (plainFor_of_name (by decide)) (Nat.le_of_ble_eq_true rfl) (fun X hX ok hr hnm => ?_)
  subst hX
  exact W_J12_canEncode ok hr hd hf rfl ⟨rfl, trivial⟩
theorem cw_J12_inflate : CW yJ12_inflate cJ12_inflate 5 none 5 := ⟨q1202, q189, ⟨by decide, by decide⟩, by decide +kernel, by decide⟩
theorem W_J12_inflate {G : GT} {X : CX} {d : Nat} {h0 : AH} {Q : State → Prop} (ok : Ok G X RJ12 cJ12_inflate 5 d h0) (hr : (cxm X).sig.returnType = none) (hd : 5 ≤ d) {x0 : Option Nat} {x1 : Int32} {x2 : Option Nat} {x3 : Int32} {x4 : Int32} {h : AH} {z : (AH)} (hf : J12_inflate x0 x1 x2 x3 x4 h = some z) (hk : Q = QM G X h0 none z) {lv : List (Nat × AV)} (hl : lle lv [(0, vr x0), (1, vi x1), (2, vr x2), (3, vi x3), (4, vi x4)]) : V G X 5 h0 Q h 0 lv [] := by
  refine V.sub hl ?_
  unfold J12_inflate at hf
  refine v_aload_n ok 0 dJ12_inflate_0 rfl rfl ?_
  refine v_iload_n ok 1 dJ12_inflate_1 rfl rfl ?_
  refine v_aload_n ok 2 dJ12_inflate_2 rfl rfl ?_
  refine v_iload_n ok 3 dJ12_inflate_3 rfl rfl ?_
  refine v_iload ok dJ12_inflate_4 rfl ?_
  refine v_cSv ok [vr x0, vi x1, vr x2, vi x3, vi x4] (F := J10_inflate x0 x1 x2 x3 x4 h) (fun h1 hv => M_J10_inflate ok.2.2.2.2.2.2.1 (d := 4) (Nat.le_refl _) hv) (by exact Nat.le_trans (by decide) hd) cw_J10_inflate q1203 q1204 dJ12_inflate_6 [] rfl (Nat.le_of_ble_eq_true rfl) hf (fun h1 hf => ?_)
  exact v_vret ok hr (by cases hf; exact hk) dJ12_inflate_9
theorem M_J12_inflate {G : GT} {l : Launch} (hG : Glob G) {d : Nat} (hd : 5 ≤ d) {x0 : Option Nat} {x1 : Int32} {x2 : Option Nat} {x3 : Int32} {x4 : Int32} {h : AH} {h' : AH} (hf : J12_inflate x0 x1 x2 x3 x4 h = some h') : MM G l yJ12_inflate cJ12_inflate 5 none d [vr x0, vi x1, vr x2, vi x3, vi x4] h none h' := by
  refine mm_of hG (plainFor_of_name (by decide)) (Nat.le_of_ble_eq_true rfl) (fun X hX ok hr hnm => ?_)
  subst hX
  exact W_J12_inflate ok hr hd hf rfl ⟨rfl, rfl, rfl, rfl, rfl, trivial⟩
theorem cw_J13_checkIndex : CW yJ13_checkIndex cJ13_checkIndex 2 (Option.some Jvm.ClassFile.FieldType.int) 2 := ⟨q912, q190, ⟨by decide, by decide⟩, by decide +kernel, by decide⟩
theorem W_J13_checkIndex {G : GT} {X : CX} {d : Nat} {h0 : AH} {Q : State → Prop} (ok : Ok G X RJ13 cJ13_checkIndex 2 d h0) (hr : (cxm X).sig.returnType = (Option.some Jvm.ClassFile.FieldType.int)) (hd : 2 ≤ d) {x0 : Int32} {x1 : Int32} {h : AH} {z : (Int32 × AH)} (hf : J13_checkIndex x0 x1 h = some z) (hk : Q = QM G X h0 (some (vi z.1)) z.2) {lv : List (Nat × AV)} (hl : lle lv [(0, vi x0), (1, vi x1)]) : V G X 2 h0 Q h 0 lv [] := by
  refine V.sub hl ?_
  unfold J13_checkIndex at hf
  refine v_iload_n ok 0 dJ13_checkIndex_0 rfl rfl ?_
  refine v_iload_n ok 1 dJ13_checkIndex_1 rfl rfl ?_
  refine v_null ok dJ13_checkIndex_2 ?_
  refine v_cSi ok [vi x0, vi x1, vr none] (F := J11_checkIndex x0 x1 none h) (fun v h1 hv => M_J11_checkIndex ok.2.2.2.2.2.2.1 (d := 1) (Nat.le_refl _) hv) (by exact Nat.le_trans (by decide) hd) cw_J11_checkIndex q913 q876 dJ13_checkIndex_3 [] rfl (Nat.le_of_ble_eq_true rfl) hf (fun v1 h2 hf => ?_)
  exact v_iret ok hr (by cases hf; exact hk) dJ13_checkIndex_6
theorem M_J13_checkIndex {G : GT} {l : Launch} (hG : Glob G) {d : Nat} (hd : 2 ≤ d) {x0 : Int32} {x1 : Int32} {h : AH} {v : Int32} {h' : AH} (hf : J13_checkIndex x0 x1 h = some (v, h')) : MM G l yJ13_checkIndex cJ13_checkIndex 2 (Option.some Jvm.ClassFile.FieldType.int) d [vi x0, vi x1] h (some (vi v)) h' := by
  refine mm_of hG (plainFor_of_name (by decide)) (Nat.le_of_ble_eq_true rfl) (fun X hX ok hr hnm => ?_)
  subst hX
  exact W_J13_checkIndex ok hr hd hf rfl ⟨rfl, rfl, trivial⟩
theorem cw_J14_init : CW yJ14_init cJ14_init 2 none 1 := ⟨q1049, q196, ⟨by decide, by decide⟩, by decide +kernel, by decide⟩
theorem W_J14_init {G : GT} {X : CX} {d : Nat} {h0 : AH} {Q : State → Prop} (ok : Ok G X RJ14 cJ14_init 2 d h0) (hr : (cxm X).sig.returnType = none) (hd : 3 ≤ d) (hnm : (cxm X).name = "<init>") {a0 : Nat} {x1 : Int32} {h : AH} {z : (AH)} (hf : J14_init a0 x1 h = some z) (hk : Q = QM G X h0 none z) {lv : List (Nat × AV)} (hl : lle lv [(0, vr (some a0)), (1, vi x1)]) : V G X 2 h0 Q h 0 lv [] := by
  refine V.sub hl ?_
  unfold J14_init at hf
  refine v_aload_n ok 0 dJ14_init_0 rfl rfl ?_
  refine v_objInit ok q1050 q215 q216 (by omega) (Nat.le_of_ble_eq_true rfl) dJ14_init_1 hf (fun _ hf => ?_)
  refine v_gets ok (v := vi (hI h 120 0)) (List.mem_of_getElem? (i := 0) rfl) q1051 rfl dJ14_init_4 ?_
  refine v_if_eq ok 25 dJ14_init_7 rfl hf (fun hf => ?_) (fun hf => ?_)
  ·
    refine v_aload_n ok 0 dJ14_init_25 rfl rfl ?_
    refine v_iload_n ok 1 dJ14_init_26 rfl rfl ?_
    refine v_cSr ok [vi x1] (F := J10_newBytesFor x1 h) (fun v h1 hv => M_J10_newBytesFor ok.2.2.2.2.2.2.1 (d := 2) (Nat.le_refl _) hv) (by exact Nat.le_trans (by decide) hd) cw_J10_newBytesFor q1052 q727 dJ14_init_27 [vr (some a0)] rfl (Nat.le_of_ble_eq_true rfl) hf (fun v2 h3 hf => ?_)
    refine v_pR ok fl_J14_15 (by first | exact Or.inl ⟨_, rfl⟩ | exact Or.inr ⟨_, rfl⟩) (FN.of cf_25.1 rfl) dJ14_init_30 hf (fun h4 hf => ?_)
    refine v_aload_n ok 0 dJ14_init_33 rfl rfl ?_
    refine v_iconst ok 1 dJ14_init_34 rfl ?_
    refine v_pZ ok fl_J14_22 ⟨fun _ _ _ => rfl, by first | exact Or.inl rfl | exact Or.inr rfl⟩ (FN.of cf_25.1 rfl) dJ14_init_35 hf (fun h5 hf => ?_)
    exact v_vret ok hr (by cases hf; exact hk) dJ14_init_38
  ·
    refine v_aload_n ok 0 dJ14_init_10 rfl rfl ?_
    refine v_iload_n ok 1 dJ14_init_11 rfl rfl ?_
    refine v_newarr ok (t := 101) (atype := .byte) (by decide) (by decide) rfl q452 (fun _ _ _ _ e1 e2 => by first | exact congrArg Value.int e1.symm | exact congrArg Value.long e2.symm) (by decide) dJ14_init_12 hf (fun v6 h7 hf => ?_)
    refine v_pR ok fl_J14_15 (by first | exact Or.inl ⟨_, rfl⟩ | exact Or.inr ⟨_, rfl⟩) (FN.of cf_25.1 rfl) dJ14_init_14 hf (fun h8 hf => ?_)
    refine v_aload_n ok 0 dJ14_init_17 rfl rfl ?_
    refine v_iconst ok 0 dJ14_init_18 rfl ?_
    refine v_pZ ok fl_J14_22 ⟨fun _ _ _ => rfl, by first | exact Or.inl rfl | exact Or.inr rfl⟩ (FN.of cf_25.1 rfl) dJ14_init_19 hf (fun h9 hf => ?_)
    refine v_goto ok 38 dJ14_init_22 rfl ?_
    exact v_vret ok hr (by cases hf; exact hk) dJ14_init_38
theorem M_J14_init {G : GT} {l : Launch} (hG : Glob G) {d : Nat} (hd : 3 ≤ d) {a0 : Nat} {x1 : Int32} {h : AH} {h' : AH} (hf : J14_init a0 x1 h = some h') : MM G l yJ14_init cJ14_init 2 none d [vr (some a0), vi x1] h none h' := by
  refine mm_of hG (plainFor_of_name (by decide)) (Nat.le_of_ble_eq_true rfl) (fun X hX ok hr hnm => ?_)
  subst hX
  exact W_J14_init ok hr hd hnm hf rfl ⟨rfl, rfl, trivial⟩
theorem cw_J3_hugeLength : CW yJ3_hugeLength cJ3_hugeLength 3 (Option.some Jvm.ClassFile.FieldType.int) 2 := ⟨q284, q173, ⟨by decide, by decide⟩, by decide +kernel, by decide⟩
theorem W_J3_hugeLength {G : GT} {X : CX} {d : Nat} {h0 : AH} {Q : State → Prop} (ok : Ok G X RJ3 cJ3_hugeLength 3 d h0) (hr : (cxm X).sig.returnType = (Option.some Jvm.ClassFile.FieldType.int)) (hd : 1 ≤ d) {x0 : Int32} {x1 : Int32} {h : AH} {z : (Int32 × AH)} (hf : J3_hugeLength x0 x1 h = some z) (hk : Q = QM G X h0 (some (vi z.1)) z.2) {lv : List (Nat × AV)} (hl : lle lv [(0, vi x0), (1, vi x1)]) : V G X 3 h0 Q h 0 lv [] := by
  refine V.sub hl ?_
  unfold J3_hugeLength at hf
  refine v_iload_n ok 0 dJ3_hugeLength_0 rfl rfl ?_
  refine v_iload_n ok 1 dJ3_hugeLength_1 rfl rfl ?_
  refine v_iadd ok dJ3_hugeLength_2 ?_
  refine v_istore_n ok 2 dJ3_hugeLength_3 rfl (by decide) ?_
  refine v_iload_n ok 2 dJ3_hugeLength_4 rfl rfl ?_
  refine v_if_ge ok 49 dJ3_hugeLength_5 rfl hf (fun hf => ?_) (fun hf => ?_)
  ·
    refine v_iload_n ok 2 dJ3_hugeLength_49 rfl rfl ?_
    refine v_ldc ok q281 dJ3_hugeLength_50 ?_
    refine v_icmp_gt ok 58 dJ3_hugeLength_52 rfl hf (fun hf => ?_) (fun hf => ?_)
    ·
      refine v_iload_n ok 2 dJ3_hugeLength_58 rfl rfl ?_
      exact v_iret ok hr (by cases hf; exact hk) dJ3_hugeLength_59
    ·
      refine v_ldc ok q281 dJ3_hugeLength_55 ?_
      exact v_iret ok hr (by cases hf; exact hk) dJ3_hugeLength_57
  ·
    cases hf
theorem M_J3_hugeLength {G : GT} {l : Launch} (hG : Glob G) {d : Nat} (hd : 1 ≤ d) {x0 : Int32} {x1 : Int32} {h : AH} {v : Int32} {h' : AH} (hf : J3_hugeLength x0 x1 h = some (v, h')) : MM G l yJ3_hugeLength cJ3_hugeLength 3 (Option.some Jvm.ClassFile.FieldType.int) d [vi x0, vi x1] h (some (vi v)) h' := by
  refine mm_of hG (plainFor_of_name (by decide)) (Nat.le_of_ble_eq_true rfl) (fun X hX ok hr hnm => ?_)
  subst hX
  exact W_J3_hugeLength ok hr hd hf rfl ⟨rfl, rfl, trivial⟩
theorem cw_J4_max : CW yJ4_max cJ4_max 2 (Option.some Jvm.ClassFile.FieldType.int) 2 := ⟨q280, q174, ⟨by decide, by decide⟩, by decide +kernel, by decide⟩
theorem W_J4_max {G : GT} {X : CX} {d : Nat} {h0 : AH} {Q : State → Prop} (ok : Ok G X RJ4 cJ4_max 2 d h0) (hr : (cxm X).sig.returnType = (Option.some Jvm.ClassFile.FieldType.int)) (hd : 1 ≤ d) {x0 : Int32} {x1 : Int32} {h : AH} {z : (Int32 × AH)} (hf : J4_max x0 x1 h = some z) (hk : Q = QM G X h0 (some (vi z.1)) z.2) {lv : List (Nat × AV)} (hl : lle lv [(0, vi x0), (1, vi x1)]) : V G X 2 h0 Q h 0 lv [] := by
  refine V.sub hl ?_
  unfold J4_max at hf
  refine v_iload_n ok 0 dJ4_max_0 rfl rfl ?_
  refine v_iload_n ok 1 dJ4_max_1 rfl rfl ?_
  refine v_icmp_lt ok 9 dJ4_max_2 rfl hf (fun hf => ?_) (fun hf => ?_)
  ·
    refine v_iload_n ok 1 dJ4_max_9 rfl rfl ?_
    exact v_iret ok hr (by cases hf; exact hk) dJ4_max_10
  ·
    refine v_iload_n ok 0 dJ4_max_5 rfl rfl ?_
    refine v_goto ok 10 dJ4_max_6 rfl ?_
    exact v_iret ok hr (by cases hf; exact hk) dJ4_max_10
theorem M_J4_max {G : GT} {l : Launch} (hG : Glob G) {d : Nat} (hd : 1 ≤ d) {x0 : Int32} {x1 : Int32} {h : AH} {v : Int32} {h' : AH} (hf : J4_max x0 x1 h = some (v, h')) : MM G l yJ4_max cJ4_max 2 (Option.some Jvm.ClassFile.FieldType.int) d [vi x0, vi x1] h (some (vi v)) h' := by
  refine mm_of hG (by decide +kernel) (Nat.le_of_ble_eq_true rfl) (fun X hX ok hr hnm => ?_)
  subst hX
  exact W_J4_max ok hr hd hf rfl ⟨rfl, rfl, trivial⟩
theorem cw_J3_newLength : CW yJ3_newLength cJ3_newLength 4 (Option.some Jvm.ClassFile.FieldType.int) 3 := ⟨q277, q173, ⟨by decide, by decide⟩, by decide +kernel, by decide⟩
theorem W_J3_newLength_21 {G : GT} {X : CX} {d : Nat} {h0 : AH} {Q : State → Prop} (ok : Ok G X RJ3 cJ3_newLength 4 d h0) (hr : (cxm X).sig.returnType = (Option.some Jvm.ClassFile.FieldType.int)) (hd : 2 ≤ d) {x0 : Int32} {x1 : Int32} {h : AH} {z : (Int32 × AH)} (hf : J3_newLength_21 x0 x1 h = some z) (hk : Q = QM G X h0 (some (vi z.1)) z.2) {lv : List (Nat × AV)} (hl : lle lv [(0, vi x0), (1, vi x1)]) : V G X 4 h0 Q h 21 lv [] := by
  refine V.sub hl ?_
  unfold J3_newLength_21 at hf
  refine v_iload_n ok 0 dJ3_newLength_21 rfl rfl ?_
  refine v_iload_n ok 1 dJ3_newLength_22 rfl rfl ?_
  refine v_cSi ok [vi x0, vi x1] (F := J3_hugeLength x0 x1 h) (fun v h1 hv => M_J3_hugeLength ok.2.2.2.2.2.2.1 (d := 1) (Nat.le_refl _) hv) (by exact Nat.le_trans (by decide) hd) cw_J3_hugeLength q282 q283 dJ3_newLength_23 [] rfl (Nat.le_of_ble_eq_true rfl) hf (fun v1 h2 hf => ?_)
  exact v_iret ok hr (by cases hf; exact hk) dJ3_newLength_26
theorem W_J3_newLength {G : GT} {X : CX} {d : Nat} {h0 : AH} {Q : State → Prop} (ok : Ok G X RJ3 cJ3_newLength 4 d h0) (hr : (cxm X).sig.returnType = (Option.some Jvm.ClassFile.FieldType.int)) (hd : 2 ≤ d) {x0 : Int32} {x1 : Int32} {x2 : Int32} {h : AH} {z : (Int32 × AH)} (hf : J3_newLength x0 x1 x2 h = some z) (hk : Q = QM G X h0 (some (vi z.1)) z.2) {lv : List (Nat × AV)} (hl : lle lv [(0, vi x0), (1, vi x1), (2, vi x2)]) : V G X 4 h0 Q h 0 lv [] := by
  refine V.sub hl ?_
  unfold J3_newLength at hf
  refine v_iload_n ok 0 dJ3_newLength_0 rfl rfl ?_
  refine v_iload_n ok 1 dJ3_newLength_1 rfl rfl ?_
  refine v_iload_n ok 2 dJ3_newLength_2 rfl rfl ?_
  refine v_cSi ok [vi x1, vi x2] (F := J4_max x1 x2 h) (fun v h1 hv => M_J4_max ok.2.2.2.2.2.2.1 (d := 1) (Nat.le_refl _) hv) (by exact Nat.le_trans (by decide) hd) cw_J4_max q278 q279 dJ3_newLength_3 [vi x0] rfl (Nat.le_of_ble_eq_true rfl) hf (fun v3 h4 hf => ?_)
  refine v_iadd ok dJ3_newLength_6 ?_
  refine v_istore_n ok 3 dJ3_newLength_7 rfl (by decide) ?_
  refine v_iconst ok 0 dJ3_newLength_8 rfl ?_
  refine v_iload_n ok 3 dJ3_newLength_9 rfl rfl ?_
  refine v_icmp_ge ok 21 dJ3_newLength_10 rfl hf (fun hf => ?_) (fun hf => ?_)
  ·
    exact W_J3_newLength_21 ok hr hd hf hk ⟨rfl, rfl, trivial⟩
  ·
    refine v_iload_n ok 3 dJ3_newLength_13 rfl rfl ?_
    refine v_ldc ok q281 dJ3_newLength_14 ?_
    refine v_icmp_gt ok 21 dJ3_newLength_16 rfl hf (fun hf => ?_) (fun hf => ?_)
    ·
      exact W_J3_newLength_21 ok hr hd hf hk ⟨rfl, rfl, trivial⟩
    ·
      refine v_iload_n ok 3 dJ3_newLength_19 rfl rfl ?_
      exact v_iret ok hr (by cases hf; exact hk) dJ3_newLength_20
theorem M_J3_newLength {G : GT} {l : Launch} (hG : Glob G) {d : Nat} (hd : 2 ≤ d) {x0 : Int32} {x1 : Int32} {x2 : Int32} {h : AH} {v : Int32} {h' : AH} (hf : J3_newLength x0 x1 x2 h = some (v, h')) : MM G l yJ3_newLength cJ3_newLength 4 (Option.some Jvm.ClassFile.FieldType.int) d [vi x0, vi x1, vi x2] h (some (vi v)) h' := by
  refine mm_of hG (plainFor_of_name (by decide)) (Nat.le_of_ble_eq_true rfl) (fun X hX ok hr hnm => ?_)
  subst hX
  exact W_J3_newLength ok hr hd hf rfl ⟨rfl, rfl, rfl, trivial⟩
theorem cw_J14_newCapacity : CW yJ14_newCapacity cJ14_newCapacity 6 (Option.some Jvm.ClassFile.FieldType.int) 1 := ⟨q1175, q196, ⟨by decide, by decide⟩, by decide +kernel, by decide⟩
theorem W_J14_newCapacity {G : GT} {X : CX} {d : Nat} {h0 : AH} {Q : State → Prop} (ok : Ok G X RJ14 cJ14_newCapacity 6 d h0) (hr : (cxm X).sig.returnType = (Option.some Jvm.ClassFile.FieldType.int)) (hd : 3 ≤ d) {a0 : Nat} {x1 : Int32} {h : AH} {z : (Int32 × AH)} (hf : J14_newCapacity a0 x1 h = some z) (hk : Q = QM G X h0 (some (vi z.1)) z.2) {lv : List (Nat × AV)} (hl : lle lv [(0, vr (some a0)), (1, vi x1)]) : V G X 6 h0 Q h 0 lv [] := by
  refine V.sub hl ?_
  unfold J14_newCapacity at hf
  refine v_aload_n ok 0 dJ14_newCapacity_0 rfl rfl ?_
  refine v_gR ok fl_J14_15 (by first | exact Or.inl ⟨_, rfl⟩ | exact Or.inr ⟨_, rfl⟩) dJ14_newCapacity_1 hf (fun v1 hf => ?_)
  refine v_alen ok dJ14_newCapacity_4 hf (fun v2 hf => ?_)
  refine v_istore_n ok 2 dJ14_newCapacity_5 rfl (by decide) ?_
  refine v_iload_n ok 1 dJ14_newCapacity_6 rfl rfl ?_
  refine v_aload_n ok 0 dJ14_newCapacity_7 rfl rfl ?_
  refine v_gI ok fl_J14_22 (fun _ _ _ => rfl) dJ14_newCapacity_8 hf (fun v3 hf => ?_)
  refine v_ishl ok dJ14_newCapacity_11 ?_
  refine v_istore_n ok 3 dJ14_newCapacity_12 rfl (by decide) ?_
  refine v_iload_n ok 3 dJ14_newCapacity_13 rfl rfl ?_
  refine v_iload_n ok 2 dJ14_newCapacity_14 rfl rfl ?_
  refine v_isub ok dJ14_newCapacity_15 ?_
  refine v_istore ok dJ14_newCapacity_16 (by decide) ?_
  refine v_iload_n ok 2 dJ14_newCapacity_18 rfl rfl ?_
  refine v_iload ok dJ14_newCapacity_19 rfl ?_
  refine v_iload_n ok 2 dJ14_newCapacity_21 rfl rfl ?_
  refine v_iconst ok 2 dJ14_newCapacity_22 rfl ?_
  refine v_aload_n ok 0 dJ14_newCapacity_23 rfl rfl ?_
  refine v_gI ok fl_J14_22 (fun _ _ _ => rfl) dJ14_newCapacity_24 hf (fun v4 hf => ?_)
  refine v_ishl ok dJ14_newCapacity_27 ?_
  refine v_iadd ok dJ14_newCapacity_28 ?_
  refine v_cSi ok [vi v2, vi ((jshl x1 v3) - v2), vi (v2 + (jshl 2 v4))] (F := J3_newLength v2 ((jshl x1 v3) - v2) (v2 + (jshl 2 v4)) h) (fun v h1 hv => M_J3_newLength ok.2.2.2.2.2.2.1 (d := 2) (Nat.le_refl _) hv) (by exact Nat.le_trans (by decide) hd) cw_J3_newLength q1176 q276 dJ14_newCapacity_29 [] rfl (Nat.le_of_ble_eq_true rfl) hf (fun v5 h6 hf => ?_)
  refine v_istore ok dJ14_newCapacity_32 (by decide) ?_
  refine v_iload ok dJ14_newCapacity_34 rfl ?_
  refine v_ldc ok q1177 dJ14_newCapacity_36 ?_
  refine v_icmp_ne ok 51 dJ14_newCapacity_38 rfl hf (fun hf => ?_) (fun hf => ?_)
  ·
    refine v_iload ok dJ14_newCapacity_51 rfl ?_
    refine v_aload_n ok 0 dJ14_newCapacity_53 rfl rfl ?_
    refine v_gI ok fl_J14_22 (fun _ _ _ => rfl) dJ14_newCapacity_54 hf (fun v7 hf => ?_)
    refine v_ishr ok dJ14_newCapacity_57 ?_
    exact v_iret ok hr (by cases hf; exact hk) dJ14_newCapacity_58
  ·
    cases hf
theorem M_J14_newCapacity {G : GT} {l : Launch} (hG : Glob G) {d : Nat} (hd : 3 ≤ d) {a0 : Nat} {x1 : Int32} {h : AH} {v : Int32} {h' : AH} (hf : J14_newCapacity a0 x1 h = some (v, h')) : MM G l yJ14_newCapacity cJ14_newCapacity 6 (Option.some Jvm.ClassFile.FieldType.int) d [vr (some a0), vi x1] h (some (vi v)) h' := by
  refine mm_of hG (plainFor_of_name (by decide)) (Nat.le_of_ble_eq_true rfl) (fun X hX ok hr hnm => ?_)
  subst hX
  exact W_J14_newCapacity ok hr hd hf rfl ⟨rfl, rfl, trivial⟩
theorem cw_J4_min : CW yJ4_min cJ4_min 2 (Option.some Jvm.ClassFile.FieldType.int) 2 := ⟨q324, q174, ⟨by decide, by decide⟩, by decide +kernel, by decide⟩
theorem W_J4_min {G : GT} {X : CX} {d : Nat} {h0 : AH} {Q : State → Prop} (ok : Ok G X RJ4 cJ4_min 2 d h0) (hr : (cxm X).sig.returnType = (Option.some Jvm.ClassFile.FieldType.int)) (hd : 1 ≤ d) {x0 : Int32} {x1 : Int32} {h : AH} {z : (Int32 × AH)} (hf : J4_min x0 x1 h = some z) (hk : Q = QM G X h0 (some (vi z.1)) z.2) {lv : List (Nat × AV)} (hl : lle lv [(0, vi x0), (1, vi x1)]) : V G X 2 h0 Q h 0 lv [] := by
  refine V.sub hl ?_
  unfold J4_min at hf
  refine v_iload_n ok 0 dJ4_min_0 rfl rfl ?_
  refine v_iload_n ok 1 dJ4_min_1 rfl rfl ?_
  refine v_icmp_gt ok 9 dJ4_min_2 rfl hf (fun hf => ?_) (fun hf => ?_)
  ·
    refine v_iload_n ok 1 dJ4_min_9 rfl rfl ?_
    exact v_iret ok hr (by cases hf; exact hk) dJ4_min_10
  ·
    refine v_iload_n ok 0 dJ4_min_5 rfl rfl ?_
    refine v_goto ok 10 dJ4_min_6 rfl ?_
    exact v_iret ok hr (by cases hf; exact hk) dJ4_min_10
theorem M_J4_min {G : GT} {l : Launch} (hG : Glob G) {d : Nat} (hd : 1 ≤ d) {x0 : Int32} {x1 : Int32} {h : AH} {v : Int32} {h' : AH} (hf : J4_min x0 x1 h = some (v, h')) : MM G l yJ4_min cJ4_min 2 (Option.some Jvm.ClassFile.FieldType.int) d [vi x0, vi x1] h (some (vi v)) h' := by
  refine mm_of hG (by decide +kernel) (Nat.le_of_ble_eq_true rfl) (fun X hX ok hr hnm => ?_)
  subst hX
  exact W_J4_min ok hr hd hf rfl ⟨rfl, rfl, trivial⟩
theorem cw_J5_copyOf_3 : CW yJ5_copyOf_3 cJ5_copyOf_3 3 (Option.some (Jvm.ClassFile.FieldType.array Jvm.ClassFile.FieldType.byte)) 2 := ⟨q1180, q175, ⟨by decide, by decide⟩, by decide +kernel, by decide⟩
theorem W_J5_copyOf_3 {G : GT} {X : CX} {d : Nat} {h0 : AH} {Q : State → Prop} (ok : Ok G X RJ5 cJ5_copyOf_3 3 d h0) (hr : (cxm X).sig.returnType = (Option.some (Jvm.ClassFile.FieldType.array Jvm.ClassFile.FieldType.byte))) (hd : 2 ≤ d) {x0 : Option Nat} {x1 : Int32} {h : AH} {z : (Option Nat × AH)} (hf : J5_copyOf_3 x0 x1 h = some z) (hk : Q = QM G X h0 (some (vr z.1)) z.2) {lv : List (Nat × AV)} (hl : lle lv [(0, vr x0), (1, vi x1)]) : V G X 3 h0 Q h 0 lv [] := by
  refine V.sub hl ?_
  unfold J5_copyOf_3 at hf
  refine v_iload_n ok 1 dJ5_copyOf_3_0 rfl rfl ?_
  refine v_aload_n ok 0 dJ5_copyOf_3_1 rfl rfl ?_
  refine v_alen ok dJ5_copyOf_3_2 hf (fun v1 hf => ?_)
  refine v_icmp_ne ok 14 dJ5_copyOf_3_3 rfl hf (fun hf => ?_) (fun hf => ?_)
  ·
    refine v_iload_n ok 1 dJ5_copyOf_3_14 rfl rfl ?_
    refine v_newarr ok (t := 101) (atype := .byte) (by decide) (by decide) rfl q452 (fun _ _ _ _ e1 e2 => by first | exact congrArg Value.int e1.symm | exact congrArg Value.long e2.symm) (by decide) dJ5_copyOf_3_15 hf (fun v2 h3 hf => ?_)
    refine v_astore_n ok 2 dJ5_copyOf_3_17 rfl (by decide) ?_
    refine v_aload_n ok 0 dJ5_copyOf_3_18 rfl rfl ?_
    refine v_iconst ok 0 dJ5_copyOf_3_19 rfl ?_
    refine v_aload_n ok 2 dJ5_copyOf_3_20 rfl rfl ?_
    refine v_iconst ok 0 dJ5_copyOf_3_21 rfl ?_
    refine v_aload_n ok 0 dJ5_copyOf_3_22 rfl rfl ?_
    refine v_alen ok dJ5_copyOf_3_23 hf (fun v4 hf => ?_)
    refine v_iload_n ok 1 dJ5_copyOf_3_24 rfl rfl ?_
    refine v_cSi ok [vi v4, vi x1] (F := J4_min v4 x1 h3) (fun v h1 hv => M_J4_min ok.2.2.2.2.2.2.1 (d := 1) (Nat.le_refl _) hv) (by exact Nat.le_trans (by decide) hd) cw_J4_min q322 q323 dJ5_copyOf_3_25 [vi 0, vr v2, vi 0, vr x0] rfl (Nat.le_of_ble_eq_true rfl) hf (fun v5 h6 hf => ?_)
    refine v_acpB ok q325 q327 q326 q176 (by omega) (Nat.le_of_ble_eq_true rfl) dJ5_copyOf_3_28 hf (fun h7 hf => ?_)
    refine v_aload_n ok 2 dJ5_copyOf_3_31 rfl rfl ?_
    exact v_aret ok hr (by first | exact Or.inl ⟨_, rfl⟩ | exact Or.inr ⟨_, rfl⟩) (by cases hf; exact hk) dJ5_copyOf_3_32
  ·
    refine v_aload_n ok 0 dJ5_copyOf_3_6 rfl rfl ?_
    cases hf
theorem M_J5_copyOf_3 {G : GT} {l : Launch} (hG : Glob G) {d : Nat} (hd : 2 ≤ d) {x0 : Option Nat} {x1 : Int32} {h : AH} {v : Option Nat} {h' : AH} (hf : J5_copyOf_3 x0 x1 h = some (v, h')) : MM G l yJ5_copyOf_3 cJ5_copyOf_3 3 (Option.some (Jvm.ClassFile.FieldType.array Jvm.ClassFile.FieldType.byte)) d [vr x0, vi x1] h (some (vr v)) h' := by
  refine mm_of hG (plainFor_of_name (by decide)) (Nat.le_of_ble_eq_true rfl) (fun X hX ok hr hnm => ?_)
  subst hX
  exact W_J5_copyOf_3 ok hr hd hf rfl ⟨rfl, rfl, trivial⟩
theorem cw_J14_ensureCapacityInternal : CW yJ14_ensureCapacityInternal cJ14_ensureCapacityInternal 3 none 1 := ⟨q1171, q196, ⟨by decide, by decide⟩, by decide +kernel, by decide⟩
theorem W_J14_ensureCapacityInternal {G : GT} {X : CX} {d : Nat} {h0 : AH} {Q : State → Prop} (ok : Ok G X RJ14 cJ14_ensureCapacityInternal 3 d h0) (hr : (cxm X).sig.returnType = none) (hd : 4 ≤ d) {a0 : Nat} {x1 : Int32} {h : AH} {z : (AH)} (hf : J14_ensureCapacityInternal a0 x1 h = some z) (hk : Q = QM G X h0 none z) {lv : List (Nat × AV)} (hl : lle lv [(0, vr (some a0)), (1, vi x1)]) : V G X 3 h0 Q h 0 lv [] := by
  refine V.sub hl ?_
  unfold J14_ensureCapacityInternal at hf
  refine v_aload_n ok 0 dJ14_ensureCapacityInternal_0 rfl rfl ?_
  refine v_gR ok fl_J14_15 (by first | exact Or.inl ⟨_, rfl⟩ | exact Or.inr ⟨_, rfl⟩) dJ14_ensureCapacityInternal_1 hf (fun v1 hf => ?_)
  refine v_alen ok dJ14_ensureCapacityInternal_4 hf (fun v2 hf => ?_)
  refine v_aload_n ok 0 dJ14_ensureCapacityInternal_5 rfl rfl ?_
  refine v_gI ok fl_J14_22 (fun _ _ _ => rfl) dJ14_ensureCapacityInternal_6 hf (fun v3 hf => ?_)
  refine v_ishr ok dJ14_ensureCapacityInternal_9 ?_
  refine v_istore_n ok 2 dJ14_ensureCapacityInternal_10 rfl (by decide) ?_
  refine v_iload_n ok 1 dJ14_ensureCapacityInternal_11 rfl rfl ?_
  refine v_iload_n ok 2 dJ14_ensureCapacityInternal_12 rfl rfl ?_
  refine v_isub ok dJ14_ensureCapacityInternal_13 ?_
  refine v_if_le ok 38 dJ14_ensureCapacityInternal_14 rfl hf (fun hf => ?_) (fun hf => ?_)
  ·
    exact v_vret ok hr (by cases hf; exact hk) dJ14_ensureCapacityInternal_38
  ·
    refine v_aload_n ok 0 dJ14_ensureCapacityInternal_17 rfl rfl ?_
    refine v_aload_n ok 0 dJ14_ensureCapacityInternal_18 rfl rfl ?_
    refine v_gR ok fl_J14_15 (by first | exact Or.inl ⟨_, rfl⟩ | exact Or.inr ⟨_, rfl⟩) dJ14_ensureCapacityInternal_19 hf (fun v4 hf => ?_)
    refine v_aload_n ok 0 dJ14_ensureCapacityInternal_22 rfl rfl ?_
    refine v_iload_n ok 1 dJ14_ensureCapacityInternal_23 rfl rfl ?_
    refine v_cVsi ok (RJ15, TJ15, 4) cf_25.1 [vi x1] (F := fun a => J14_newCapacity a x1 h) (fun a v h1 _ hv => M_J14_newCapacity ok.2.2.2.2.2.2.1 (d := 3) (Nat.le_refl _) hv) (by exact Nat.le_trans (by decide) hd) cw_J14_newCapacity q1172 q1174 (gselP ok ⟨by decide, by decide⟩ q1043 q1173 q1174 q1191 rfl) dJ14_ensureCapacityInternal_24 [vr v4, vr (some a0)] rfl (Nat.le_of_ble_eq_true rfl) hf (fun v5 h6 hf => ?_)
    refine v_aload_n ok 0 dJ14_ensureCapacityInternal_27 rfl rfl ?_
    refine v_gI ok fl_J14_22 (fun _ _ _ => rfl) dJ14_ensureCapacityInternal_28 hf (fun v7 hf => ?_)
    refine v_ishl ok dJ14_ensureCapacityInternal_31 ?_
    refine v_cSr ok [vr v4, vi (jshl v5 v7)] (F := J5_copyOf_3 v4 (jshl v5 v7) h6) (fun v h1 hv => M_J5_copyOf_3 ok.2.2.2.2.2.2.1 (d := 2) (Nat.le_refl _) hv) (by exact Nat.le_trans (by decide) hd) cw_J5_copyOf_3 q1178 q1179 dJ14_ensureCapacityInternal_32 [vr (some a0)] rfl (Nat.le_of_ble_eq_true rfl) hf (fun v8 h9 hf => ?_)
    refine v_pR ok fl_J14_15 (by first | exact Or.inl ⟨_, rfl⟩ | exact Or.inr ⟨_, rfl⟩) (FN.of cf_25.1 rfl) dJ14_ensureCapacityInternal_35 hf (fun h10 hf => ?_)
    exact v_vret ok hr (by cases hf; exact hk) dJ14_ensureCapacityInternal_38
theorem M_J14_ensureCapacityInternal {G : GT} {l : Launch} (hG : Glob G) {d : Nat} (hd : 4 ≤ d) {a0 : Nat} {x1 : Int32} {h : AH} {h' : AH} (hf : J14_ensureCapacityInternal a0 x1 h = some h') : MM G l yJ14_ensureCapacityInternal cJ14_ensureCapacityInternal 3 none d [vr (some a0), vi x1] h none h' := by
  refine mm_of hG (plainFor_of_name (by decide)) (Nat.le_of_ble_eq_true rfl) (fun X hX ok hr hnm => ?_)
  subst hX
  exact W_J14_ensureCapacityInternal ok hr hd hf rfl ⟨rfl, rfl, trivial⟩
theorem cw_J14_isLatin1 : CW yJ14_isLatin1 cJ14_isLatin1 1 (Option.some Jvm.ClassFile.FieldType.boolean) 0 := ⟨q1192, q196, ⟨by decide, by decide⟩, by decide +kernel, by decide⟩
theorem W_J14_isLatin1 {G : GT} {X : CX} {d : Nat} {h0 : AH} {Q : State → Prop} (ok : Ok G X RJ14 cJ14_isLatin1 1 d h0) (hr : (cxm X).sig.returnType = (Option.some Jvm.ClassFile.FieldType.boolean)) (hd : 1 ≤ d) {a0 : Nat} {h : AH} {z : (Int32 × AH)} (hf : J14_isLatin1 a0 h = some z) (hk : Q = QM G X h0 (some (vi z.1)) z.2) {lv : List (Nat × AV)} (hl : lle lv [(0, vr (some a0))]) : V G X 1 h0 Q h 0 lv [] := by
  refine V.sub hl ?_
  unfold J14_isLatin1 at hf
  refine v_gets ok (v := vi (hI h 120 0)) (List.mem_of_getElem? (i := 0) rfl) q1051 rfl dJ14_isLatin1_0 ?_
  refine v_if_eq ok 17 dJ14_isLatin1_3 rfl hf (fun hf => ?_) (fun hf => ?_)
  ·
    refine v_iconst ok 0 dJ14_isLatin1_17 rfl ?_
    exact v_zretL ok hr (by decide) (by decide) (by cases hf; exact hk) dJ14_isLatin1_18
  ·
    refine v_aload_n ok 0 dJ14_isLatin1_6 rfl rfl ?_
    refine v_gI ok fl_J14_22 (fun _ _ _ => rfl) dJ14_isLatin1_7 hf (fun v1 hf => ?_)
    refine v_if_ne ok 17 dJ14_isLatin1_10 rfl hf (fun hf => ?_) (fun hf => ?_)
    ·
      refine v_iconst ok 0 dJ14_isLatin1_17 rfl ?_
      exact v_zretL ok hr (by decide) (by decide) (by cases hf; exact hk) dJ14_isLatin1_18
    ·
      refine v_iconst ok 1 dJ14_isLatin1_13 rfl ?_
      refine v_goto ok 18 dJ14_isLatin1_14 rfl ?_
      exact v_zretL ok hr (by decide) (by decide) (by cases hf; exact hk) dJ14_isLatin1_18
theorem M_J14_isLatin1 {G : GT} {l : Launch} (hG : Glob G) {d : Nat} (hd : 1 ≤ d) {a0 : Nat} {h : AH} {v : Int32} {h' : AH} (hf : J14_isLatin1 a0 h = some (v, h')) : MM G l yJ14_isLatin1 cJ14_isLatin1 1 (Option.some Jvm.ClassFile.FieldType.boolean) d [vr (some a0)] h (some (vi v)) h' := by
  refine mm_of hG (plainFor_of_name (by decide)) (Nat.le_of_ble_eq_true rfl) (fun X hX ok hr hnm => ?_)
  subst hX
  exact W_J14_isLatin1 ok hr hd hf rfl ⟨rfl, trivial⟩
theorem cw_J14_inflate : CW yJ14_inflate cJ14_inflate 2 none 0 := ⟨q1199, q196, ⟨by decide, by decide⟩, by decide +kernel, by decide⟩
theorem W_J14_inflate {G : GT} {X : CX} {d : Nat} {h0 : AH} {Q : State → Prop} (ok : Ok G X RJ14 cJ14_inflate 2 d h0) (hr : (cxm X).sig.returnType = none) (hd : 6 ≤ d) {a0 : Nat} {h : AH} {z : (AH)} (hf : J14_inflate a0 h = some z) (hk : Q = QM G X h0 none z) {lv : List (Nat × AV)} (hl : lle lv [(0, vr (some a0))]) : V G X 2 h0 Q h 0 lv [] := by
  refine V.sub hl ?_
  unfold J14_inflate at hf
  refine v_aload_n ok 0 dJ14_inflate_0 rfl rfl ?_
  refine v_cVi ok (RJ15, TJ15, 4) cf_25.1 [] (F := fun a => J14_isLatin1 a h) (fun a v h1 _ hv => M_J14_isLatin1 ok.2.2.2.2.2.2.1 (d := 1) (Nat.le_refl _) hv) (by exact Nat.le_trans (by decide) hd) cw_J14_isLatin1 q1188 q1189 q1191 dJ14_inflate_1 [] rfl (Nat.le_of_ble_eq_true rfl) hf (fun v1 h2 hf => ?_)
  refine v_if_ne ok 8 dJ14_inflate_4 rfl hf (fun hf => ?_) (fun hf => ?_)
  ·
    refine v_aload_n ok 0 dJ14_inflate_8 rfl rfl ?_
    refine v_gR ok fl_J14_15 (by first | exact Or.inl ⟨_, rfl⟩ | exact Or.inr ⟨_, rfl⟩) dJ14_inflate_9 hf (fun v3 hf => ?_)
    refine v_alen ok dJ14_inflate_12 hf (fun v4 hf => ?_)
    refine v_cSr ok [vi v4] (F := J10_newBytesFor v4 h2) (fun v h1 hv => M_J10_newBytesFor ok.2.2.2.2.2.2.1 (d := 2) (Nat.le_refl _) hv) (by exact Nat.le_trans (by decide) hd) cw_J10_newBytesFor q1052 q727 dJ14_inflate_13 [] rfl (Nat.le_of_ble_eq_true rfl) hf (fun v5 h6 hf => ?_)
    refine v_astore_n ok 1 dJ14_inflate_16 rfl (by decide) ?_
    refine v_aload_n ok 0 dJ14_inflate_17 rfl rfl ?_
    refine v_gR ok fl_J14_15 (by first | exact Or.inl ⟨_, rfl⟩ | exact Or.inr ⟨_, rfl⟩) dJ14_inflate_18 hf (fun v7 hf => ?_)
    refine v_iconst ok 0 dJ14_inflate_21 rfl ?_
    refine v_aload_n ok 1 dJ14_inflate_22 rfl rfl ?_
    refine v_iconst ok 0 dJ14_inflate_23 rfl ?_
    refine v_aload_n ok 0 dJ14_inflate_24 rfl rfl ?_
    refine v_gI ok fl_J14_79 (fun _ _ _ => rfl) dJ14_inflate_25 hf (fun v8 hf => ?_)
    refine v_cSv ok [vr v7, vi 0, vr v5, vi 0, vi v8] (F := J12_inflate v7 0 v5 0 v8 h6) (fun h1 hv => M_J12_inflate ok.2.2.2.2.2.2.1 (d := 5) (Nat.le_refl _) hv) (by exact Nat.le_trans (by decide) hd) cw_J12_inflate q1200 q1201 dJ14_inflate_28 [] rfl (Nat.le_of_ble_eq_true rfl) hf (fun h9 hf => ?_)
    refine v_aload_n ok 0 dJ14_inflate_31 rfl rfl ?_
    refine v_aload_n ok 1 dJ14_inflate_32 rfl rfl ?_
    refine v_pR ok fl_J14_15 (by first | exact Or.inl ⟨_, rfl⟩ | exact Or.inr ⟨_, rfl⟩) (FN.of cf_25.1 rfl) dJ14_inflate_33 hf (fun h10 hf => ?_)
    refine v_aload_n ok 0 dJ14_inflate_36 rfl rfl ?_
    refine v_iconst ok 1 dJ14_inflate_37 rfl ?_
    refine v_pZ ok fl_J14_22 ⟨fun _ _ _ => rfl, by first | exact Or.inl rfl | exact Or.inr rfl⟩ (FN.of cf_25.1 rfl) dJ14_inflate_38 hf (fun h11 hf => ?_)
    exact v_vret ok hr (by cases hf; exact hk) dJ14_inflate_41
  ·
    exact v_vret ok hr (by cases hf; exact hk) dJ14_inflate_7
theorem M_J14_inflate {G : GT} {l : Launch} (hG : Glob G) {d : Nat} (hd : 6 ≤ d) {a0 : Nat} {h : AH} {h' : AH} (hf : J14_inflate a0 h = some h') : MM G l yJ14_inflate cJ14_inflate 2 none d [vr (some a0)] h none h' := by
  refine mm_of hG (plainFor_of_name (by decide)) (Nat.le_of_ble_eq_true rfl) (fun X hX ok hr hnm => ?_)
  subst hX
  exact W_J14_inflate ok hr hd hf rfl ⟨rfl, trivial⟩
theorem cw_J14_append : CW yJ14_append cJ14_append 2 (Option.some (Jvm.ClassFile.FieldType.object "java/lang/AbstractStringBuilder")) 1 := ⟨q1167, q196, ⟨by decide, by decide⟩, by decide +kernel, by decide⟩
theorem W_J14_append_56 {G : GT} {X : CX} {d : Nat} {h0 : AH} {Q : State → Prop} (ok : Ok G X RJ14 cJ14_append 2 d h0) (hr : (cxm X).sig.returnType = (Option.some (Jvm.ClassFile.FieldType.object "java/lang/AbstractStringBuilder"))) (hd : 7 ≤ d) {a0 : Nat} {x1 : Int32} {h : AH} {z : (Option Nat × AH)} (hf : J14_append_56 a0 x1 h = some z) (hk : Q = QM G X h0 (some (vr z.1)) z.2) {lv : List (Nat × AV)} (hl : lle lv [(0, vr (some a0)), (1, vi x1)]) : V G X 2 h0 Q h 56 lv [] := by
  refine V.sub hl ?_
  unfold J14_append_56 at hf
  refine v_aload_n ok 0 dJ14_append_56 rfl rfl ?_
  refine v_gR ok fl_J14_15 (by first | exact Or.inl ⟨_, rfl⟩ | exact Or.inr ⟨_, rfl⟩) dJ14_append_57 hf (fun v1 hf => ?_)
  refine v_aload_n ok 0 dJ14_append_60 rfl rfl ?_
  refine v_dup ok dJ14_append_61 rfl ?_
  refine v_gI ok fl_J14_79 (fun _ _ _ => rfl) dJ14_append_62 hf (fun v2 hf => ?_)
  refine v_dup_x1 ok dJ14_append_65 rfl rfl ?_
  refine v_iconst ok 1 dJ14_append_66 rfl ?_
  refine v_iadd ok dJ14_append_67 ?_
  refine v_pI ok fl_J14_79 ⟨fun _ _ _ => rfl, rfl⟩ (FN.of cf_25.1 rfl) dJ14_append_68 hf (fun h3 hf => ?_)
  refine v_iload_n ok 1 dJ14_append_71 rfl rfl ?_
  refine v_cSv ok [vr v1, vi v2, vi x1] (F := J10_putCharSB v1 v2 x1 h3) (fun h1 hv => M_J10_putCharSB ok.2.2.2.2.2.2.1 (d := 4) (Nat.le_refl _) hv) (by exact Nat.le_trans (by decide) hd) cw_J10_putCharSB q1206 q1207 dJ14_append_72 [] rfl (Nat.le_of_ble_eq_true rfl) hf (fun h4 hf => ?_)
  refine v_aload_n ok 0 dJ14_append_75 rfl rfl ?_
  exact v_aret ok hr (by first | exact Or.inl ⟨_, rfl⟩ | exact Or.inr ⟨_, rfl⟩) (by cases hf; exact hk) dJ14_append_76
theorem W_J14_append_45 {G : GT} {X : CX} {d : Nat} {h0 : AH} {Q : State → Prop} (ok : Ok G X RJ14 cJ14_append 2 d h0) (hr : (cxm X).sig.returnType = (Option.some (Jvm.ClassFile.FieldType.object "java/lang/AbstractStringBuilder"))) (hd : 7 ≤ d) {a0 : Nat} {x1 : Int32} {h : AH} {z : (Option Nat × AH)} (hf : J14_append_45 a0 x1 h = some z) (hk : Q = QM G X h0 (some (vr z.1)) z.2) {lv : List (Nat × AV)} (hl : lle lv [(0, vr (some a0)), (1, vi x1)]) : V G X 2 h0 Q h 45 lv [] := by
  refine V.sub hl ?_
  unfold J14_append_45 at hf
  refine v_aload_n ok 0 dJ14_append_45 rfl rfl ?_
  refine v_cVi ok (RJ15, TJ15, 4) cf_25.1 [] (F := fun a => J14_isLatin1 a h) (fun a v h1 _ hv => M_J14_isLatin1 ok.2.2.2.2.2.2.1 (d := 1) (Nat.le_refl _) hv) (by exact Nat.le_trans (by decide) hd) cw_J14_isLatin1 q1188 q1189 q1191 dJ14_append_46 [] rfl (Nat.le_of_ble_eq_true rfl) hf (fun v5 h6 hf => ?_)
  refine v_if_eq ok 56 dJ14_append_49 rfl hf (fun hf => ?_) (fun hf => ?_)
  ·
    exact W_J14_append_56 ok hr hd hf hk ⟨rfl, rfl, trivial⟩
  ·
    refine v_aload_n ok 0 dJ14_append_52 rfl rfl ?_
    refine v_cVsv ok (RJ15, TJ15, 4) cf_25.1 [] (F := fun a => J14_inflate a h6) (fun a h1 _ hv => M_J14_inflate ok.2.2.2.2.2.2.1 (d := 6) (Nat.le_refl _) hv) (by exact Nat.le_trans (by decide) hd) cw_J14_inflate q1196 q1198 (gselP ok ⟨by decide, by decide⟩ q1043 q1197 q1198 q1191 rfl) dJ14_append_53 [] rfl (Nat.le_of_ble_eq_true rfl) hf (fun h7 hf => ?_)
    exact W_J14_append_56 ok hr hd hf hk ⟨rfl, rfl, trivial⟩
theorem W_J14_append {G : GT} {X : CX} {d : Nat} {h0 : AH} {Q : State → Prop} (ok : Ok G X RJ14 cJ14_append 2 d h0) (hr : (cxm X).sig.returnType = (Option.some (Jvm.ClassFile.FieldType.object "java/lang/AbstractStringBuilder"))) (hd : 7 ≤ d) {a0 : Nat} {x1 : Int32} {h : AH} {z : (Option Nat × AH)} (hf : J14_append a0 x1 h = some z) (hk : Q = QM G X h0 (some (vr z.1)) z.2) {lv : List (Nat × AV)} (hl : lle lv [(0, vr (some a0)), (1, vi x1)]) : V G X 2 h0 Q h 0 lv [] := by
  refine V.sub hl ?_
  unfold J14_append at hf
  refine v_aload_n ok 0 dJ14_append_0 rfl rfl ?_
  refine v_aload_n ok 0 dJ14_append_1 rfl rfl ?_
  refine v_gI ok fl_J14_79 (fun _ _ _ => rfl) dJ14_append_2 hf (fun v8 hf => ?_)
  refine v_iconst ok 1 dJ14_append_5 rfl ?_
  refine v_iadd ok dJ14_append_6 ?_
  refine v_cVsv ok (RJ15, TJ15, 4) cf_25.1 [vi (v8 + 1)] (F := fun a => J14_ensureCapacityInternal a (v8 + 1) h) (fun a h1 _ hv => M_J14_ensureCapacityInternal ok.2.2.2.2.2.2.1 (d := 4) (Nat.le_refl _) hv) (by exact Nat.le_trans (by decide) hd) cw_J14_ensureCapacityInternal q1168 q1170 (gselP ok ⟨by decide, by decide⟩ q1043 q1169 q1170 q1191 rfl) dJ14_append_7 [] rfl (Nat.le_of_ble_eq_true rfl) hf (fun h9 hf => ?_)
  refine v_aload_n ok 0 dJ14_append_10 rfl rfl ?_
  refine v_cVi ok (RJ15, TJ15, 4) cf_25.1 [] (F := fun a => J14_isLatin1 a h9) (fun a v h1 _ hv => M_J14_isLatin1 ok.2.2.2.2.2.2.1 (d := 1) (Nat.le_refl _) hv) (by exact Nat.le_trans (by decide) hd) cw_J14_isLatin1 q1188 q1189 q1191 dJ14_append_11 [] rfl (Nat.le_of_ble_eq_true rfl) hf (fun v10 h11 hf => ?_)
  refine v_if_eq ok 45 dJ14_append_14 rfl hf (fun hf => ?_) (fun hf => ?_)
  ·
    exact W_J14_append_45 ok hr hd hf hk ⟨rfl, rfl, trivial⟩
  ·
    refine v_iload_n ok 1 dJ14_append_17 rfl rfl ?_
    refine v_cSi ok [vi x1] (F := J12_canEncode x1 h11) (fun v h1 hv => M_J12_canEncode ok.2.2.2.2.2.2.1 (d := 1) (Nat.le_refl _) hv) (by exact Nat.le_trans (by decide) hd) cw_J12_canEncode q1193 q1194 dJ14_append_18 [] rfl (Nat.le_of_ble_eq_true rfl) hf (fun v12 h13 hf => ?_)
    refine v_if_eq ok 45 dJ14_append_21 rfl hf (fun hf => ?_) (fun hf => ?_)
    ·
      exact W_J14_append_45 ok hr hd hf hk ⟨rfl, rfl, trivial⟩
    ·
      refine v_aload_n ok 0 dJ14_append_24 rfl rfl ?_
      refine v_gR ok fl_J14_15 (by first | exact Or.inl ⟨_, rfl⟩ | exact Or.inr ⟨_, rfl⟩) dJ14_append_25 hf (fun v14 hf => ?_)
      refine v_aload_n ok 0 dJ14_append_28 rfl rfl ?_
      refine v_dup ok dJ14_append_29 rfl ?_
      refine v_gI ok fl_J14_79 (fun _ _ _ => rfl) dJ14_append_30 hf (fun v15 hf => ?_)
      refine v_dup_x1 ok dJ14_append_33 rfl rfl ?_
      refine v_iconst ok 1 dJ14_append_34 rfl ?_
      refine v_iadd ok dJ14_append_35 ?_
      refine v_pI ok fl_J14_79 ⟨fun _ _ _ => rfl, rfl⟩ (FN.of cf_25.1 rfl) dJ14_append_36 hf (fun h16 hf => ?_)
      refine v_iload_n ok 1 dJ14_append_39 rfl rfl ?_
      refine v_i2b ok dJ14_append_40 ?_
      refine v_bast ok rfl dJ14_append_41 hf (fun h17 hf => ?_)
      refine v_goto ok 75 dJ14_append_42 rfl ?_
      refine v_aload_n ok 0 dJ14_append_75 rfl rfl ?_
      exact v_aret ok hr (by first | exact Or.inl ⟨_, rfl⟩ | exact Or.inr ⟨_, rfl⟩) (by cases hf; exact hk) dJ14_append_76
theorem M_J14_append {G : GT} {l : Launch} (hG : Glob G) {d : Nat} (hd : 7 ≤ d) {a0 : Nat} {x1 : Int32} {h : AH} {v : Option Nat} {h' : AH} (hf : J14_append a0 x1 h = some (v, h')) : MM G l yJ14_append cJ14_append 2 (Option.some (Jvm.ClassFile.FieldType.object "java/lang/AbstractStringBuilder")) d [vr (some a0), vi x1] h (some (vr v)) h' := by
  refine mm_of hG (plainFor_of_name (by decide)) (Nat.le_of_ble_eq_true rfl) (fun X hX ok hr hnm => ?_)
  subst hX
  exact W_J14_append ok hr hd hf rfl ⟨rfl, rfl, trivial⟩
