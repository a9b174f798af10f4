set_option maxRecDepth 100000
theorem cw_X7_qSums : CW yX7_qSums cX7_qSums 3 none 0 := ⟨q2261, q185, ⟨by decide, by decide⟩, by decide +kernel, by decide⟩
def pkX7_qSums_53 (G : GT) (X : CX) (h0 : AH) (Q : State → Prop) (a0 : Nat) (x1 : Int32) (o : ((AH) ⊕ (AH))) : Prop := match o with
  | .inl s => ∀ lv : List (Nat × AV), lle lv [(0, vr (some a0)), (1, vi x1)] → V G X 3 h0 Q s 53 lv []
  | .inr z => Q = QM G X h0 none z
def pkX7_qSums_15 (G : GT) (X : CX) (h0 : AH) (Q : State → Prop) (a0 : Nat) (x1 : Int32) (o : ((Int32 × AH) ⊕ (AH))) : Prop := match o with
  | .inl s => ∀ lv : List (Nat × AV), lle lv [(0, vr (some a0)), (1, vi x1), (2, vi s.1)] → V G X 3 h0 Q s.2 15 lv []
  | .inr z => Q = QM G X h0 none z
theorem W_X7_qSums_78 {G : GT} {X : CX} {d : Nat} {h0 : AH} {Q : State → Prop} (ok : Ok G X RX7 cX7_qSums 3 d h0) (hr : (cxm X).sig.returnType = none) (hd : 7 ≤ d) {a0 : Nat} {x1 : Int32} {h : AH} {z : (AH)} (hf : X7_qSums_78 a0 x1 h = some z) (hk : Q = QM G X h0 none z) {lv : List (Nat × AV)} (hl : lle lv [(0, vr (some a0)), (1, vi x1)]) : V G X 3 h0 Q h 78 lv [] := by
  refine V.sub hl ?_
  unfold X7_qSums_78 at hf
  refine v_aload_n ok 0 dX7_qSums_78 rfl rfl ?_
  refine v_iload_n ok 1 dX7_qSums_79 rfl rfl ?_
  refine v_pI ok fl_X7_353 ⟨fun _ _ _ => rfl, rfl⟩ (FN.of cf_7.1 rfl) dX7_qSums_80 hf (fun h1 hf => ?_)
  exact v_vret ok hr (by cases hf; exact hk) dX7_qSums_83
theorem W_X7_qSums_53b {G : GT} {X : CX} {d : Nat} {h0 : AH} {Q : State → Prop} (ok : Ok G X RX7 cX7_qSums 3 d h0) (hr : (cxm X).sig.returnType = none) (hd : 7 ≤ d) {a0 : Nat} {x1 : Int32} {h : AH} {z : ((AH) ⊕ (AH))} (hf : X7_qSums_53b  a0 x1  h = some z) (hk : pkX7_qSums_53 G X h0 Q a0 x1 z) {lv : List (Nat × AV)} (hl : lle lv [(0, vr (some a0)), (1, vi x1)]) : V G X 3 h0 Q h 53 lv [] := by
  refine V.sub hl ?_
  unfold X7_qSums_53b at hf
  refine v_aload_n ok 0 dX7_qSums_53 rfl rfl ?_
  refine v_gI ok fl_X7_257 (fun _ _ _ => rfl) dX7_qSums_54 hf (fun v2 hf => ?_)
  refine v_if_ne ok 78 dX7_qSums_57 rfl hf (fun hf => ?_) (fun hf => ?_)
  ·
    obtain ⟨o, ho, hz⟩ := ob hf
    cases hz; exact W_X7_qSums_78 ok hr hd ho hk ⟨rfl, rfl, trivial⟩
  ·
    refine v_aload_n ok 0 dX7_qSums_60 rfl rfl ?_
    refine v_gI ok fl_X7_347 (fun _ _ _ => rfl) dX7_qSums_61 hf (fun v3 hf => ?_)
    refine v_aload_n ok 0 dX7_qSums_64 rfl rfl ?_
    refine v_gI ok fl_X7_353 (fun _ _ _ => rfl) dX7_qSums_65 hf (fun v4 hf => ?_)
    refine v_icmp_le ok 78 dX7_qSums_68 rfl hf (fun hf => ?_) (fun hf => ?_)
    ·
      obtain ⟨o, ho, hz⟩ := ob hf
      cases hz; exact W_X7_qSums_78 ok hr hd ho hk ⟨rfl, rfl, trivial⟩
    ·
      refine v_aload_n ok 0 dX7_qSums_71 rfl rfl ?_
      refine v_cVv ok (RX7, TX7, 117) cf_7.1 [] (F := fun a => X7_qDrops a h) (fun a h1 _ hv => M_X7_qDrops ok.2.2.2.2.2.2.1 (d := 2) (Nat.le_refl _) hv) (by exact Nat.le_trans (by decide) hd) cw_X7_qDrops q2294 q2296 qs99 dX7_qSums_72 [] rfl (Nat.le_of_ble_eq_true rfl) hf (fun h5 hf => ?_)
      refine v_goto ok 53 dX7_qSums_75 rfl ?_
      cases hf; exact hk _ ⟨rfl, rfl, trivial⟩
theorem W_X7_qSums_53 {G : GT} {X : CX} {d : Nat} {h0 : AH} {Q : State → Prop} (ok : Ok G X RX7 cX7_qSums 3 d h0) (hr : (cxm X).sig.returnType = none) (hd : 7 ≤ d) {a0 : Nat} {x1 : Int32} {h : AH} {z : (AH)} (hf : X7_qSums_53  a0 x1 h = some z) (hk : Q = QM G X h0 none z) {lv : List (Nat × AV)} (hl : lle lv [(0, vr (some a0)), (1, vi x1)]) : V G X 3 h0 Q h 53 lv [] := by
  unfold X7_qSums_53 at hf
  exact loopC_walk (Wh := fun s : AH => ∀ lv : List (Nat × AV), lle lv [(0, vr (some a0)), (1, vi x1)] → V G X 3 h0 Q s 53 lv []) (PK := fun z => Q = QM G X h0 none z) (fun s o hf hk lv hl => W_X7_qSums_53b ok hr hd hf (by cases o <;> exact hk) hl) _ z hf hk lv hl
theorem W_X7_qSums_15b {G : GT} {X : CX} {d : Nat} {h0 : AH} {Q : State → Prop} (ok : Ok G X RX7 cX7_qSums 3 d h0) (hr : (cxm X).sig.returnType = none) (hd : 7 ≤ d) {a0 : Nat} {x1 : Int32} {x2 : Int32} {h : AH} {z : ((Int32 × AH) ⊕ (AH))} (hf : X7_qSums_15b  a0 x1 x2 h = some z) (hk : pkX7_qSums_15 G X h0 Q a0 x1 z) {lv : List (Nat × AV)} (hl : lle lv [(0, vr (some a0)), (1, vi x1), (2, vi x2)]) : V G X 3 h0 Q h 15 lv [] := by
  refine V.sub hl ?_
  unfold X7_qSums_15b at hf
  refine v_iload_n ok 2 dX7_qSums_15 rfl rfl ?_
  refine v_if_eq ok 53 dX7_qSums_16 rfl hf (fun hf => ?_) (fun hf => ?_)
  ·
    obtain ⟨o, ho, hz⟩ := ob hf
    cases hz; exact W_X7_qSums_53 ok hr hd ho hk ⟨rfl, rfl, trivial⟩
  ·
    refine v_aload_n ok 0 dX7_qSums_19 rfl rfl ?_
    refine v_gI ok fl_X7_257 (fun _ _ _ => rfl) dX7_qSums_20 hf (fun v6 hf => ?_)
    refine v_if_ne ok 53 dX7_qSums_23 rfl hf (fun hf => ?_) (fun hf => ?_)
    ·
      obtain ⟨o, ho, hz⟩ := ob hf
      cases hz; exact W_X7_qSums_53 ok hr hd ho hk ⟨rfl, rfl, trivial⟩
    ·
      refine v_aload_n ok 0 dX7_qSums_26 rfl rfl ?_
      refine v_cVv ok (RX7, TX7, 117) cf_7.1 [] (F := fun a => X7_qPartTold a h) (fun a h1 _ hv => M_X7_qPartTold ok.2.2.2.2.2.2.1 (d := 6) (Nat.le_refl _) hv) (by exact Nat.le_trans (by decide) hd) cw_X7_qPartTold q2262 q2264 qs91 dX7_qSums_27 [] rfl (Nat.le_of_ble_eq_true rfl) hf (fun h7 hf => ?_)
      refine v_aload_n ok 0 dX7_qSums_30 rfl rfl ?_
      refine v_gI ok fl_X7_257 (fun _ _ _ => rfl) dX7_qSums_31 hf (fun v8 hf => ?_)
      refine v_if_ne ok 48 dX7_qSums_34 rfl hf (fun hf => ?_) (fun hf => ?_)
      ·
        refine v_iconst ok 0 dX7_qSums_48 rfl ?_
        refine v_istore_n ok 2 dX7_qSums_49 rfl (by decide) ?_
        refine v_goto ok 15 dX7_qSums_50 rfl ?_
        cases hf; exact hk _ ⟨rfl, rfl, rfl, trivial⟩
      ·
        refine v_aload_n ok 0 dX7_qSums_37 rfl rfl ?_
        refine v_cVi ok (RX7, TX7, 117) cf_7.1 [] (F := fun a => X7_qGoesOn a h7) (fun a v h1 _ hv => M_X7_qGoesOn ok.2.2.2.2.2.2.1 (d := 4) (Nat.le_refl _) hv) (by exact Nat.le_trans (by decide) hd) cw_X7_qGoesOn q2298 q2300 qs100 dX7_qSums_38 [] rfl (Nat.le_of_ble_eq_true rfl) hf (fun v9 h10 hf => ?_)
        refine v_if_eq ok 48 dX7_qSums_41 rfl hf (fun hf => ?_) (fun hf => ?_)
        ·
          refine v_iconst ok 0 dX7_qSums_48 rfl ?_
          refine v_istore_n ok 2 dX7_qSums_49 rfl (by decide) ?_
          refine v_goto ok 15 dX7_qSums_50 rfl ?_
          cases hf; exact hk _ ⟨rfl, rfl, rfl, trivial⟩
        ·
          refine v_iconst ok 1 dX7_qSums_44 rfl ?_
          refine v_goto ok 49 dX7_qSums_45 rfl ?_
          refine v_istore_n ok 2 dX7_qSums_49 rfl (by decide) ?_
          refine v_goto ok 15 dX7_qSums_50 rfl ?_
          cases hf; exact hk _ ⟨rfl, rfl, rfl, trivial⟩
theorem W_X7_qSums_15 {G : GT} {X : CX} {d : Nat} {h0 : AH} {Q : State → Prop} (ok : Ok G X RX7 cX7_qSums 3 d h0) (hr : (cxm X).sig.returnType = none) (hd : 7 ≤ d) {a0 : Nat} {x1 : Int32} {x2 : Int32} {h : AH} {z : (AH)} (hf : X7_qSums_15  a0 x1 x2 h = some z) (hk : Q = QM G X h0 none z) {lv : List (Nat × AV)} (hl : lle lv [(0, vr (some a0)), (1, vi x1), (2, vi x2)]) : V G X 3 h0 Q h 15 lv [] := by
  unfold X7_qSums_15 at hf
  exact loopC_walk (Wh := fun s : Int32 × AH => ∀ lv : List (Nat × AV), lle lv [(0, vr (some a0)), (1, vi x1), (2, vi s.1)] → V G X 3 h0 Q s.2 15 lv []) (PK := fun z => Q = QM G X h0 none z) (fun s o hf hk lv hl => W_X7_qSums_15b ok hr hd hf (by cases o <;> exact hk) hl) _ z hf hk lv hl
theorem W_X7_qSums {G : GT} {X : CX} {d : Nat} {h0 : AH} {Q : State → Prop} (ok : Ok G X RX7 cX7_qSums 3 d h0) (hr : (cxm X).sig.returnType = none) (hd : 7 ≤ d) {a0 : Nat} {h : AH} {z : (AH)} (hf : X7_qSums a0 h = some z) (hk : Q = QM G X h0 none z) {lv : List (Nat × AV)} (hl : lle lv [(0, vr (some a0))]) : V G X 3 h0 Q h 0 lv [] := by
  refine V.sub hl ?_
  unfold X7_qSums at hf
  refine v_aload_n ok 0 dX7_qSums_0 rfl rfl ?_
  refine v_gI ok fl_X7_353 (fun _ _ _ => rfl) dX7_qSums_1 hf (fun v11 hf => ?_)
  refine v_istore_n ok 1 dX7_qSums_4 rfl (by decide) ?_
  refine v_aload_n ok 0 dX7_qSums_5 rfl rfl ?_
  refine v_aload_n ok 0 dX7_qSums_6 rfl rfl ?_
  refine v_gI ok fl_X7_347 (fun _ _ _ => rfl) dX7_qSums_7 hf (fun v12 hf => ?_)
  refine v_pI ok fl_X7_353 ⟨fun _ _ _ => rfl, rfl⟩ (FN.of cf_7.1 rfl) dX7_qSums_10 hf (fun h13 hf => ?_)
  refine v_iconst ok 1 dX7_qSums_13 rfl ?_
  refine v_istore_n ok 2 dX7_qSums_14 rfl (by decide) ?_
  exact W_X7_qSums_15 ok hr hd hf hk ⟨rfl, rfl, rfl, trivial⟩
theorem M_X7_qSums {G : GT} {l : Launch} (hG : Glob G) {d : Nat} (hd : 7 ≤ d) {a0 : Nat} {h : AH} {h' : AH} (hf : X7_qSums a0 h = some h') : MM G l yX7_qSums cX7_qSums 3 none d [vr (some a0)] h none h' := by
  refine mm_of hG (plainFor_of_name (by decide)) (Nat.le_of_ble_eq_true rfl) (fun X hX ok hr hnm => ?_)
  subst hX
  exact W_X7_qSums ok hr hd hf rfl ⟨rfl, trivial⟩
theorem cw_X7_qDropsNots : CW yX7_qDropsNots cX7_qDropsNots 1 none 0 := ⟨q2320, q185, ⟨by decide, by decide⟩, by decide +kernel, by decide⟩
def pkX7_qDropsNots_0 (G : GT) (X : CX) (h0 : AH) (Q : State → Prop) (a0 : Nat) (o : ((AH) ⊕ (AH))) : Prop := match o with
  | .inl s => ∀ lv : List (Nat × AV), lle lv [(0, vr (some a0))] → V G X 1 h0 Q s 0 lv []
  | .inr z => Q = QM G X h0 none z
theorem W_X7_qDropsNots_0b {G : GT} {X : CX} {d : Nat} {h0 : AH} {Q : State → Prop} (ok : Ok G X RX7 cX7_qDropsNots 1 d h0) (hr : (cxm X).sig.returnType = none) (hd : 3 ≤ d) {a0 : Nat} {h : AH} {z : ((AH) ⊕ (AH))} (hf : X7_qDropsNots_0b  a0  h = some z) (hk : pkX7_qDropsNots_0 G X h0 Q a0 z) {lv : List (Nat × AV)} (hl : lle lv [(0, vr (some a0))]) : V G X 1 h0 Q h 0 lv [] := by
  refine V.sub hl ?_
  unfold X7_qDropsNots_0b at hf
  refine v_aload_n ok 0 dX7_qDropsNots_0 rfl rfl ?_
  refine v_gI ok fl_X7_257 (fun _ _ _ => rfl) dX7_qDropsNots_1 hf (fun v1 hf => ?_)
  refine v_if_ne ok 33 dX7_qDropsNots_4 rfl hf (fun hf => ?_) (fun hf => ?_)
  ·
    exact v_vret ok hr (by cases hf; exact hk) dX7_qDropsNots_33
  ·
    refine v_aload_n ok 0 dX7_qDropsNots_7 rfl rfl ?_
    refine v_bipush ok 12 dX7_qDropsNots_8 rfl ?_
    refine v_cVi ok (RX7, TX7, 117) cf_7.1 [vi 12] (F := fun a => X7_qIsOn a 12 h) (fun a v h1 _ hv => M_X7_qIsOn ok.2.2.2.2.2.2.1 (d := 1) (Nat.le_refl _) hv) (by exact Nat.le_trans (by decide) hd) cw_X7_qIsOn q2313 q2315 qs103 dX7_qDropsNots_10 [] rfl (Nat.le_of_ble_eq_true rfl) hf (fun v2 h3 hf => ?_)
    refine v_if_eq ok 33 dX7_qDropsNots_13 rfl hf (fun hf => ?_) (fun hf => ?_)
    ·
      exact v_vret ok hr (by cases hf; exact hk) dX7_qDropsNots_33
    ·
      refine v_aload_n ok 0 dX7_qDropsNots_16 rfl rfl ?_
      refine v_dup ok dX7_qDropsNots_17 rfl ?_
      refine v_gI ok fl_X7_350 (fun _ _ _ => rfl) dX7_qDropsNots_18 hf (fun v4 hf => ?_)
      refine v_iconst ok 1 dX7_qDropsNots_21 rfl ?_
      refine v_isub ok dX7_qDropsNots_22 ?_
      refine v_pI ok fl_X7_350 ⟨fun _ _ _ => rfl, rfl⟩ (FN.of cf_7.1 rfl) dX7_qDropsNots_23 hf (fun h5 hf => ?_)
      refine v_aload_n ok 0 dX7_qDropsNots_26 rfl rfl ?_
      refine v_cVv ok (RX7, TX7, 117) cf_7.1 [] (F := fun a => X7_qDrops a h5) (fun a h1 _ hv => M_X7_qDrops ok.2.2.2.2.2.2.1 (d := 2) (Nat.le_refl _) hv) (by exact Nat.le_trans (by decide) hd) cw_X7_qDrops q2294 q2296 qs99 dX7_qDropsNots_27 [] rfl (Nat.le_of_ble_eq_true rfl) hf (fun h6 hf => ?_)
      refine v_goto ok 0 dX7_qDropsNots_30 rfl ?_
      cases hf; exact hk _ ⟨rfl, trivial⟩
theorem W_X7_qDropsNots {G : GT} {X : CX} {d : Nat} {h0 : AH} {Q : State → Prop} (ok : Ok G X RX7 cX7_qDropsNots 1 d h0) (hr : (cxm X).sig.returnType = none) (hd : 3 ≤ d) {a0 : Nat} {h : AH} {z : (AH)} (hf : X7_qDropsNots  a0 h = some z) (hk : Q = QM G X h0 none z) {lv : List (Nat × AV)} (hl : lle lv [(0, vr (some a0))]) : V G X 1 h0 Q h 0 lv [] := by
  unfold X7_qDropsNots at hf
  exact loopC_walk (Wh := fun s : AH => ∀ lv : List (Nat × AV), lle lv [(0, vr (some a0))] → V G X 1 h0 Q s 0 lv []) (PK := fun z => Q = QM G X h0 none z) (fun s o hf hk lv hl => W_X7_qDropsNots_0b ok hr hd hf (by cases o <;> exact hk) hl) _ z hf hk lv hl
theorem M_X7_qDropsNots {G : GT} {l : Launch} (hG : Glob G) {d : Nat} (hd : 3 ≤ d) {a0 : Nat} {h : AH} {h' : AH} (hf : X7_qDropsNots a0 h = some h') : MM G l yX7_qDropsNots cX7_qDropsNots 1 none d [vr (some a0)] h none h' := by
  refine mm_of hG (plainFor_of_name (by decide)) (Nat.le_of_ble_eq_true rfl) (fun X hX ok hr hnm => ?_)
  subst hX
  exact W_X7_qDropsNots ok hr hd hf rfl ⟨rfl, trivial⟩
theorem cw_X7_qFact : CW yX7_qFact cX7_qFact 2 none 0 := ⟨q2253, q185, ⟨by decide, by decide⟩, by decide +kernel, by decide⟩
theorem W_X7_qFact_102 {G : GT} {X : CX} {d : Nat} {h0 : AH} {Q : State → Prop} (ok : Ok G X RX7 cX7_qFact 2 d h0) (hr : (cxm X).sig.returnType = none) (hd : 8 ≤ d) {s0 : Option Nat} {s1 : Int32} {h : AH} {z : (AH)} (hf : X7_qFact_102 s0 s1 h = some z) (hk : Q = QM G X h0 none z) {lv : List (Nat × AV)} (hl : lle lv []) : V G X 2 h0 Q h 102 lv [vi s1, vr s0] := by
  refine V.sub hl ?_
  unfold X7_qFact_102 at hf
  refine v_cVv ok (RX7, TX7, 117) cf_7.1 [vi s1] (F := fun a => X7_qCode a s1 h) (fun a h1 _ hv => M_X7_qCode ok.2.2.2.2.2.2.1 (d := 1) (Nat.le_refl _) hv) (by exact Nat.le_trans (by decide) hd) cw_X7_qCode q2254 q2256 qs89 dX7_qFact_102 [] rfl (Nat.le_of_ble_eq_true rfl) hf (fun h1 hf => ?_)
  exact v_vret ok hr (by cases hf; exact hk) dX7_qFact_105
theorem W_X7_qFact_63 {G : GT} {X : CX} {d : Nat} {h0 : AH} {Q : State → Prop} (ok : Ok G X RX7 cX7_qFact 2 d h0) (hr : (cxm X).sig.returnType = none) (hd : 8 ≤ d) {a0 : Nat} {x1 : Int32} {h : AH} {z : (AH)} (hf : X7_qFact_63 a0 x1 h = some z) (hk : Q = QM G X h0 none z) {lv : List (Nat × AV)} (hl : lle lv [(0, vr (some a0)), (1, vi x1)]) : V G X 2 h0 Q h 63 lv [] := by
  refine V.sub hl ?_
  unfold X7_qFact_63 at hf
  refine v_aload_n ok 0 dX7_qFact_63 rfl rfl ?_
  refine v_dup ok dX7_qFact_64 rfl ?_
  refine v_gI ok fl_X7_263 (fun _ _ _ => rfl) dX7_qFact_65 hf (fun v2 hf => ?_)
  refine v_iconst ok 1 dX7_qFact_68 rfl ?_
  refine v_iadd ok dX7_qFact_69 ?_
  refine v_pI ok fl_X7_263 ⟨fun _ _ _ => rfl, rfl⟩ (FN.of cf_7.1 rfl) dX7_qFact_70 hf (fun h3 hf => ?_)
  refine v_aload_n ok 0 dX7_qFact_73 rfl rfl ?_
  refine v_cVv ok (RX7, TX7, 117) cf_7.1 [] (F := fun a => X7_qSums a h3) (fun a h1 _ hv => M_X7_qSums ok.2.2.2.2.2.2.1 (d := 7) (Nat.le_refl _) hv) (by exact Nat.le_trans (by decide) hd) cw_X7_qSums q2258 q2260 qs90 dX7_qFact_74 [] rfl (Nat.le_of_ble_eq_true rfl) hf (fun h4 hf => ?_)
  refine v_aload_n ok 0 dX7_qFact_77 rfl rfl ?_
  refine v_iload_n ok 1 dX7_qFact_78 rfl rfl ?_
  refine v_bipush ok 60 dX7_qFact_79 rfl ?_
  refine v_icmp_ne ok 89 dX7_qFact_81 rfl hf (fun hf => ?_) (fun hf => ?_)
  ·
    refine v_iload_n ok 1 dX7_qFact_89 rfl rfl ?_
    refine v_bipush ok 62 dX7_qFact_90 rfl ?_
    refine v_icmp_ne ok 100 dX7_qFact_92 rfl hf (fun hf => ?_) (fun hf => ?_)
    ·
      refine v_bipush ok 9 dX7_qFact_100 rfl ?_
      exact W_X7_qFact_102 ok hr hd hf hk trivial
    ·
      refine v_bipush ok 8 dX7_qFact_95 rfl ?_
      refine v_goto ok 102 dX7_qFact_97 rfl ?_
      exact W_X7_qFact_102 ok hr hd hf hk trivial
  ·
    refine v_bipush ok 7 dX7_qFact_84 rfl ?_
    refine v_goto ok 102 dX7_qFact_86 rfl ?_
    exact W_X7_qFact_102 ok hr hd hf hk trivial
theorem W_X7_qFact {G : GT} {X : CX} {d : Nat} {h0 : AH} {Q : State → Prop} (ok : Ok G X RX7 cX7_qFact 2 d h0) (hr : (cxm X).sig.returnType = none) (hd : 8 ≤ d) {a0 : Nat} {h : AH} {z : (AH)} (hf : X7_qFact a0 h = some z) (hk : Q = QM G X h0 none z) {lv : List (Nat × AV)} (hl : lle lv [(0, vr (some a0))]) : V G X 2 h0 Q h 0 lv [] := by
  refine V.sub hl ?_
  unfold X7_qFact at hf
  refine v_aload_n ok 0 dX7_qFact_0 rfl rfl ?_
  refine v_aload_n ok 0 dX7_qFact_1 rfl rfl ?_
  refine v_gR ok fl_X7_196 (by first | exact Or.inl ⟨_, rfl⟩ | exact Or.inr ⟨_, rfl⟩) dX7_qFact_2 hf (fun v5 hf => ?_)
  refine v_cVi ok (RX7, TX7, 117) cf_7.1 [vr v5] (F := fun a => X7_takes a v5 h) (fun a v h1 _ hv => M_X7_takes ok.2.2.2.2.2.2.1 (d := 3) (Nat.le_refl _) hv) (by exact Nat.le_trans (by decide) hd) cw_X7_takes q2181 q2183 qs73 dX7_qFact_5 [] rfl (Nat.le_of_ble_eq_true rfl) hf (fun v6 h7 hf => ?_)
  refine v_if_eq ok 18 dX7_qFact_8 rfl hf (fun hf => ?_) (fun hf => ?_)
  ·
    refine v_aload_n ok 0 dX7_qFact_18 rfl rfl ?_
    refine v_cVv ok (RX7, TX7, 117) cf_7.1 [] (F := fun a => X7_qSums a h7) (fun a h1 _ hv => M_X7_qSums ok.2.2.2.2.2.2.1 (d := 7) (Nat.le_refl _) hv) (by exact Nat.le_trans (by decide) hd) cw_X7_qSums q2258 q2260 qs90 dX7_qFact_19 [] rfl (Nat.le_of_ble_eq_true rfl) hf (fun h8 hf => ?_)
    refine v_aload_n ok 0 dX7_qFact_22 rfl rfl ?_
    refine v_gI ok fl_X7_257 (fun _ _ _ => rfl) dX7_qFact_23 hf (fun v9 hf => ?_)
    refine v_if_eq ok 30 dX7_qFact_26 rfl hf (fun hf => ?_) (fun hf => ?_)
    ·
      refine v_aload_n ok 0 dX7_qFact_30 rfl rfl ?_
      refine v_cVi ok (RX7, TX7, 117) cf_7.1 [] (F := fun a => X7_look a h8) (fun a v h1 _ hv => M_X7_look ok.2.2.2.2.2.2.1 (d := 1) (Nat.le_refl _) hv) (by exact Nat.le_trans (by decide) hd) cw_X7_look q2169 q2171 qs70 dX7_qFact_31 [] rfl (Nat.le_of_ble_eq_true rfl) hf (fun v10 h11 hf => ?_)
      refine v_istore_n ok 1 dX7_qFact_34 rfl (by decide) ?_
      refine v_iload_n ok 1 dX7_qFact_35 rfl rfl ?_
      refine v_bipush ok 60 dX7_qFact_36 rfl ?_
      refine v_icmp_eq ok 63 dX7_qFact_38 rfl hf (fun hf => ?_) (fun hf => ?_)
      ·
        exact W_X7_qFact_63 ok hr hd hf hk ⟨rfl, rfl, trivial⟩
      ·
        refine v_iload_n ok 1 dX7_qFact_41 rfl rfl ?_
        refine v_bipush ok 62 dX7_qFact_42 rfl ?_
        refine v_icmp_eq ok 63 dX7_qFact_44 rfl hf (fun hf => ?_) (fun hf => ?_)
        ·
          exact W_X7_qFact_63 ok hr hd hf hk ⟨rfl, rfl, trivial⟩
        ·
          refine v_iload_n ok 1 dX7_qFact_47 rfl rfl ?_
          refine v_bipush ok 61 dX7_qFact_48 rfl ?_
          refine v_icmp_eq ok 63 dX7_qFact_50 rfl hf (fun hf => ?_) (fun hf => ?_)
          ·
            exact W_X7_qFact_63 ok hr hd hf hk ⟨rfl, rfl, trivial⟩
          ·
            refine v_aload_n ok 0 dX7_qFact_53 rfl rfl ?_
            refine v_iconst ok 1 dX7_qFact_54 rfl ?_
            refine v_aload_n ok 0 dX7_qFact_55 rfl rfl ?_
            refine v_gI ok fl_X7_263 (fun _ _ _ => rfl) dX7_qFact_56 hf (fun v12 hf => ?_)
            refine v_cVv ok (RX7, TX7, 117) cf_7.1 [vi 1, vi v12] (F := fun a => X7_fail a 1 v12 h11) (fun a h1 _ hv => M_X7_fail ok.2.2.2.2.2.2.1 (d := 1) (Nat.le_refl _) hv) (by exact Nat.le_trans (by decide) hd) cw_X7_fail q2177 q2179 qs72 dX7_qFact_59 [] rfl (Nat.le_of_ble_eq_true rfl) hf (fun h13 hf => ?_)
            exact v_vret ok hr (by cases hf; exact hk) dX7_qFact_62
    ·
      exact v_vret ok hr (by cases hf; exact hk) dX7_qFact_29
  ·
    refine v_aload_n ok 0 dX7_qFact_11 rfl rfl ?_
    refine v_bipush ok 13 dX7_qFact_12 rfl ?_
    refine v_cVv ok (RX7, TX7, 117) cf_7.1 [vi 13] (F := fun a => X7_qCode a 13 h7) (fun a h1 _ hv => M_X7_qCode ok.2.2.2.2.2.2.1 (d := 1) (Nat.le_refl _) hv) (by exact Nat.le_trans (by decide) hd) cw_X7_qCode q2254 q2256 qs89 dX7_qFact_14 [] rfl (Nat.le_of_ble_eq_true rfl) hf (fun h14 hf => ?_)
    exact v_vret ok hr (by cases hf; exact hk) dX7_qFact_17
theorem M_X7_qFact {G : GT} {l : Launch} (hG : Glob G) {d : Nat} (hd : 8 ≤ d) {a0 : Nat} {h : AH} {h' : AH} (hf : X7_qFact a0 h = some h') : MM G l yX7_qFact cX7_qFact 2 none d [vr (some a0)] h none h' := by
  refine mm_of hG (plainFor_of_name (by decide)) (Nat.le_of_ble_eq_true rfl) (fun X hX ok hr hnm => ?_)
  subst hX
  exact W_X7_qFact ok hr hd hf rfl ⟨rfl, trivial⟩
theorem cw_X7_qHasSquare : CW yX7_qHasSquare cX7_qHasSquare 2 (Option.some Jvm.ClassFile.FieldType.boolean) 0 := ⟨q2328, q185, ⟨by decide, by decide⟩, by decide +kernel, by decide⟩
def pkX7_qHasSquare_2 (G : GT) (X : CX) (h0 : AH) (Q : State → Prop) (a0 : Nat) (o : ((Int32 × AH) ⊕ (Int32 × AH))) : Prop := match o with
  | .inl s => ∀ lv : List (Nat × AV), lle lv [(0, vr (some a0)), (1, vi s.1)] → V G X 2 h0 Q s.2 2 lv []
  | .inr z => Q = QM G X h0 (some (vi z.1)) z.2
theorem W_X7_qHasSquare_2b {G : GT} {X : CX} {d : Nat} {h0 : AH} {Q : State → Prop} (ok : Ok G X RX7 cX7_qHasSquare 2 d h0) (hr : (cxm X).sig.returnType = (Option.some Jvm.ClassFile.FieldType.boolean)) (hd : 1 ≤ d) {a0 : Nat} {x1 : Int32} {h : AH} {z : ((Int32 × AH) ⊕ (Int32 × AH))} (hf : X7_qHasSquare_2b  a0 x1 h = some z) (hk : pkX7_qHasSquare_2 G X h0 Q a0 z) {lv : List (Nat × AV)} (hl : lle lv [(0, vr (some a0)), (1, vi x1)]) : V G X 2 h0 Q h 2 lv [] := by
  refine V.sub hl ?_
  unfold X7_qHasSquare_2b at hf
  refine v_iload_n ok 1 dX7_qHasSquare_2 rfl rfl ?_
  refine v_aload_n ok 0 dX7_qHasSquare_3 rfl rfl ?_
  refine v_gI ok fl_X7_347 (fun _ _ _ => rfl) dX7_qHasSquare_4 hf (fun v1 hf => ?_)
  refine v_icmp_ge ok 29 dX7_qHasSquare_7 rfl hf (fun hf => ?_) (fun hf => ?_)
  ·
    refine v_iconst ok 0 dX7_qHasSquare_29 rfl ?_
    exact v_zretL ok hr (by decide) (by decide) (by cases hf; exact hk) dX7_qHasSquare_30
  ·
    refine v_aload_n ok 0 dX7_qHasSquare_10 rfl rfl ?_
    refine v_gR ok fl_X7_244 (by first | exact Or.inl ⟨_, rfl⟩ | exact Or.inr ⟨_, rfl⟩) dX7_qHasSquare_11 hf (fun v2 hf => ?_)
    refine v_iload_n ok 1 dX7_qHasSquare_14 rfl rfl ?_
    refine v_iald ok rfl dX7_qHasSquare_15 hf (fun v3 hf => ?_)
    refine v_bipush ok 25 dX7_qHasSquare_16 rfl ?_
    refine v_icmp_ne ok 23 dX7_qHasSquare_18 rfl hf (fun hf => ?_) (fun hf => ?_)
    ·
      refine v_iinc ok x1 (x1 + 1) dX7_qHasSquare_23 rfl rfl (by decide) ?_
      refine v_goto ok 2 dX7_qHasSquare_26 rfl ?_
      cases hf; exact hk _ ⟨rfl, rfl, trivial⟩
    ·
      refine v_iconst ok 1 dX7_qHasSquare_21 rfl ?_
      exact v_zretL ok hr (by decide) (by decide) (by cases hf; exact hk) dX7_qHasSquare_22
theorem W_X7_qHasSquare_2 {G : GT} {X : CX} {d : Nat} {h0 : AH} {Q : State → Prop} (ok : Ok G X RX7 cX7_qHasSquare 2 d h0) (hr : (cxm X).sig.returnType = (Option.some Jvm.ClassFile.FieldType.boolean)) (hd : 1 ≤ d) {a0 : Nat} {x1 : Int32} {h : AH} {z : (Int32 × AH)} (hf : X7_qHasSquare_2  a0 x1 h = some z) (hk : Q = QM G X h0 (some (vi z.1)) z.2) {lv : List (Nat × AV)} (hl : lle lv [(0, vr (some a0)), (1, vi x1)]) : V G X 2 h0 Q h 2 lv [] := by
  unfold X7_qHasSquare_2 at hf
  exact loopC_walk (Wh := fun s : Int32 × AH => ∀ lv : List (Nat × AV), lle lv [(0, vr (some a0)), (1, vi s.1)] → V G X 2 h0 Q s.2 2 lv []) (PK := fun z => Q = QM G X h0 (some (vi z.1)) z.2) (fun s o hf hk lv hl => W_X7_qHasSquare_2b ok hr hd hf (by cases o <;> exact hk) hl) _ z hf hk lv hl
theorem W_X7_qHasSquare {G : GT} {X : CX} {d : Nat} {h0 : AH} {Q : State → Prop} (ok : Ok G X RX7 cX7_qHasSquare 2 d h0) (hr : (cxm X).sig.returnType = (Option.some Jvm.ClassFile.FieldType.boolean)) (hd : 1 ≤ d) {a0 : Nat} {h : AH} {z : (Int32 × AH)} (hf : X7_qHasSquare a0 h = some z) (hk : Q = QM G X h0 (some (vi z.1)) z.2) {lv : List (Nat × AV)} (hl : lle lv [(0, vr (some a0))]) : V G X 2 h0 Q h 0 lv [] := by
  refine V.sub hl ?_
  unfold X7_qHasSquare at hf
  refine v_iconst ok 0 dX7_qHasSquare_0 rfl ?_
  refine v_istore_n ok 1 dX7_qHasSquare_1 rfl (by decide) ?_
  exact W_X7_qHasSquare_2 ok hr hd hf hk ⟨rfl, rfl, trivial⟩
theorem M_X7_qHasSquare {G : GT} {l : Launch} (hG : Glob G) {d : Nat} (hd : 1 ≤ d) {a0 : Nat} {h : AH} {v : Int32} {h' : AH} (hf : X7_qHasSquare a0 h = some (v, h')) : MM G l yX7_qHasSquare cX7_qHasSquare 2 (Option.some Jvm.ClassFile.FieldType.boolean) d [vr (some a0)] h (some (vi v)) h' := by
  refine mm_of hG (plainFor_of_name (by decide)) (Nat.le_of_ble_eq_true rfl) (fun X hX ok hr hnm => ?_)
  subst hX
  exact W_X7_qHasSquare ok hr hd hf rfl ⟨rfl, trivial⟩
theorem cw_X7_qGoesOnTest : CW yX7_qGoesOnTest cX7_qGoesOnTest 1 (Option.some Jvm.ClassFile.FieldType.boolean) 0 := ⟨q2324, q185, ⟨by decide, by decide⟩, by decide +kernel, by decide⟩
def pkX7_qGoesOnTest_87 (G : GT) (X : CX) (h0 : AH) (Q : State → Prop) (a0 : Nat) (o : ((AH) ⊕ (Int32 × AH))) : Prop := match o with
  | .inl s => ∀ lv : List (Nat × AV), lle lv [(0, vr (some a0))] → V G X 1 h0 Q s 87 lv []
  | .inr z => Q = QM G X h0 (some (vi z.1)) z.2
def pkX7_qGoesOnTest_137 (G : GT) (X : CX) (h0 : AH) (Q : State → Prop) (a0 : Nat) (o : ((AH) ⊕ (Int32 × AH))) : Prop := match o with
  | .inl s => ∀ lv : List (Nat × AV), lle lv [(0, vr (some a0))] → V G X 1 h0 Q s 137 lv []
  | .inr z => Q = QM G X h0 (some (vi z.1)) z.2
def pkX7_qGoesOnTest_0 (G : GT) (X : CX) (h0 : AH) (Q : State → Prop) (a0 : Nat) (o : ((AH) ⊕ (Int32 × AH))) : Prop := match o with
  | .inl s => ∀ lv : List (Nat × AV), lle lv [(0, vr (some a0))] → V G X 1 h0 Q s 0 lv []
  | .inr z => Q = QM G X h0 (some (vi z.1)) z.2
def pkX7_qGoesOnTest_33 (G : GT) (X : CX) (h0 : AH) (Q : State → Prop) (a0 : Nat) (o : ((AH) ⊕ ((AH) ⊕ (Int32 × AH)))) : Prop := match o with
  | .inl s => ∀ lv : List (Nat × AV), lle lv [(0, vr (some a0))] → V G X 1 h0 Q s 33 lv []
  | .inr z => pkX7_qGoesOnTest_0 G X h0 Q a0 z
theorem W_X7_qGoesOnTest_49 {G : GT} {X : CX} {d : Nat} {h0 : AH} {Q : State → Prop} (ok : Ok G X RX7 cX7_qGoesOnTest 1 d h0) (hr : (cxm X).sig.returnType = (Option.some Jvm.ClassFile.FieldType.boolean)) (hd : 4 ≤ d) {a0 : Nat} {h : AH} {z : ((AH) ⊕ (Int32 × AH))} (hf : X7_qGoesOnTest_49 a0 h = some z) (hk : pkX7_qGoesOnTest_0 G X h0 Q a0 z) {lv : List (Nat × AV)} (hl : lle lv [(0, vr (some a0))]) : V G X 1 h0 Q h 49 lv [] := by
  refine V.sub hl ?_
  unfold X7_qGoesOnTest_49 at hf
  refine v_aload_n ok 0 dX7_qGoesOnTest_49 rfl rfl ?_
  refine v_dup ok dX7_qGoesOnTest_50 rfl ?_
  refine v_gI ok fl_X7_347 (fun _ _ _ => rfl) dX7_qGoesOnTest_51 hf (fun v1 hf => ?_)
  refine v_iconst ok 1 dX7_qGoesOnTest_54 rfl ?_
  refine v_isub ok dX7_qGoesOnTest_55 ?_
  refine v_pI ok fl_X7_347 ⟨fun _ _ _ => rfl, rfl⟩ (FN.of cf_7.1 rfl) dX7_qGoesOnTest_56 hf (fun h2 hf => ?_)
  refine v_aload_n ok 0 dX7_qGoesOnTest_59 rfl rfl ?_
  refine v_dup ok dX7_qGoesOnTest_60 rfl ?_
  refine v_gI ok fl_X7_350 (fun _ _ _ => rfl) dX7_qGoesOnTest_61 hf (fun v3 hf => ?_)
  refine v_iconst ok 1 dX7_qGoesOnTest_64 rfl ?_
  refine v_isub ok dX7_qGoesOnTest_65 ?_
  refine v_pI ok fl_X7_350 ⟨fun _ _ _ => rfl, rfl⟩ (FN.of cf_7.1 rfl) dX7_qGoesOnTest_66 hf (fun h4 hf => ?_)
  refine v_aload_n ok 0 dX7_qGoesOnTest_69 rfl rfl ?_
  refine v_cVv ok (RX7, TX7, 117) cf_7.1 [] (F := fun a => X7_qDropsNots a h4) (fun a h1 _ hv => M_X7_qDropsNots ok.2.2.2.2.2.2.1 (d := 3) (Nat.le_refl _) hv) (by exact Nat.le_trans (by decide) hd) cw_X7_qDropsNots q2317 q2319 qs104 dX7_qGoesOnTest_70 [] rfl (Nat.le_of_ble_eq_true rfl) hf (fun h5 hf => ?_)
  refine v_goto ok 0 dX7_qGoesOnTest_73 rfl ?_
  cases hf; exact hk _ ⟨rfl, trivial⟩
theorem W_X7_qGoesOnTest_33b {G : GT} {X : CX} {d : Nat} {h0 : AH} {Q : State → Prop} (ok : Ok G X RX7 cX7_qGoesOnTest 1 d h0) (hr : (cxm X).sig.returnType = (Option.some Jvm.ClassFile.FieldType.boolean)) (hd : 4 ≤ d) {a0 : Nat} {h : AH} {z : ((AH) ⊕ ((AH) ⊕ (Int32 × AH)))} (hf : X7_qGoesOnTest_33b  a0  h = some z) (hk : pkX7_qGoesOnTest_33 G X h0 Q a0 z) {lv : List (Nat × AV)} (hl : lle lv [(0, vr (some a0))]) : V G X 1 h0 Q h 33 lv [] := by
  refine V.sub hl ?_
  unfold X7_qGoesOnTest_33b at hf
  refine v_aload_n ok 0 dX7_qGoesOnTest_33 rfl rfl ?_
  refine v_bipush ok 25 dX7_qGoesOnTest_34 rfl ?_
  refine v_cVi ok (RX7, TX7, 117) cf_7.1 [vi 25] (F := fun a => X7_qIsOn a 25 h) (fun a v h1 _ hv => M_X7_qIsOn ok.2.2.2.2.2.2.1 (d := 1) (Nat.le_refl _) hv) (by exact Nat.le_trans (by decide) hd) cw_X7_qIsOn q2313 q2315 qs103 dX7_qGoesOnTest_36 [] rfl (Nat.le_of_ble_eq_true rfl) hf (fun v6 h7 hf => ?_)
  refine v_if_ne ok 49 dX7_qGoesOnTest_39 rfl hf (fun hf => ?_) (fun hf => ?_)
  ·
    obtain ⟨o, ho, hz⟩ := ob hf
    cases hz; exact W_X7_qGoesOnTest_49 ok hr hd ho hk ⟨rfl, trivial⟩
  ·
    refine v_aload_n ok 0 dX7_qGoesOnTest_42 rfl rfl ?_
    refine v_cVv ok (RX7, TX7, 117) cf_7.1 [] (F := fun a => X7_qDrops a h7) (fun a h1 _ hv => M_X7_qDrops ok.2.2.2.2.2.2.1 (d := 2) (Nat.le_refl _) hv) (by exact Nat.le_trans (by decide) hd) cw_X7_qDrops q2294 q2296 qs99 dX7_qGoesOnTest_43 [] rfl (Nat.le_of_ble_eq_true rfl) hf (fun h8 hf => ?_)
    refine v_goto ok 33 dX7_qGoesOnTest_46 rfl ?_
    cases hf; exact hk _ ⟨rfl, trivial⟩
theorem W_X7_qGoesOnTest_33 {G : GT} {X : CX} {d : Nat} {h0 : AH} {Q : State → Prop} (ok : Ok G X RX7 cX7_qGoesOnTest 1 d h0) (hr : (cxm X).sig.returnType = (Option.some Jvm.ClassFile.FieldType.boolean)) (hd : 4 ≤ d) {a0 : Nat} {h : AH} {z : ((AH) ⊕ (Int32 × AH))} (hf : X7_qGoesOnTest_33  a0 h = some z) (hk : pkX7_qGoesOnTest_0 G X h0 Q a0 z) {lv : List (Nat × AV)} (hl : lle lv [(0, vr (some a0))]) : V G X 1 h0 Q h 33 lv [] := by
  unfold X7_qGoesOnTest_33 at hf
  exact loopC_walk (Wh := fun s : AH => ∀ lv : List (Nat × AV), lle lv [(0, vr (some a0))] → V G X 1 h0 Q s 33 lv []) (PK := fun z => pkX7_qGoesOnTest_0 G X h0 Q a0 z) (fun s o hf hk lv hl => W_X7_qGoesOnTest_33b ok hr hd hf (by cases o <;> exact hk) hl) _ z hf hk lv hl
theorem W_X7_qGoesOnTest_103 {G : GT} {X : CX} {d : Nat} {h0 : AH} {Q : State → Prop} (ok : Ok G X RX7 cX7_qGoesOnTest 1 d h0) (hr : (cxm X).sig.returnType = (Option.some Jvm.ClassFile.FieldType.boolean)) (hd : 4 ≤ d) {a0 : Nat} {h : AH} {z : (Int32 × AH)} (hf : X7_qGoesOnTest_103 a0 h = some z) (hk : Q = QM G X h0 (some (vi z.1)) z.2) {lv : List (Nat × AV)} (hl : lle lv [(0, vr (some a0))]) : V G X 1 h0 Q h 103 lv [] := by
  refine V.sub hl ?_
  unfold X7_qGoesOnTest_103 at hf
  refine v_aload_n ok 0 dX7_qGoesOnTest_103 rfl rfl ?_
  refine v_gR ok fl_X7_244 (by first | exact Or.inl ⟨_, rfl⟩ | exact Or.inr ⟨_, rfl⟩) dX7_qGoesOnTest_104 hf (fun v9 hf => ?_)
  refine v_aload_n ok 0 dX7_qGoesOnTest_107 rfl rfl ?_
  refine v_gI ok fl_X7_347 (fun _ _ _ => rfl) dX7_qGoesOnTest_108 hf (fun v10 hf => ?_)
  refine v_bipush ok 10 dX7_qGoesOnTest_111 rfl ?_
  refine v_iast ok rfl dX7_qGoesOnTest_113 hf (fun h11 hf => ?_)
  refine v_aload_n ok 0 dX7_qGoesOnTest_114 rfl rfl ?_
  refine v_dup ok dX7_qGoesOnTest_115 rfl ?_
  refine v_gI ok fl_X7_347 (fun _ _ _ => rfl) dX7_qGoesOnTest_116 hf (fun v12 hf => ?_)
  refine v_iconst ok 1 dX7_qGoesOnTest_119 rfl ?_
  refine v_iadd ok dX7_qGoesOnTest_120 ?_
  refine v_pI ok fl_X7_347 ⟨fun _ _ _ => rfl, rfl⟩ (FN.of cf_7.1 rfl) dX7_qGoesOnTest_121 hf (fun h13 hf => ?_)
  refine v_iconst ok 1 dX7_qGoesOnTest_124 rfl ?_
  exact v_zretL ok hr (by decide) (by decide) (by cases hf; exact hk) dX7_qGoesOnTest_125
theorem W_X7_qGoesOnTest_87b {G : GT} {X : CX} {d : Nat} {h0 : AH} {Q : State → Prop} (ok : Ok G X RX7 cX7_qGoesOnTest 1 d h0) (hr : (cxm X).sig.returnType = (Option.some Jvm.ClassFile.FieldType.boolean)) (hd : 4 ≤ d) {a0 : Nat} {h : AH} {z : ((AH) ⊕ (Int32 × AH))} (hf : X7_qGoesOnTest_87b  a0  h = some z) (hk : pkX7_qGoesOnTest_87 G X h0 Q a0 z) {lv : List (Nat × AV)} (hl : lle lv [(0, vr (some a0))]) : V G X 1 h0 Q h 87 lv [] := by
  refine V.sub hl ?_
  unfold X7_qGoesOnTest_87b at hf
  refine v_aload_n ok 0 dX7_qGoesOnTest_87 rfl rfl ?_
  refine v_bipush ok 10 dX7_qGoesOnTest_88 rfl ?_
  refine v_cVi ok (RX7, TX7, 117) cf_7.1 [vi 10] (F := fun a => X7_qIsOn a 10 h) (fun a v h1 _ hv => M_X7_qIsOn ok.2.2.2.2.2.2.1 (d := 1) (Nat.le_refl _) hv) (by exact Nat.le_trans (by decide) hd) cw_X7_qIsOn q2313 q2315 qs103 dX7_qGoesOnTest_90 [] rfl (Nat.le_of_ble_eq_true rfl) hf (fun v14 h15 hf => ?_)
  refine v_if_eq ok 103 dX7_qGoesOnTest_93 rfl hf (fun hf => ?_) (fun hf => ?_)
  ·
    obtain ⟨o, ho, hz⟩ := ob hf
    cases hz; exact W_X7_qGoesOnTest_103 ok hr hd ho hk ⟨rfl, trivial⟩
  ·
    refine v_aload_n ok 0 dX7_qGoesOnTest_96 rfl rfl ?_
    refine v_cVv ok (RX7, TX7, 117) cf_7.1 [] (F := fun a => X7_qDrops a h15) (fun a h1 _ hv => M_X7_qDrops ok.2.2.2.2.2.2.1 (d := 2) (Nat.le_refl _) hv) (by exact Nat.le_trans (by decide) hd) cw_X7_qDrops q2294 q2296 qs99 dX7_qGoesOnTest_97 [] rfl (Nat.le_of_ble_eq_true rfl) hf (fun h16 hf => ?_)
    refine v_goto ok 87 dX7_qGoesOnTest_100 rfl ?_
    cases hf; exact hk _ ⟨rfl, trivial⟩
theorem W_X7_qGoesOnTest_87 {G : GT} {X : CX} {d : Nat} {h0 : AH} {Q : State → Prop} (ok : Ok G X RX7 cX7_qGoesOnTest 1 d h0) (hr : (cxm X).sig.returnType = (Option.some Jvm.ClassFile.FieldType.boolean)) (hd : 4 ≤ d) {a0 : Nat} {h : AH} {z : (Int32 × AH)} (hf : X7_qGoesOnTest_87  a0 h = some z) (hk : Q = QM G X h0 (some (vi z.1)) z.2) {lv : List (Nat × AV)} (hl : lle lv [(0, vr (some a0))]) : V G X 1 h0 Q h 87 lv [] := by
  unfold X7_qGoesOnTest_87 at hf
  exact loopC_walk (Wh := fun s : AH => ∀ lv : List (Nat × AV), lle lv [(0, vr (some a0))] → V G X 1 h0 Q s 87 lv []) (PK := fun z => Q = QM G X h0 (some (vi z.1)) z.2) (fun s o hf hk lv hl => W_X7_qGoesOnTest_87b ok hr hd hf (by cases o <;> exact hk) hl) _ z hf hk lv hl
theorem W_X7_qGoesOnTest_155 {G : GT} {X : CX} {d : Nat} {h0 : AH} {Q : State → Prop} (ok : Ok G X RX7 cX7_qGoesOnTest 1 d h0) (hr : (cxm X).sig.returnType = (Option.some Jvm.ClassFile.FieldType.boolean)) (hd : 4 ≤ d) {a0 : Nat} {h : AH} {z : ((AH) ⊕ (Int32 × AH))} (hf : X7_qGoesOnTest_155 a0 h = some z) (hk : pkX7_qGoesOnTest_137 G X h0 Q a0 z) {lv : List (Nat × AV)} (hl : lle lv [(0, vr (some a0))]) : V G X 1 h0 Q h 155 lv [] := by
  refine V.sub hl ?_
  unfold X7_qGoesOnTest_155 at hf
  refine v_aload_n ok 0 dX7_qGoesOnTest_155 rfl rfl ?_
  refine v_cVv ok (RX7, TX7, 117) cf_7.1 [] (F := fun a => X7_qDrops a h) (fun a h1 _ hv => M_X7_qDrops ok.2.2.2.2.2.2.1 (d := 2) (Nat.le_refl _) hv) (by exact Nat.le_trans (by decide) hd) cw_X7_qDrops q2294 q2296 qs99 dX7_qGoesOnTest_156 [] rfl (Nat.le_of_ble_eq_true rfl) hf (fun h17 hf => ?_)
  refine v_goto ok 137 dX7_qGoesOnTest_159 rfl ?_
  cases hf; exact hk _ ⟨rfl, trivial⟩
theorem W_X7_qGoesOnTest_162 {G : GT} {X : CX} {d : Nat} {h0 : AH} {Q : State → Prop} (ok : Ok G X RX7 cX7_qGoesOnTest 1 d h0) (hr : (cxm X).sig.returnType = (Option.some Jvm.ClassFile.FieldType.boolean)) (hd : 4 ≤ d) {a0 : Nat} {h : AH} {z : (Int32 × AH)} (hf : X7_qGoesOnTest_162 a0 h = some z) (hk : Q = QM G X h0 (some (vi z.1)) z.2) {lv : List (Nat × AV)} (hl : lle lv [(0, vr (some a0))]) : V G X 1 h0 Q h 162 lv [] := by
  refine V.sub hl ?_
  unfold X7_qGoesOnTest_162 at hf
  refine v_aload_n ok 0 dX7_qGoesOnTest_162 rfl rfl ?_
  refine v_gR ok fl_X7_244 (by first | exact Or.inl ⟨_, rfl⟩ | exact Or.inr ⟨_, rfl⟩) dX7_qGoesOnTest_163 hf (fun v18 hf => ?_)
  refine v_aload_n ok 0 dX7_qGoesOnTest_166 rfl rfl ?_
  refine v_gI ok fl_X7_347 (fun _ _ _ => rfl) dX7_qGoesOnTest_167 hf (fun v19 hf => ?_)
  refine v_bipush ok 11 dX7_qGoesOnTest_170 rfl ?_
  refine v_iast ok rfl dX7_qGoesOnTest_172 hf (fun h20 hf => ?_)
  refine v_aload_n ok 0 dX7_qGoesOnTest_173 rfl rfl ?_
  refine v_dup ok dX7_qGoesOnTest_174 rfl ?_
  refine v_gI ok fl_X7_347 (fun _ _ _ => rfl) dX7_qGoesOnTest_175 hf (fun v21 hf => ?_)
  refine v_iconst ok 1 dX7_qGoesOnTest_178 rfl ?_
  refine v_iadd ok dX7_qGoesOnTest_179 ?_
  refine v_pI ok fl_X7_347 ⟨fun _ _ _ => rfl, rfl⟩ (FN.of cf_7.1 rfl) dX7_qGoesOnTest_180 hf (fun h22 hf => ?_)
  refine v_iconst ok 1 dX7_qGoesOnTest_183 rfl ?_
  exact v_zretL ok hr (by decide) (by decide) (by cases hf; exact hk) dX7_qGoesOnTest_184
theorem W_X7_qGoesOnTest_137b {G : GT} {X : CX} {d : Nat} {h0 : AH} {Q : State → Prop} (ok : Ok G X RX7 cX7_qGoesOnTest 1 d h0) (hr : (cxm X).sig.returnType = (Option.some Jvm.ClassFile.FieldType.boolean)) (hd : 4 ≤ d) {a0 : Nat} {h : AH} {z : ((AH) ⊕ (Int32 × AH))} (hf : X7_qGoesOnTest_137b  a0  h = some z) (hk : pkX7_qGoesOnTest_137 G X h0 Q a0 z) {lv : List (Nat × AV)} (hl : lle lv [(0, vr (some a0))]) : V G X 1 h0 Q h 137 lv [] := by
  refine V.sub hl ?_
  unfold X7_qGoesOnTest_137b at hf
  refine v_aload_n ok 0 dX7_qGoesOnTest_137 rfl rfl ?_
  refine v_bipush ok 10 dX7_qGoesOnTest_138 rfl ?_
  refine v_cVi ok (RX7, TX7, 117) cf_7.1 [vi 10] (F := fun a => X7_qIsOn a 10 h) (fun a v h1 _ hv => M_X7_qIsOn ok.2.2.2.2.2.2.1 (d := 1) (Nat.le_refl _) hv) (by exact Nat.le_trans (by decide) hd) cw_X7_qIsOn q2313 q2315 qs103 dX7_qGoesOnTest_140 [] rfl (Nat.le_of_ble_eq_true rfl) hf (fun v23 h24 hf => ?_)
  refine v_if_ne ok 155 dX7_qGoesOnTest_143 rfl hf (fun hf => ?_) (fun hf => ?_)
  ·
    exact W_X7_qGoesOnTest_155 ok hr hd hf hk ⟨rfl, trivial⟩
  ·
    refine v_aload_n ok 0 dX7_qGoesOnTest_146 rfl rfl ?_
    refine v_bipush ok 11 dX7_qGoesOnTest_147 rfl ?_
    refine v_cVi ok (RX7, TX7, 117) cf_7.1 [vi 11] (F := fun a => X7_qIsOn a 11 h24) (fun a v h1 _ hv => M_X7_qIsOn ok.2.2.2.2.2.2.1 (d := 1) (Nat.le_refl _) hv) (by exact Nat.le_trans (by decide) hd) cw_X7_qIsOn q2313 q2315 qs103 dX7_qGoesOnTest_149 [] rfl (Nat.le_of_ble_eq_true rfl) hf (fun v25 h26 hf => ?_)
    refine v_if_eq ok 162 dX7_qGoesOnTest_152 rfl hf (fun hf => ?_) (fun hf => ?_)
    ·
      obtain ⟨o, ho, hz⟩ := ob hf
      cases hz; exact W_X7_qGoesOnTest_162 ok hr hd ho hk ⟨rfl, trivial⟩
    ·
      exact W_X7_qGoesOnTest_155 ok hr hd hf hk ⟨rfl, trivial⟩
theorem W_X7_qGoesOnTest_137 {G : GT} {X : CX} {d : Nat} {h0 : AH} {Q : State → Prop} (ok : Ok G X RX7 cX7_qGoesOnTest 1 d h0) (hr : (cxm X).sig.returnType = (Option.some Jvm.ClassFile.FieldType.boolean)) (hd : 4 ≤ d) {a0 : Nat} {h : AH} {z : (Int32 × AH)} (hf : X7_qGoesOnTest_137  a0 h = some z) (hk : Q = QM G X h0 (some (vi z.1)) z.2) {lv : List (Nat × AV)} (hl : lle lv [(0, vr (some a0))]) : V G X 1 h0 Q h 137 lv [] := by
  unfold X7_qGoesOnTest_137 at hf
  exact loopC_walk (Wh := fun s : AH => ∀ lv : List (Nat × AV), lle lv [(0, vr (some a0))] → V G X 1 h0 Q s 137 lv []) (PK := fun z => Q = QM G X h0 (some (vi z.1)) z.2) (fun s o hf hk lv hl => W_X7_qGoesOnTest_137b ok hr hd hf (by cases o <;> exact hk) hl) _ z hf hk lv hl
theorem W_X7_qGoesOnTest_76 {G : GT} {X : CX} {d : Nat} {h0 : AH} {Q : State → Prop} (ok : Ok G X RX7 cX7_qGoesOnTest 1 d h0) (hr : (cxm X).sig.returnType = (Option.some Jvm.ClassFile.FieldType.boolean)) (hd : 4 ≤ d) {a0 : Nat} {h : AH} {z : (Int32 × AH)} (hf : X7_qGoesOnTest_76 a0 h = some z) (hk : Q = QM G X h0 (some (vi z.1)) z.2) {lv : List (Nat × AV)} (hl : lle lv [(0, vr (some a0))]) : V G X 1 h0 Q h 76 lv [] := by
  refine V.sub hl ?_
  unfold X7_qGoesOnTest_76 at hf
  refine v_aload_n ok 0 dX7_qGoesOnTest_76 rfl rfl ?_
  refine v_aload_n ok 0 dX7_qGoesOnTest_77 rfl rfl ?_
  refine v_gR ok fl_X7_190 (by first | exact Or.inl ⟨_, rfl⟩ | exact Or.inr ⟨_, rfl⟩) dX7_qGoesOnTest_78 hf (fun v27 hf => ?_)
  refine v_cVi ok (RX7, TX7, 117) cf_7.1 [vr v27] (F := fun a => X7_takes a v27 h) (fun a v h1 _ hv => M_X7_takes ok.2.2.2.2.2.2.1 (d := 3) (Nat.le_refl _) hv) (by exact Nat.le_trans (by decide) hd) cw_X7_takes q2181 q2183 qs73 dX7_qGoesOnTest_81 [] rfl (Nat.le_of_ble_eq_true rfl) hf (fun v28 h29 hf => ?_)
  refine v_if_eq ok 126 dX7_qGoesOnTest_84 rfl hf (fun hf => ?_) (fun hf => ?_)
  ·
    refine v_aload_n ok 0 dX7_qGoesOnTest_126 rfl rfl ?_
    refine v_aload_n ok 0 dX7_qGoesOnTest_127 rfl rfl ?_
    refine v_gR ok fl_X7_193 (by first | exact Or.inl ⟨_, rfl⟩ | exact Or.inr ⟨_, rfl⟩) dX7_qGoesOnTest_128 hf (fun v30 hf => ?_)
    refine v_cVi ok (RX7, TX7, 117) cf_7.1 [vr v30] (F := fun a => X7_takes a v30 h29) (fun a v h1 _ hv => M_X7_takes ok.2.2.2.2.2.2.1 (d := 3) (Nat.le_refl _) hv) (by exact Nat.le_trans (by decide) hd) cw_X7_takes q2181 q2183 qs73 dX7_qGoesOnTest_131 [] rfl (Nat.le_of_ble_eq_true rfl) hf (fun v31 h32 hf => ?_)
    refine v_if_eq ok 185 dX7_qGoesOnTest_134 rfl hf (fun hf => ?_) (fun hf => ?_)
    ·
      refine v_aload_n ok 0 dX7_qGoesOnTest_185 rfl rfl ?_
      refine v_gI ok fl_X7_257 (fun _ _ _ => rfl) dX7_qGoesOnTest_186 hf (fun v33 hf => ?_)
      refine v_if_ne ok 208 dX7_qGoesOnTest_189 rfl hf (fun hf => ?_) (fun hf => ?_)
      ·
        refine v_iconst ok 0 dX7_qGoesOnTest_208 rfl ?_
        exact v_zretL ok hr (by decide) (by decide) (by cases hf; exact hk) dX7_qGoesOnTest_209
      ·
        refine v_aload_n ok 0 dX7_qGoesOnTest_192 rfl rfl ?_
        refine v_cVi ok (RX7, TX7, 117) cf_7.1 [] (F := fun a => X7_qHasSquare a h32) (fun a v h1 _ hv => M_X7_qHasSquare ok.2.2.2.2.2.2.1 (d := 1) (Nat.le_refl _) hv) (by exact Nat.le_trans (by decide) hd) cw_X7_qHasSquare q2325 q2327 qs106 dX7_qGoesOnTest_193 [] rfl (Nat.le_of_ble_eq_true rfl) hf (fun v34 h35 hf => ?_)
        refine v_if_eq ok 208 dX7_qGoesOnTest_196 rfl hf (fun hf => ?_) (fun hf => ?_)
        ·
          refine v_iconst ok 0 dX7_qGoesOnTest_208 rfl ?_
          exact v_zretL ok hr (by decide) (by decide) (by cases hf; exact hk) dX7_qGoesOnTest_209
        ·
          refine v_aload_n ok 0 dX7_qGoesOnTest_199 rfl rfl ?_
          refine v_iconst ok 1 dX7_qGoesOnTest_200 rfl ?_
          refine v_aload_n ok 0 dX7_qGoesOnTest_201 rfl rfl ?_
          refine v_gI ok fl_X7_263 (fun _ _ _ => rfl) dX7_qGoesOnTest_202 hf (fun v36 hf => ?_)
          refine v_cVv ok (RX7, TX7, 117) cf_7.1 [vi 1, vi v36] (F := fun a => X7_fail a 1 v36 h35) (fun a h1 _ hv => M_X7_fail ok.2.2.2.2.2.2.1 (d := 1) (Nat.le_refl _) hv) (by exact Nat.le_trans (by decide) hd) cw_X7_fail q2177 q2179 qs72 dX7_qGoesOnTest_205 [] rfl (Nat.le_of_ble_eq_true rfl) hf (fun h37 hf => ?_)
          refine v_iconst ok 0 dX7_qGoesOnTest_208 rfl ?_
          exact v_zretL ok hr (by decide) (by decide) (by cases hf; exact hk) dX7_qGoesOnTest_209
    ·
      exact W_X7_qGoesOnTest_137 ok hr hd hf hk ⟨rfl, trivial⟩
  ·
    exact W_X7_qGoesOnTest_87 ok hr hd hf hk ⟨rfl, trivial⟩
theorem W_X7_qGoesOnTest_0b {G : GT} {X : CX} {d : Nat} {h0 : AH} {Q : State → Prop} (ok : Ok G X RX7 cX7_qGoesOnTest 1 d h0) (hr : (cxm X).sig.returnType = (Option.some Jvm.ClassFile.FieldType.boolean)) (hd : 4 ≤ d) {a0 : Nat} {h : AH} {z : ((AH) ⊕ (Int32 × AH))} (hf : X7_qGoesOnTest_0b  a0  h = some z) (hk : pkX7_qGoesOnTest_0 G X h0 Q a0 z) {lv : List (Nat × AV)} (hl : lle lv [(0, vr (some a0))]) : V G X 1 h0 Q h 0 lv [] := by
  refine V.sub hl ?_
  unfold X7_qGoesOnTest_0b at hf
  refine v_aload_n ok 0 dX7_qGoesOnTest_0 rfl rfl ?_
  refine v_gI ok fl_X7_257 (fun _ _ _ => rfl) dX7_qGoesOnTest_1 hf (fun v38 hf => ?_)
  refine v_if_ne ok 76 dX7_qGoesOnTest_4 rfl hf (fun hf => ?_) (fun hf => ?_)
  ·
    obtain ⟨o, ho, hz⟩ := ob hf
    cases hz; exact W_X7_qGoesOnTest_76 ok hr hd ho hk ⟨rfl, trivial⟩
  ·
    refine v_aload_n ok 0 dX7_qGoesOnTest_7 rfl rfl ?_
    refine v_cVi ok (RX7, TX7, 117) cf_7.1 [] (F := fun a => X7_look a h) (fun a v h1 _ hv => M_X7_look ok.2.2.2.2.2.2.1 (d := 1) (Nat.le_refl _) hv) (by exact Nat.le_trans (by decide) hd) cw_X7_look q2169 q2171 qs70 dX7_qGoesOnTest_8 [] rfl (Nat.le_of_ble_eq_true rfl) hf (fun v39 h40 hf => ?_)
    refine v_bipush ok 93 dX7_qGoesOnTest_11 rfl ?_
    refine v_icmp_ne ok 76 dX7_qGoesOnTest_13 rfl hf (fun hf => ?_) (fun hf => ?_)
    ·
      obtain ⟨o, ho, hz⟩ := ob hf
      cases hz; exact W_X7_qGoesOnTest_76 ok hr hd ho hk ⟨rfl, trivial⟩
    ·
      refine v_aload_n ok 0 dX7_qGoesOnTest_16 rfl rfl ?_
      refine v_cVi ok (RX7, TX7, 117) cf_7.1 [] (F := fun a => X7_qHasSquare a h40) (fun a v h1 _ hv => M_X7_qHasSquare ok.2.2.2.2.2.2.1 (d := 1) (Nat.le_refl _) hv) (by exact Nat.le_trans (by decide) hd) cw_X7_qHasSquare q2325 q2327 qs106 dX7_qGoesOnTest_17 [] rfl (Nat.le_of_ble_eq_true rfl) hf (fun v41 h42 hf => ?_)
      refine v_if_eq ok 76 dX7_qGoesOnTest_20 rfl hf (fun hf => ?_) (fun hf => ?_)
      ·
        obtain ⟨o, ho, hz⟩ := ob hf
        cases hz; exact W_X7_qGoesOnTest_76 ok hr hd ho hk ⟨rfl, trivial⟩
      ·
        refine v_aload_n ok 0 dX7_qGoesOnTest_23 rfl rfl ?_
        refine v_dup ok dX7_qGoesOnTest_24 rfl ?_
        refine v_gI ok fl_X7_263 (fun _ _ _ => rfl) dX7_qGoesOnTest_25 hf (fun v43 hf => ?_)
        refine v_iconst ok 1 dX7_qGoesOnTest_28 rfl ?_
        refine v_iadd ok dX7_qGoesOnTest_29 ?_
        refine v_pI ok fl_X7_263 ⟨fun _ _ _ => rfl, rfl⟩ (FN.of cf_7.1 rfl) dX7_qGoesOnTest_30 hf (fun h44 hf => ?_)
        exact W_X7_qGoesOnTest_33 ok hr hd hf hk ⟨rfl, trivial⟩
theorem W_X7_qGoesOnTest {G : GT} {X : CX} {d : Nat} {h0 : AH} {Q : State → Prop} (ok : Ok G X RX7 cX7_qGoesOnTest 1 d h0) (hr : (cxm X).sig.returnType = (Option.some Jvm.ClassFile.FieldType.boolean)) (hd : 4 ≤ d) {a0 : Nat} {h : AH} {z : (Int32 × AH)} (hf : X7_qGoesOnTest  a0 h = some z) (hk : Q = QM G X h0 (some (vi z.1)) z.2) {lv : List (Nat × AV)} (hl : lle lv [(0, vr (some a0))]) : V G X 1 h0 Q h 0 lv [] := by
  unfold X7_qGoesOnTest at hf
  exact loopC_walk (Wh := fun s : AH => ∀ lv : List (Nat × AV), lle lv [(0, vr (some a0))] → V G X 1 h0 Q s 0 lv []) (PK := fun z => Q = QM G X h0 (some (vi z.1)) z.2) (fun s o hf hk lv hl => W_X7_qGoesOnTest_0b ok hr hd hf (by cases o <;> exact hk) hl) _ z hf hk lv hl
theorem M_X7_qGoesOnTest {G : GT} {l : Launch} (hG : Glob G) {d : Nat} (hd : 4 ≤ d) {a0 : Nat} {h : AH} {v : Int32} {h' : AH} (hf : X7_qGoesOnTest a0 h = some (v, h')) : MM G l yX7_qGoesOnTest cX7_qGoesOnTest 1 (Option.some Jvm.ClassFile.FieldType.boolean) d [vr (some a0)] h (some (vi v)) h' := by
  refine mm_of hG (plainFor_of_name (by decide)) (Nat.le_of_ble_eq_true rfl) (fun X hX ok hr hnm => ?_)
  subst hX
  exact W_X7_qGoesOnTest ok hr hd hf rfl ⟨rfl, trivial⟩
theorem cw_X7_qTest : CW yX7_qTest cX7_qTest 3 none 0 := ⟨q2245, q185, ⟨by decide, by decide⟩, by decide +kernel, by decide⟩
def pkX7_qTest_110 (G : GT) (X : CX) (h0 : AH) (Q : State → Prop) (a0 : Nat) (o : ((AH) ⊕ (AH))) : Prop := match o with
  | .inl s => ∀ lv : List (Nat × AV), lle lv [(0, vr (some a0))] → V G X 3 h0 Q s 110 lv []
  | .inr z => Q = QM G X h0 none z
def pkX7_qTest_2 (G : GT) (X : CX) (h0 : AH) (Q : State → Prop) (a0 : Nat) (o : ((Int32 × AH) ⊕ (AH))) : Prop := match o with
  | .inl s => ∀ lv : List (Nat × AV), lle lv [(0, vr (some a0)), (1, vi s.1)] → V G X 3 h0 Q s.2 2 lv []
  | .inr z => Q = QM G X h0 none z
theorem W_X7_qTest_110b {G : GT} {X : CX} {d : Nat} {h0 : AH} {Q : State → Prop} (ok : Ok G X RX7 cX7_qTest 3 d h0) (hr : (cxm X).sig.returnType = none) (hd : 9 ≤ d) {a0 : Nat} {h : AH} {z : ((AH) ⊕ (AH))} (hf : X7_qTest_110b  a0  h = some z) (hk : pkX7_qTest_110 G X h0 Q a0 z) {lv : List (Nat × AV)} (hl : lle lv [(0, vr (some a0))]) : V G X 3 h0 Q h 110 lv [] := by
  refine V.sub hl ?_
  unfold X7_qTest_110b at hf
  refine v_aload_n ok 0 dX7_qTest_110 rfl rfl ?_
  refine v_gI ok fl_X7_257 (fun _ _ _ => rfl) dX7_qTest_111 hf (fun v1 hf => ?_)
  refine v_if_ne ok 131 dX7_qTest_114 rfl hf (fun hf => ?_) (fun hf => ?_)
  ·
    exact v_vret ok hr (by cases hf; exact hk) dX7_qTest_131
  ·
    refine v_aload_n ok 0 dX7_qTest_117 rfl rfl ?_
    refine v_gI ok fl_X7_347 (fun _ _ _ => rfl) dX7_qTest_118 hf (fun v2 hf => ?_)
    refine v_if_le ok 131 dX7_qTest_121 rfl hf (fun hf => ?_) (fun hf => ?_)
    ·
      exact v_vret ok hr (by cases hf; exact hk) dX7_qTest_131
    ·
      refine v_aload_n ok 0 dX7_qTest_124 rfl rfl ?_
      refine v_cVv ok (RX7, TX7, 117) cf_7.1 [] (F := fun a => X7_qDrops a h) (fun a h1 _ hv => M_X7_qDrops ok.2.2.2.2.2.2.1 (d := 2) (Nat.le_refl _) hv) (by exact Nat.le_trans (by decide) hd) cw_X7_qDrops q2294 q2296 qs99 dX7_qTest_125 [] rfl (Nat.le_of_ble_eq_true rfl) hf (fun h3 hf => ?_)
      refine v_goto ok 110 dX7_qTest_128 rfl ?_
      cases hf; exact hk _ ⟨rfl, trivial⟩
theorem W_X7_qTest_110 {G : GT} {X : CX} {d : Nat} {h0 : AH} {Q : State → Prop} (ok : Ok G X RX7 cX7_qTest 3 d h0) (hr : (cxm X).sig.returnType = none) (hd : 9 ≤ d) {a0 : Nat} {h : AH} {z : (AH)} (hf : X7_qTest_110  a0 h = some z) (hk : Q = QM G X h0 none z) {lv : List (Nat × AV)} (hl : lle lv [(0, vr (some a0))]) : V G X 3 h0 Q h 110 lv [] := by
  unfold X7_qTest_110 at hf
  exact loopC_walk (Wh := fun s : AH => ∀ lv : List (Nat × AV), lle lv [(0, vr (some a0))] → V G X 3 h0 Q s 110 lv []) (PK := fun z => Q = QM G X h0 none z) (fun s o hf hk lv hl => W_X7_qTest_110b ok hr hd hf (by cases o <;> exact hk) hl) _ z hf hk lv hl
theorem W_X7_qTest_2b {G : GT} {X : CX} {d : Nat} {h0 : AH} {Q : State → Prop} (ok : Ok G X RX7 cX7_qTest 3 d h0) (hr : (cxm X).sig.returnType = none) (hd : 9 ≤ d) {a0 : Nat} {x1 : Int32} {h : AH} {z : ((Int32 × AH) ⊕ (AH))} (hf : X7_qTest_2b  a0 x1 h = some z) (hk : pkX7_qTest_2 G X h0 Q a0 z) {lv : List (Nat × AV)} (hl : lle lv [(0, vr (some a0)), (1, vi x1)]) : V G X 3 h0 Q h 2 lv [] := by
  refine V.sub hl ?_
  unfold X7_qTest_2b at hf
  refine v_iload_n ok 1 dX7_qTest_2 rfl rfl ?_
  refine v_if_eq ok 110 dX7_qTest_3 rfl hf (fun hf => ?_) (fun hf => ?_)
  ·
    obtain ⟨o, ho, hz⟩ := ob hf
    cases hz; exact W_X7_qTest_110 ok hr hd ho hk ⟨rfl, trivial⟩
  ·
    refine v_aload_n ok 0 dX7_qTest_6 rfl rfl ?_
    refine v_gI ok fl_X7_257 (fun _ _ _ => rfl) dX7_qTest_7 hf (fun v4 hf => ?_)
    refine v_if_ne ok 110 dX7_qTest_10 rfl hf (fun hf => ?_) (fun hf => ?_)
    ·
      obtain ⟨o, ho, hz⟩ := ob hf
      cases hz; exact W_X7_qTest_110 ok hr hd ho hk ⟨rfl, trivial⟩
    ·
      refine v_aload_n ok 0 dX7_qTest_13 rfl rfl ?_
      refine v_cVi ok (RX7, TX7, 117) cf_7.1 [] (F := fun a => X7_look a h) (fun a v h1 _ hv => M_X7_look ok.2.2.2.2.2.2.1 (d := 1) (Nat.le_refl _) hv) (by exact Nat.le_trans (by decide) hd) cw_X7_look q2169 q2171 qs70 dX7_qTest_14 [] rfl (Nat.le_of_ble_eq_true rfl) hf (fun v5 h6 hf => ?_)
      refine v_istore_n ok 2 dX7_qTest_17 rfl (by decide) ?_
      refine v_iload_n ok 2 dX7_qTest_18 rfl rfl ?_
      refine v_bipush ok 91 dX7_qTest_19 rfl ?_
      refine v_icmp_ne ok 47 dX7_qTest_21 rfl hf (fun hf => ?_) (fun hf => ?_)
      ·
        refine v_aload_n ok 0 dX7_qTest_47 rfl rfl ?_
        refine v_aload_n ok 0 dX7_qTest_48 rfl rfl ?_
        refine v_gR ok fl_X7_187 (by first | exact Or.inl ⟨_, rfl⟩ | exact Or.inr ⟨_, rfl⟩) dX7_qTest_49 hf (fun v7 hf => ?_)
        refine v_cVi ok (RX7, TX7, 117) cf_7.1 [vr v7] (F := fun a => X7_isHere a v7 h6) (fun a v h1 _ hv => M_X7_isHere ok.2.2.2.2.2.2.1 (d := 2) (Nat.le_refl _) hv) (by exact Nat.le_trans (by decide) hd) cw_X7_isHere q2185 q2187 qs74 dX7_qTest_52 [] rfl (Nat.le_of_ble_eq_true rfl) hf (fun v8 h9 hf => ?_)
        refine v_if_eq ok 79 dX7_qTest_55 rfl hf (fun hf => ?_) (fun hf => ?_)
        ·
          refine v_aload_n ok 0 dX7_qTest_79 rfl rfl ?_
          refine v_cVv ok (RX7, TX7, 117) cf_7.1 [] (F := fun a => X7_qFact a h9) (fun a h1 _ hv => M_X7_qFact ok.2.2.2.2.2.2.1 (d := 8) (Nat.le_refl _) hv) (by exact Nat.le_trans (by decide) hd) cw_X7_qFact q2250 q2252 qs88 dX7_qTest_80 [] rfl (Nat.le_of_ble_eq_true rfl) hf (fun h10 hf => ?_)
          refine v_aload_n ok 0 dX7_qTest_83 rfl rfl ?_
          refine v_cVv ok (RX7, TX7, 117) cf_7.1 [] (F := fun a => X7_qDropsNots a h10) (fun a h1 _ hv => M_X7_qDropsNots ok.2.2.2.2.2.2.1 (d := 3) (Nat.le_refl _) hv) (by exact Nat.le_trans (by decide) hd) cw_X7_qDropsNots q2317 q2319 qs104 dX7_qTest_84 [] rfl (Nat.le_of_ble_eq_true rfl) hf (fun h11 hf => ?_)
          refine v_aload_n ok 0 dX7_qTest_87 rfl rfl ?_
          refine v_gI ok fl_X7_257 (fun _ _ _ => rfl) dX7_qTest_88 hf (fun v12 hf => ?_)
          refine v_if_ne ok 105 dX7_qTest_91 rfl hf (fun hf => ?_) (fun hf => ?_)
          ·
            refine v_iconst ok 0 dX7_qTest_105 rfl ?_
            refine v_istore_n ok 1 dX7_qTest_106 rfl (by decide) ?_
            refine v_goto ok 2 dX7_qTest_107 rfl ?_
            cases hf; exact hk _ ⟨rfl, rfl, trivial⟩
          ·
            refine v_aload_n ok 0 dX7_qTest_94 rfl rfl ?_
            refine v_cVi ok (RX7, TX7, 117) cf_7.1 [] (F := fun a => X7_qGoesOnTest a h11) (fun a v h1 _ hv => M_X7_qGoesOnTest ok.2.2.2.2.2.2.1 (d := 4) (Nat.le_refl _) hv) (by exact Nat.le_trans (by decide) hd) cw_X7_qGoesOnTest q2321 q2323 qs105 dX7_qTest_95 [] rfl (Nat.le_of_ble_eq_true rfl) hf (fun v13 h14 hf => ?_)
            refine v_if_eq ok 105 dX7_qTest_98 rfl hf (fun hf => ?_) (fun hf => ?_)
            ·
              refine v_iconst ok 0 dX7_qTest_105 rfl ?_
              refine v_istore_n ok 1 dX7_qTest_106 rfl (by decide) ?_
              refine v_goto ok 2 dX7_qTest_107 rfl ?_
              cases hf; exact hk _ ⟨rfl, rfl, trivial⟩
            ·
              refine v_iconst ok 1 dX7_qTest_101 rfl ?_
              refine v_goto ok 106 dX7_qTest_102 rfl ?_
              refine v_istore_n ok 1 dX7_qTest_106 rfl (by decide) ?_
              refine v_goto ok 2 dX7_qTest_107 rfl ?_
              cases hf; exact hk _ ⟨rfl, rfl, trivial⟩
        ·
          refine v_aload_n ok 0 dX7_qTest_58 rfl rfl ?_
          refine v_bipush ok 12 dX7_qTest_59 rfl ?_
          refine v_aload_n ok 0 dX7_qTest_61 rfl rfl ?_
          refine v_gI ok fl_X7_263 (fun _ _ _ => rfl) dX7_qTest_62 hf (fun v15 hf => ?_)
          refine v_cVv ok (RX7, TX7, 117) cf_7.1 [vi 12, vi v15] (F := fun a => X7_qOpens a 12 v15 h9) (fun a h1 _ hv => M_X7_qOpens ok.2.2.2.2.2.2.1 (d := 2) (Nat.le_refl _) hv) (by exact Nat.le_trans (by decide) hd) cw_X7_qOpens q2246 q2248 qs87 dX7_qTest_65 [] rfl (Nat.le_of_ble_eq_true rfl) hf (fun h16 hf => ?_)
          refine v_aload_n ok 0 dX7_qTest_68 rfl rfl ?_
          refine v_aload_n ok 0 dX7_qTest_69 rfl rfl ?_
          refine v_gR ok fl_X7_187 (by first | exact Or.inl ⟨_, rfl⟩ | exact Or.inr ⟨_, rfl⟩) dX7_qTest_70 hf (fun v17 hf => ?_)
          refine v_cVv ok (RX7, TX7, 117) cf_7.1 [vr v17] (F := fun a => X7_asks a v17 h16) (fun a h1 _ hv => M_X7_asks ok.2.2.2.2.2.2.1 (d := 4) (Nat.le_refl _) hv) (by exact Nat.le_trans (by decide) hd) cw_X7_asks q2204 q2206 qs78 dX7_qTest_73 [] rfl (Nat.le_of_ble_eq_true rfl) hf (fun h18 hf => ?_)
          refine v_goto ok 2 dX7_qTest_76 rfl ?_
          cases hf; exact hk _ ⟨rfl, rfl, trivial⟩
      ·
        refine v_aload_n ok 0 dX7_qTest_24 rfl rfl ?_
        refine v_bipush ok 25 dX7_qTest_25 rfl ?_
        refine v_aload_n ok 0 dX7_qTest_27 rfl rfl ?_
        refine v_gI ok fl_X7_263 (fun _ _ _ => rfl) dX7_qTest_28 hf (fun v19 hf => ?_)
        refine v_cVv ok (RX7, TX7, 117) cf_7.1 [vi 25, vi v19] (F := fun a => X7_qOpens a 25 v19 h6) (fun a h1 _ hv => M_X7_qOpens ok.2.2.2.2.2.2.1 (d := 2) (Nat.le_refl _) hv) (by exact Nat.le_trans (by decide) hd) cw_X7_qOpens q2246 q2248 qs87 dX7_qTest_31 [] rfl (Nat.le_of_ble_eq_true rfl) hf (fun h20 hf => ?_)
        refine v_aload_n ok 0 dX7_qTest_34 rfl rfl ?_
        refine v_dup ok dX7_qTest_35 rfl ?_
        refine v_gI ok fl_X7_263 (fun _ _ _ => rfl) dX7_qTest_36 hf (fun v21 hf => ?_)
        refine v_iconst ok 1 dX7_qTest_39 rfl ?_
        refine v_iadd ok dX7_qTest_40 ?_
        refine v_pI ok fl_X7_263 ⟨fun _ _ _ => rfl, rfl⟩ (FN.of cf_7.1 rfl) dX7_qTest_41 hf (fun h22 hf => ?_)
        refine v_goto ok 2 dX7_qTest_44 rfl ?_
        cases hf; exact hk _ ⟨rfl, rfl, trivial⟩
theorem W_X7_qTest_2 {G : GT} {X : CX} {d : Nat} {h0 : AH} {Q : State → Prop} (ok : Ok G X RX7 cX7_qTest 3 d h0) (hr : (cxm X).sig.returnType = none) (hd : 9 ≤ d) {a0 : Nat} {x1 : Int32} {h : AH} {z : (AH)} (hf : X7_qTest_2  a0 x1 h = some z) (hk : Q = QM G X h0 none z) {lv : List (Nat × AV)} (hl : lle lv [(0, vr (some a0)), (1, vi x1)]) : V G X 3 h0 Q h 2 lv [] := by
  unfold X7_qTest_2 at hf
  exact loopC_walk (Wh := fun s : Int32 × AH => ∀ lv : List (Nat × AV), lle lv [(0, vr (some a0)), (1, vi s.1)] → V G X 3 h0 Q s.2 2 lv []) (PK := fun z => Q = QM G X h0 none z) (fun s o hf hk lv hl => W_X7_qTest_2b ok hr hd hf (by cases o <;> exact hk) hl) _ z hf hk lv hl
theorem W_X7_qTest {G : GT} {X : CX} {d : Nat} {h0 : AH} {Q : State → Prop} (ok : Ok G X RX7 cX7_qTest 3 d h0) (hr : (cxm X).sig.returnType = none) (hd : 9 ≤ d) {a0 : Nat} {h : AH} {z : (AH)} (hf : X7_qTest a0 h = some z) (hk : Q = QM G X h0 none z) {lv : List (Nat × AV)} (hl : lle lv [(0, vr (some a0))]) : V G X 3 h0 Q h 0 lv [] := by
  refine V.sub hl ?_
  unfold X7_qTest at hf
  refine v_iconst ok 1 dX7_qTest_0 rfl ?_
  refine v_istore_n ok 1 dX7_qTest_1 rfl (by decide) ?_
  exact W_X7_qTest_2 ok hr hd hf hk ⟨rfl, rfl, trivial⟩
theorem M_X7_qTest {G : GT} {l : Launch} (hG : Glob G) {d : Nat} (hd : 9 ≤ d) {a0 : Nat} {h : AH} {h' : AH} (hf : X7_qTest a0 h = some h') : MM G l yX7_qTest cX7_qTest 3 none d [vr (some a0)] h none h' := by
  refine mm_of hG (plainFor_of_name (by decide)) (Nat.le_of_ble_eq_true rfl) (fun X hX ok hr hnm => ?_)
  subst hX
  exact W_X7_qTest ok hr hd hf rfl ⟨rfl, trivial⟩
theorem cw_X7_codesTold : CW yX7_codesTold cX7_codesTold 4 none 2 := ⟨q2241, q185, ⟨by decide, by decide⟩, by decide +kernel, by decide⟩
def pkX7_codesTold_92 (G : GT) (X : CX) (h0 : AH) (Q : State → Prop) (a0 : Nat) (x1 : Int32) (o : ((Int32 × AH) ⊕ (AH))) : Prop := match o with
  | .inl s => ∀ lv : List (Nat × AV), lle lv [(0, vr (some a0)), (1, vi x1), (3, vi s.1)] → V G X 4 h0 Q s.2 92 lv []
  | .inr z => Q = QM G X h0 none z
theorem W_X7_codesTold_131 {G : GT} {X : CX} {d : Nat} {h0 : AH} {Q : State → Prop} (ok : Ok G X RX7 cX7_codesTold 4 d h0) (hr : (cxm X).sig.returnType = none) (hd : 10 ≤ d) {a0 : Nat} {x1 : Int32} {h : AH} {z : (AH)} (hf : X7_codesTold_131 a0 x1 h = some z) (hk : Q = QM G X h0 none z) {lv : List (Nat × AV)} (hl : lle lv [(0, vr (some a0)), (1, vi x1)]) : V G X 4 h0 Q h 131 lv [] := by
  refine V.sub hl ?_
  unfold X7_codesTold_131 at hf
  refine v_aload_n ok 0 dX7_codesTold_131 rfl rfl ?_
  refine v_gR ok fl_X7_126 (by first | exact Or.inl ⟨_, rfl⟩ | exact Or.inr ⟨_, rfl⟩) dX7_codesTold_132 hf (fun v1 hf => ?_)
  refine v_iload_n ok 1 dX7_codesTold_135 rfl rfl ?_
  refine v_aload_n ok 0 dX7_codesTold_136 rfl rfl ?_
  refine v_gI ok fl_X7_362 (fun _ _ _ => rfl) dX7_codesTold_137 hf (fun v2 hf => ?_)
  refine v_iast ok rfl dX7_codesTold_140 hf (fun h3 hf => ?_)
  exact v_vret ok hr (by cases hf; exact hk) dX7_codesTold_141
theorem W_X7_codesTold_92b {G : GT} {X : CX} {d : Nat} {h0 : AH} {Q : State → Prop} (ok : Ok G X RX7 cX7_codesTold 4 d h0) (hr : (cxm X).sig.returnType = none) (hd : 10 ≤ d) {a0 : Nat} {x1 : Int32} {x3 : Int32} {h : AH} {z : ((Int32 × AH) ⊕ (AH))} (hf : X7_codesTold_92b  a0 x1 x3 h = some z) (hk : pkX7_codesTold_92 G X h0 Q a0 x1 z) {lv : List (Nat × AV)} (hl : lle lv [(0, vr (some a0)), (1, vi x1), (3, vi x3)]) : V G X 4 h0 Q h 92 lv [] := by
  refine V.sub hl ?_
  unfold X7_codesTold_92b at hf
  refine v_iload_n ok 3 dX7_codesTold_92 rfl rfl ?_
  refine v_aload_n ok 0 dX7_codesTold_93 rfl rfl ?_
  refine v_gI ok fl_X7_344 (fun _ _ _ => rfl) dX7_codesTold_94 hf (fun v4 hf => ?_)
  refine v_icmp_ge ok 131 dX7_codesTold_97 rfl hf (fun hf => ?_) (fun hf => ?_)
  ·
    obtain ⟨o, ho, hz⟩ := ob hf
    cases hz; exact W_X7_codesTold_131 ok hr hd ho hk ⟨rfl, rfl, trivial⟩
  ·
    refine v_aload_n ok 0 dX7_codesTold_100 rfl rfl ?_
    refine v_gR ok fl_X7_129 (by first | exact Or.inl ⟨_, rfl⟩ | exact Or.inr ⟨_, rfl⟩) dX7_codesTold_101 hf (fun v5 hf => ?_)
    refine v_aload_n ok 0 dX7_codesTold_104 rfl rfl ?_
    refine v_gI ok fl_X7_362 (fun _ _ _ => rfl) dX7_codesTold_105 hf (fun v6 hf => ?_)
    refine v_aload_n ok 0 dX7_codesTold_108 rfl rfl ?_
    refine v_gR ok fl_X7_241 (by first | exact Or.inl ⟨_, rfl⟩ | exact Or.inr ⟨_, rfl⟩) dX7_codesTold_109 hf (fun v7 hf => ?_)
    refine v_iload_n ok 3 dX7_codesTold_112 rfl rfl ?_
    refine v_iald ok rfl dX7_codesTold_113 hf (fun v8 hf => ?_)
    refine v_iast ok rfl dX7_codesTold_114 hf (fun h9 hf => ?_)
    refine v_aload_n ok 0 dX7_codesTold_115 rfl rfl ?_
    refine v_dup ok dX7_codesTold_116 rfl ?_
    refine v_gI ok fl_X7_362 (fun _ _ _ => rfl) dX7_codesTold_117 hf (fun v10 hf => ?_)
    refine v_iconst ok 1 dX7_codesTold_120 rfl ?_
    refine v_iadd ok dX7_codesTold_121 ?_
    refine v_pI ok fl_X7_362 ⟨fun _ _ _ => rfl, rfl⟩ (FN.of cf_7.1 rfl) dX7_codesTold_122 hf (fun h11 hf => ?_)
    refine v_iinc ok x3 (x3 + 1) dX7_codesTold_125 rfl rfl (by decide) ?_
    refine v_goto ok 92 dX7_codesTold_128 rfl ?_
    cases hf; exact hk _ ⟨rfl, rfl, rfl, trivial⟩
theorem W_X7_codesTold_92 {G : GT} {X : CX} {d : Nat} {h0 : AH} {Q : State → Prop} (ok : Ok G X RX7 cX7_codesTold 4 d h0) (hr : (cxm X).sig.returnType = none) (hd : 10 ≤ d) {a0 : Nat} {x1 : Int32} {x3 : Int32} {h : AH} {z : (AH)} (hf : X7_codesTold_92  a0 x1 x3 h = some z) (hk : Q = QM G X h0 none z) {lv : List (Nat × AV)} (hl : lle lv [(0, vr (some a0)), (1, vi x1), (3, vi x3)]) : V G X 4 h0 Q h 92 lv [] := by
  unfold X7_codesTold_92 at hf
  exact loopC_walk (Wh := fun s : Int32 × AH => ∀ lv : List (Nat × AV), lle lv [(0, vr (some a0)), (1, vi x1), (3, vi s.1)] → V G X 4 h0 Q s.2 92 lv []) (PK := fun z => Q = QM G X h0 none z) (fun s o hf hk lv hl => W_X7_codesTold_92b ok hr hd hf (by cases o <;> exact hk) hl) _ z hf hk lv hl
theorem W_X7_codesTold_72 {G : GT} {X : CX} {d : Nat} {h0 : AH} {Q : State → Prop} (ok : Ok G X RX7 cX7_codesTold 4 d h0) (hr : (cxm X).sig.returnType = none) (hd : 10 ≤ d) {a0 : Nat} {x1 : Int32} {h : AH} {z : (AH)} (hf : X7_codesTold_72 a0 x1 h = some z) (hk : Q = QM G X h0 none z) {lv : List (Nat × AV)} (hl : lle lv [(0, vr (some a0)), (1, vi x1)]) : V G X 4 h0 Q h 72 lv [] := by
  refine V.sub hl ?_
  unfold X7_codesTold_72 at hf
  refine v_aload_n ok 0 dX7_codesTold_72 rfl rfl ?_
  refine v_gI ok fl_X7_257 (fun _ _ _ => rfl) dX7_codesTold_73 hf (fun v12 hf => ?_)
  refine v_if_eq ok 80 dX7_codesTold_76 rfl hf (fun hf => ?_) (fun hf => ?_)
  ·
    refine v_aload_n ok 0 dX7_codesTold_80 rfl rfl ?_
    refine v_gR ok fl_X7_123 (by first | exact Or.inl ⟨_, rfl⟩ | exact Or.inr ⟨_, rfl⟩) dX7_codesTold_81 hf (fun v13 hf => ?_)
    refine v_iload_n ok 1 dX7_codesTold_84 rfl rfl ?_
    refine v_aload_n ok 0 dX7_codesTold_85 rfl rfl ?_
    refine v_gI ok fl_X7_362 (fun _ _ _ => rfl) dX7_codesTold_86 hf (fun v14 hf => ?_)
    refine v_iast ok rfl dX7_codesTold_89 hf (fun h15 hf => ?_)
    refine v_iconst ok 0 dX7_codesTold_90 rfl ?_
    refine v_istore_n ok 3 dX7_codesTold_91 rfl (by decide) ?_
    exact W_X7_codesTold_92 ok hr hd hf hk ⟨rfl, rfl, rfl, trivial⟩
  ·
    exact v_vret ok hr (by cases hf; exact hk) dX7_codesTold_79
theorem W_X7_codesTold_23 {G : GT} {X : CX} {d : Nat} {h0 : AH} {Q : State → Prop} (ok : Ok G X RX7 cX7_codesTold 4 d h0) (hr : (cxm X).sig.returnType = none) (hd : 10 ≤ d) {a0 : Nat} {x1 : Int32} {h : AH} {z : (AH)} (hf : X7_codesTold_23 a0 x1 h = some z) (hk : Q = QM G X h0 none z) {lv : List (Nat × AV)} (hl : lle lv [(0, vr (some a0)), (1, vi x1)]) : V G X 4 h0 Q h 23 lv [] := by
  refine V.sub hl ?_
  unfold X7_codesTold_23 at hf
  refine v_aload_n ok 0 dX7_codesTold_23 rfl rfl ?_
  refine v_gI ok fl_X7_257 (fun _ _ _ => rfl) dX7_codesTold_24 hf (fun v16 hf => ?_)
  refine v_if_eq ok 31 dX7_codesTold_27 rfl hf (fun hf => ?_) (fun hf => ?_)
  ·
    refine v_aload_n ok 0 dX7_codesTold_31 rfl rfl ?_
    refine v_iload_n ok 1 dX7_codesTold_32 rfl rfl ?_
    refine v_pI ok fl_X7_314 ⟨fun _ _ _ => rfl, rfl⟩ (FN.of cf_7.1 rfl) dX7_codesTold_33 hf (fun h17 hf => ?_)
    refine v_aload_n ok 0 dX7_codesTold_36 rfl rfl ?_
    refine v_iconst ok 0 dX7_codesTold_37 rfl ?_
    refine v_pI ok fl_X7_344 ⟨fun _ _ _ => rfl, rfl⟩ (FN.of cf_7.1 rfl) dX7_codesTold_38 hf (fun h18 hf => ?_)
    refine v_aload_n ok 0 dX7_codesTold_41 rfl rfl ?_
    refine v_iconst ok 0 dX7_codesTold_42 rfl ?_
    refine v_pI ok fl_X7_347 ⟨fun _ _ _ => rfl, rfl⟩ (FN.of cf_7.1 rfl) dX7_codesTold_43 hf (fun h19 hf => ?_)
    refine v_aload_n ok 0 dX7_codesTold_46 rfl rfl ?_
    refine v_iconst ok 0 dX7_codesTold_47 rfl ?_
    refine v_pI ok fl_X7_350 ⟨fun _ _ _ => rfl, rfl⟩ (FN.of cf_7.1 rfl) dX7_codesTold_48 hf (fun h20 hf => ?_)
    refine v_aload_n ok 0 dX7_codesTold_51 rfl rfl ?_
    refine v_iconst ok 0 dX7_codesTold_52 rfl ?_
    refine v_pI ok fl_X7_353 ⟨fun _ _ _ => rfl, rfl⟩ (FN.of cf_7.1 rfl) dX7_codesTold_53 hf (fun h21 hf => ?_)
    refine v_iload_n ok 1 dX7_codesTold_56 rfl rfl ?_
    refine v_iconst ok 1 dX7_codesTold_57 rfl ?_
    refine v_icmp_ne ok 68 dX7_codesTold_58 rfl hf (fun hf => ?_) (fun hf => ?_)
    ·
      refine v_aload_n ok 0 dX7_codesTold_68 rfl rfl ?_
      refine v_cVv ok (RX7, TX7, 117) cf_7.1 [] (F := fun a => X7_qSums a h21) (fun a h1 _ hv => M_X7_qSums ok.2.2.2.2.2.2.1 (d := 7) (Nat.le_refl _) hv) (by exact Nat.le_trans (by decide) hd) cw_X7_qSums q2258 q2260 qs90 dX7_codesTold_69 [] rfl (Nat.le_of_ble_eq_true rfl) hf (fun h22 hf => ?_)
      exact W_X7_codesTold_72 ok hr hd hf hk ⟨rfl, rfl, trivial⟩
    ·
      refine v_aload_n ok 0 dX7_codesTold_61 rfl rfl ?_
      refine v_cVv ok (RX7, TX7, 117) cf_7.1 [] (F := fun a => X7_qTest a h21) (fun a h1 _ hv => M_X7_qTest ok.2.2.2.2.2.2.1 (d := 9) (Nat.le_refl _) hv) (by exact Nat.le_trans (by decide) hd) cw_X7_qTest q2242 q2244 qs86 dX7_codesTold_62 [] rfl (Nat.le_of_ble_eq_true rfl) hf (fun h23 hf => ?_)
      refine v_goto ok 72 dX7_codesTold_65 rfl ?_
      exact W_X7_codesTold_72 ok hr hd hf hk ⟨rfl, rfl, trivial⟩
  ·
    exact v_vret ok hr (by cases hf; exact hk) dX7_codesTold_30
theorem W_X7_codesTold {G : GT} {X : CX} {d : Nat} {h0 : AH} {Q : State → Prop} (ok : Ok G X RX7 cX7_codesTold 4 d h0) (hr : (cxm X).sig.returnType = none) (hd : 10 ≤ d) {a0 : Nat} {x1 : Int32} {x2 : Int32} {h : AH} {z : (AH)} (hf : X7_codesTold a0 x1 x2 h = some z) (hk : Q = QM G X h0 none z) {lv : List (Nat × AV)} (hl : lle lv [(0, vr (some a0)), (1, vi x1), (2, vi x2)]) : V G X 4 h0 Q h 0 lv [] := by
  refine V.sub hl ?_
  unfold X7_codesTold at hf
  refine v_aload_n ok 0 dX7_codesTold_0 rfl rfl ?_
  refine v_gI ok fl_X7_257 (fun _ _ _ => rfl) dX7_codesTold_1 hf (fun v24 hf => ?_)
  refine v_if_ne ok 23 dX7_codesTold_4 rfl hf (fun hf => ?_) (fun hf => ?_)
  ·
    exact W_X7_codesTold_23 ok hr hd hf hk ⟨rfl, rfl, trivial⟩
  ·
    refine v_aload_n ok 0 dX7_codesTold_7 rfl rfl ?_
    refine v_gR ok fl_X7_123 (by first | exact Or.inl ⟨_, rfl⟩ | exact Or.inr ⟨_, rfl⟩) dX7_codesTold_8 hf (fun v25 hf => ?_)
    refine v_iload_n ok 1 dX7_codesTold_11 rfl rfl ?_
    refine v_iald ok rfl dX7_codesTold_12 hf (fun v26 hf => ?_)
    refine v_iconst ok (-1) dX7_codesTold_13 rfl ?_
    refine v_icmp_eq ok 23 dX7_codesTold_14 rfl hf (fun hf => ?_) (fun hf => ?_)
    ·
      exact W_X7_codesTold_23 ok hr hd hf hk ⟨rfl, rfl, trivial⟩
    ·
      refine v_aload_n ok 0 dX7_codesTold_17 rfl rfl ?_
      refine v_iconst ok 5 dX7_codesTold_18 rfl ?_
      refine v_iload_n ok 2 dX7_codesTold_19 rfl rfl ?_
      refine v_cVv ok (RX7, TX7, 117) cf_7.1 [vi 5, vi x2] (F := fun a => X7_fail a 5 x2 h) (fun a h1 _ hv => M_X7_fail ok.2.2.2.2.2.2.1 (d := 1) (Nat.le_refl _) hv) (by exact Nat.le_trans (by decide) hd) cw_X7_fail q2177 q2179 qs72 dX7_codesTold_20 [] rfl (Nat.le_of_ble_eq_true rfl) hf (fun h27 hf => ?_)
      exact W_X7_codesTold_23 ok hr hd hf hk ⟨rfl, rfl, trivial⟩
theorem M_X7_codesTold {G : GT} {l : Launch} (hG : Glob G) {d : Nat} (hd : 10 ≤ d) {a0 : Nat} {x1 : Int32} {x2 : Int32} {h : AH} {h' : AH} (hf : X7_codesTold a0 x1 x2 h = some h') : MM G l yX7_codesTold cX7_codesTold 4 none d [vr (some a0), vi x1, vi x2] h none h' := by
  refine mm_of hG (plainFor_of_name (by decide)) (Nat.le_of_ble_eq_true rfl) (fun X hX ok hr hnm => ?_)
  subst hX
  exact W_X7_codesTold ok hr hd hf rfl ⟨rfl, rfl, rfl, trivial⟩
theorem cw_X7_rowTold : CW yX7_rowTold cX7_rowTold 2 (Option.some Jvm.ClassFile.FieldType.int) 0 := ⟨q2225, q185, ⟨by decide, by decide⟩, by decide +kernel, by decide⟩
theorem W_X7_rowTold {G : GT} {X : CX} {d : Nat} {h0 : AH} {Q : State → Prop} (ok : Ok G X RX7 cX7_rowTold 2 d h0) (hr : (cxm X).sig.returnType = (Option.some Jvm.ClassFile.FieldType.int)) (hd : 3 ≤ d) {a0 : Nat} {h : AH} {z : (Int32 × AH)} (hf : X7_rowTold a0 h = some z) (hk : Q = QM G X h0 (some (vi z.1)) z.2) {lv : List (Nat × AV)} (hl : lle lv [(0, vr (some a0))]) : V G X 2 h0 Q h 0 lv [] := by
  refine V.sub hl ?_
  unfold X7_rowTold at hf
  refine v_aload_n ok 0 dX7_rowTold_0 rfl rfl ?_
  refine v_iconst ok 0 dX7_rowTold_1 rfl ?_
  refine v_bipush ok 7 dX7_rowTold_2 rfl ?_
  refine v_cVi ok (RX7, TX7, 117) cf_7.1 [vi 0, vi 7] (F := fun a => X7_number a 0 7 h) (fun a v h1 _ hv => M_X7_number ok.2.2.2.2.2.2.1 (d := 2) (Nat.le_refl _) hv) (by exact Nat.le_trans (by decide) hd) cw_X7_number q2208 q2210 qs79 dX7_rowTold_4 [] rfl (Nat.le_of_ble_eq_true rfl) hf (fun v1 h2 hf => ?_)
  refine v_istore_n ok 1 dX7_rowTold_7 rfl (by decide) ?_
  refine v_iload_n ok 1 dX7_rowTold_8 rfl rfl ?_
  refine v_iconst ok 2 dX7_rowTold_9 rfl ?_
  refine v_ishr ok dX7_rowTold_10 ?_
  refine v_iconst ok 1 dX7_rowTold_11 rfl ?_
  refine v_iand ok dX7_rowTold_12 ?_
  refine v_iload_n ok 1 dX7_rowTold_13 rfl rfl ?_
  refine v_iconst ok 1 dX7_rowTold_14 rfl ?_
  refine v_ishr ok dX7_rowTold_15 ?_
  refine v_iconst ok 1 dX7_rowTold_16 rfl ?_
  refine v_iand ok dX7_rowTold_17 ?_
  refine v_iconst ok 1 dX7_rowTold_18 rfl ?_
  refine v_ishl ok dX7_rowTold_19 ?_
  refine v_ior ok dX7_rowTold_20 ?_
  refine v_iload_n ok 1 dX7_rowTold_21 rfl rfl ?_
  refine v_iconst ok 1 dX7_rowTold_22 rfl ?_
  refine v_iand ok dX7_rowTold_23 ?_
  refine v_iconst ok 2 dX7_rowTold_24 rfl ?_
  refine v_ishl ok dX7_rowTold_25 ?_
  refine v_ior ok dX7_rowTold_26 ?_
  exact v_iret ok hr (by cases hf; exact hk) dX7_rowTold_27
theorem M_X7_rowTold {G : GT} {l : Launch} (hG : Glob G) {d : Nat} (hd : 3 ≤ d) {a0 : Nat} {h : AH} {v : Int32} {h' : AH} (hf : X7_rowTold a0 h = some (v, h')) : MM G l yX7_rowTold cX7_rowTold 2 (Option.some Jvm.ClassFile.FieldType.int) d [vr (some a0)] h (some (vi v)) h' := by
  refine mm_of hG (plainFor_of_name (by decide)) (Nat.le_of_ble_eq_true rfl) (fun X hX ok hr hnm => ?_)
  subst hX
  exact W_X7_rowTold ok hr hd hf rfl ⟨rfl, trivial⟩
theorem cw_X7_letterTold : CW yX7_letterTold cX7_letterTold 5 none 0 := ⟨q2195, q185, ⟨by decide, by decide⟩, by decide +kernel, by decide⟩
def pkX7_letterTold_93 (G : GT) (X : CX) (h0 : AH) (Q : State → Prop) (a0 : Nat) (x1 : Int32) (x2 : Int32) (o : ((Int32 × Int32 × AH) ⊕ (AH))) : Prop := match o with
  | .inl s => ∀ lv : List (Nat × AV), lle lv [(0, vr (some a0)), (1, vi x1), (2, vi x2), (3, vi s.1), (4, vi s.2.1)] → V G X 5 h0 Q s.2.2 93 lv []
  | .inr z => Q = QM G X h0 none z
theorem W_X7_letterTold_117 {G : GT} {X : CX} {d : Nat} {h0 : AH} {Q : State → Prop} (ok : Ok G X RX7 cX7_letterTold 5 d h0) (hr : (cxm X).sig.returnType = none) (hd : 5 ≤ d) {a0 : Nat} {x1 : Int32} {x2 : Int32} {x3 : Int32} {h : AH} {z : (AH)} (hf : X7_letterTold_117 a0 x1 x2 x3 h = some z) (hk : Q = QM G X h0 none z) {lv : List (Nat × AV)} (hl : lle lv [(0, vr (some a0)), (1, vi x1), (2, vi x2), (3, vi x3)]) : V G X 5 h0 Q h 117 lv [] := by
  refine V.sub hl ?_
  unfold X7_letterTold_117 at hf
  refine v_aload_n ok 0 dX7_letterTold_117 rfl rfl ?_
  refine v_gI ok fl_X7_257 (fun _ _ _ => rfl) dX7_letterTold_118 hf (fun v1 hf => ?_)
  refine v_if_eq ok 125 dX7_letterTold_121 rfl hf (fun hf => ?_) (fun hf => ?_)
  ·
    refine v_bipush ok 24 dX7_letterTold_125 rfl ?_
    refine v_iload_n ok 2 dX7_letterTold_127 rfl rfl ?_
    refine v_imul ok dX7_letterTold_128 ?_
    refine v_iconst ok 2 dX7_letterTold_129 rfl ?_
    refine v_aload_n ok 0 dX7_letterTold_130 rfl rfl ?_
    refine v_gR ok fl_X7_108 (by first | exact Or.inl ⟨_, rfl⟩ | exact Or.inr ⟨_, rfl⟩) dX7_letterTold_131 hf (fun v2 hf => ?_)
    refine v_iload_n ok 2 dX7_letterTold_134 rfl rfl ?_
    refine v_iald ok rfl dX7_letterTold_135 hf (fun v3 hf => ?_)
    refine v_imul ok dX7_letterTold_136 ?_
    refine v_iadd ok dX7_letterTold_137 ?_
    refine v_istore ok dX7_letterTold_138 (by decide) ?_
    refine v_aload_n ok 0 dX7_letterTold_140 rfl rfl ?_
    refine v_gR ok fl_X7_111 (by first | exact Or.inl ⟨_, rfl⟩ | exact Or.inr ⟨_, rfl⟩) dX7_letterTold_141 hf (fun v4 hf => ?_)
    refine v_iload ok dX7_letterTold_144 rfl ?_
    refine v_iload_n ok 1 dX7_letterTold_146 rfl rfl ?_
    refine v_iast ok rfl dX7_letterTold_147 hf (fun h5 hf => ?_)
    refine v_aload_n ok 0 dX7_letterTold_148 rfl rfl ?_
    refine v_gR ok fl_X7_111 (by first | exact Or.inl ⟨_, rfl⟩ | exact Or.inr ⟨_, rfl⟩) dX7_letterTold_149 hf (fun v6 hf => ?_)
    refine v_iload ok dX7_letterTold_152 rfl ?_
    refine v_iconst ok 1 dX7_letterTold_154 rfl ?_
    refine v_iadd ok dX7_letterTold_155 ?_
    refine v_iload_n ok 3 dX7_letterTold_156 rfl rfl ?_
    refine v_iast ok rfl dX7_letterTold_157 hf (fun h7 hf => ?_)
    refine v_aload_n ok 0 dX7_letterTold_158 rfl rfl ?_
    refine v_gR ok fl_X7_108 (by first | exact Or.inl ⟨_, rfl⟩ | exact Or.inr ⟨_, rfl⟩) dX7_letterTold_159 hf (fun v8 hf => ?_)
    refine v_iload_n ok 2 dX7_letterTold_162 rfl rfl ?_
    refine v_dup2 ok dX7_letterTold_163 rfl rfl ?_
    refine v_iald ok rfl dX7_letterTold_164 hf (fun v9 hf => ?_)
    refine v_iconst ok 1 dX7_letterTold_165 rfl ?_
    refine v_iadd ok dX7_letterTold_166 ?_
    refine v_iast ok rfl dX7_letterTold_167 hf (fun h10 hf => ?_)
    exact v_vret ok hr (by cases hf; exact hk) dX7_letterTold_168
  ·
    exact v_vret ok hr (by cases hf; exact hk) dX7_letterTold_124
theorem W_X7_letterTold_93b {G : GT} {X : CX} {d : Nat} {h0 : AH} {Q : State → Prop} (ok : Ok G X RX7 cX7_letterTold 5 d h0) (hr : (cxm X).sig.returnType = none) (hd : 5 ≤ d) {a0 : Nat} {x1 : Int32} {x2 : Int32} {x3 : Int32} {x4 : Int32} {h : AH} {z : ((Int32 × Int32 × AH) ⊕ (AH))} (hf : X7_letterTold_93b  a0 x1 x2 x3 x4 h = some z) (hk : pkX7_letterTold_93 G X h0 Q a0 x1 x2 z) {lv : List (Nat × AV)} (hl : lle lv [(0, vr (some a0)), (1, vi x1), (2, vi x2), (3, vi x3), (4, vi x4)]) : V G X 5 h0 Q h 93 lv [] := by
  refine V.sub hl ?_
  unfold X7_letterTold_93b at hf
  refine v_iload ok dX7_letterTold_93 rfl ?_
  refine v_iconst ok 5 dX7_letterTold_95 rfl ?_
  refine v_icmp_ge ok 117 dX7_letterTold_96 rfl hf (fun hf => ?_) (fun hf => ?_)
  ·
    obtain ⟨o, ho, hz⟩ := ob hf
    cases hz; exact W_X7_letterTold_117 ok hr hd ho hk ⟨rfl, rfl, rfl, rfl, trivial⟩
  ·
    refine v_iload_n ok 3 dX7_letterTold_99 rfl rfl ?_
    refine v_aload_n ok 0 dX7_letterTold_100 rfl rfl ?_
    refine v_cVi ok (RX7, TX7, 117) cf_7.1 [] (F := fun a => X7_rowTold a h) (fun a v h1 _ hv => M_X7_rowTold ok.2.2.2.2.2.2.1 (d := 3) (Nat.le_refl _) hv) (by exact Nat.le_trans (by decide) hd) cw_X7_rowTold q2222 q2224 qs81 dX7_letterTold_101 [vi x3] rfl (Nat.le_of_ble_eq_true rfl) hf (fun v11 h12 hf => ?_)
    refine v_iconst ok 3 dX7_letterTold_104 rfl ?_
    refine v_iload ok dX7_letterTold_105 rfl ?_
    refine v_imul ok dX7_letterTold_107 ?_
    refine v_ishl ok dX7_letterTold_108 ?_
    refine v_ior ok dX7_letterTold_109 ?_
    refine v_istore_n ok 3 dX7_letterTold_110 rfl (by decide) ?_
    refine v_iinc ok x4 (x4 + 1) dX7_letterTold_111 rfl rfl (by decide) ?_
    refine v_goto ok 93 dX7_letterTold_114 rfl ?_
    cases hf; exact hk _ ⟨rfl, rfl, rfl, rfl, rfl, trivial⟩
theorem W_X7_letterTold_93 {G : GT} {X : CX} {d : Nat} {h0 : AH} {Q : State → Prop} (ok : Ok G X RX7 cX7_letterTold 5 d h0) (hr : (cxm X).sig.returnType = none) (hd : 5 ≤ d) {a0 : Nat} {x1 : Int32} {x2 : Int32} {x3 : Int32} {x4 : Int32} {h : AH} {z : (AH)} (hf : X7_letterTold_93  a0 x1 x2 x3 x4 h = some z) (hk : Q = QM G X h0 none z) {lv : List (Nat × AV)} (hl : lle lv [(0, vr (some a0)), (1, vi x1), (2, vi x2), (3, vi x3), (4, vi x4)]) : V G X 5 h0 Q h 93 lv [] := by
  unfold X7_letterTold_93 at hf
  exact loopC_walk (Wh := fun s : Int32 × Int32 × AH => ∀ lv : List (Nat × AV), lle lv [(0, vr (some a0)), (1, vi x1), (2, vi x2), (3, vi s.1), (4, vi s.2.1)] → V G X 5 h0 Q s.2.2 93 lv []) (PK := fun z => Q = QM G X h0 none z) (fun s o hf hk lv hl => W_X7_letterTold_93b ok hr hd hf (by cases o <;> exact hk) hl) _ z hf hk lv hl
theorem W_X7_letterTold_80 {G : GT} {X : CX} {d : Nat} {h0 : AH} {Q : State → Prop} (ok : Ok G X RX7 cX7_letterTold 5 d h0) (hr : (cxm X).sig.returnType = none) (hd : 5 ≤ d) {a0 : Nat} {x1 : Int32} {x2 : Int32} {h : AH} {z : (AH)} (hf : X7_letterTold_80 a0 x1 x2 h = some z) (hk : Q = QM G X h0 none z) {lv : List (Nat × AV)} (hl : lle lv [(0, vr (some a0)), (1, vi x1), (2, vi x2)]) : V G X 5 h0 Q h 80 lv [] := by
  refine V.sub hl ?_
  unfold X7_letterTold_80 at hf
  refine v_aload_n ok 0 dX7_letterTold_80 rfl rfl ?_
  refine v_aload_n ok 0 dX7_letterTold_81 rfl rfl ?_
  refine v_gR ok fl_X7_27 (by first | exact Or.inl ⟨_, rfl⟩ | exact Or.inr ⟨_, rfl⟩) dX7_letterTold_82 hf (fun v13 hf => ?_)
  refine v_cVv ok (RX7, TX7, 117) cf_7.1 [vr v13] (F := fun a => X7_asks a v13 h) (fun a h1 _ hv => M_X7_asks ok.2.2.2.2.2.2.1 (d := 4) (Nat.le_refl _) hv) (by exact Nat.le_trans (by decide) hd) cw_X7_asks q2204 q2206 qs78 dX7_letterTold_85 [] rfl (Nat.le_of_ble_eq_true rfl) hf (fun h14 hf => ?_)
  refine v_iconst ok 0 dX7_letterTold_88 rfl ?_
  refine v_istore_n ok 3 dX7_letterTold_89 rfl (by decide) ?_
  refine v_iconst ok 0 dX7_letterTold_90 rfl ?_
  refine v_istore ok dX7_letterTold_91 (by decide) ?_
  exact W_X7_letterTold_93 ok hr hd hf hk ⟨rfl, rfl, rfl, rfl, rfl, trivial⟩
theorem W_X7_letterTold_54 {G : GT} {X : CX} {d : Nat} {h0 : AH} {Q : State → Prop} (ok : Ok G X RX7 cX7_letterTold 5 d h0) (hr : (cxm X).sig.returnType = none) (hd : 5 ≤ d) {a0 : Nat} {x1 : Int32} {x2 : Int32} {h : AH} {z : (AH)} (hf : X7_letterTold_54 a0 x1 x2 h = some z) (hk : Q = QM G X h0 none z) {lv : List (Nat × AV)} (hl : lle lv [(0, vr (some a0)), (1, vi x1), (2, vi x2)]) : V G X 5 h0 Q h 54 lv [] := by
  refine V.sub hl ?_
  unfold X7_letterTold_54 at hf
  refine v_aload_n ok 0 dX7_letterTold_54 rfl rfl ?_
  refine v_gI ok fl_X7_257 (fun _ _ _ => rfl) dX7_letterTold_55 hf (fun v15 hf => ?_)
  refine v_if_ne ok 80 dX7_letterTold_58 rfl hf (fun hf => ?_) (fun hf => ?_)
  ·
    exact W_X7_letterTold_80 ok hr hd hf hk ⟨rfl, rfl, rfl, trivial⟩
  ·
    refine v_aload_n ok 0 dX7_letterTold_61 rfl rfl ?_
    refine v_iload_n ok 2 dX7_letterTold_62 rfl rfl ?_
    refine v_iload_n ok 1 dX7_letterTold_63 rfl rfl ?_
    refine v_cVi ok (RX7, TX7, 117) cf_7.1 [vi x2, vi x1] (F := fun a => X7_toldAt a x2 x1 h) (fun a v h1 _ hv => M_X7_toldAt ok.2.2.2.2.2.2.1 (d := 1) (Nat.le_refl _) hv) (by exact Nat.le_trans (by decide) hd) cw_X7_toldAt q2218 q2220 qs80 dX7_letterTold_64 [] rfl (Nat.le_of_ble_eq_true rfl) hf (fun v16 h17 hf => ?_)
    refine v_iconst ok (-1) dX7_letterTold_67 rfl ?_
    refine v_icmp_eq ok 80 dX7_letterTold_68 rfl hf (fun hf => ?_) (fun hf => ?_)
    ·
      exact W_X7_letterTold_80 ok hr hd hf hk ⟨rfl, rfl, rfl, trivial⟩
    ·
      refine v_aload_n ok 0 dX7_letterTold_71 rfl rfl ?_
      refine v_iconst ok 2 dX7_letterTold_72 rfl ?_
      refine v_aload_n ok 0 dX7_letterTold_73 rfl rfl ?_
      refine v_gI ok fl_X7_297 (fun _ _ _ => rfl) dX7_letterTold_74 hf (fun v18 hf => ?_)
      refine v_cVv ok (RX7, TX7, 117) cf_7.1 [vi 2, vi v18] (F := fun a => X7_fail a 2 v18 h17) (fun a h1 _ hv => M_X7_fail ok.2.2.2.2.2.2.1 (d := 1) (Nat.le_refl _) hv) (by exact Nat.le_trans (by decide) hd) cw_X7_fail q2177 q2179 qs72 dX7_letterTold_77 [] rfl (Nat.le_of_ble_eq_true rfl) hf (fun h19 hf => ?_)
      exact W_X7_letterTold_80 ok hr hd hf hk ⟨rfl, rfl, rfl, trivial⟩
theorem W_X7_letterTold {G : GT} {X : CX} {d : Nat} {h0 : AH} {Q : State → Prop} (ok : Ok G X RX7 cX7_letterTold 5 d h0) (hr : (cxm X).sig.returnType = none) (hd : 5 ≤ d) {a0 : Nat} {h : AH} {z : (AH)} (hf : X7_letterTold a0 h = some z) (hk : Q = QM G X h0 none z) {lv : List (Nat × AV)} (hl : lle lv [(0, vr (some a0))]) : V G X 5 h0 Q h 0 lv [] := by
  refine V.sub hl ?_
  unfold X7_letterTold at hf
  refine v_aload_n ok 0 dX7_letterTold_0 rfl rfl ?_
  refine v_iconst ok 1 dX7_letterTold_1 rfl ?_
  refine v_cVv ok (RX7, TX7, 117) cf_7.1 [vi 1] (F := fun a => X7_name a 1 h) (fun a h1 _ hv => M_X7_name ok.2.2.2.2.2.2.1 (d := 4) (Nat.le_refl _) hv) (by exact Nat.le_trans (by decide) hd) cw_X7_name q2196 q2198 qs76 dX7_letterTold_2 [] rfl (Nat.le_of_ble_eq_true rfl) hf (fun h20 hf => ?_)
  refine v_aload_n ok 0 dX7_letterTold_5 rfl rfl ?_
  refine v_gR ok fl_X7_105 (by first | exact Or.inl ⟨_, rfl⟩ | exact Or.inr ⟨_, rfl⟩) dX7_letterTold_6 hf (fun v21 hf => ?_)
  refine v_iconst ok 0 dX7_letterTold_9 rfl ?_
  refine v_iald ok rfl dX7_letterTold_10 hf (fun v22 hf => ?_)
  refine v_istore_n ok 1 dX7_letterTold_11 rfl (by decide) ?_
  refine v_aload_n ok 0 dX7_letterTold_12 rfl rfl ?_
  refine v_aload_n ok 0 dX7_letterTold_13 rfl rfl ?_
  refine v_gR ok fl_X7_24 (by first | exact Or.inl ⟨_, rfl⟩ | exact Or.inr ⟨_, rfl⟩) dX7_letterTold_14 hf (fun v23 hf => ?_)
  refine v_cVv ok (RX7, TX7, 117) cf_7.1 [vr v23] (F := fun a => X7_asks a v23 h20) (fun a h1 _ hv => M_X7_asks ok.2.2.2.2.2.2.1 (d := 4) (Nat.le_refl _) hv) (by exact Nat.le_trans (by decide) hd) cw_X7_asks q2204 q2206 qs78 dX7_letterTold_17 [] rfl (Nat.le_of_ble_eq_true rfl) hf (fun h24 hf => ?_)
  refine v_aload_n ok 0 dX7_letterTold_20 rfl rfl ?_
  refine v_iconst ok 0 dX7_letterTold_21 rfl ?_
  refine v_iconst ok 1 dX7_letterTold_22 rfl ?_
  refine v_cVi ok (RX7, TX7, 117) cf_7.1 [vi 0, vi 1] (F := fun a => X7_number a 0 1 h24) (fun a v h1 _ hv => M_X7_number ok.2.2.2.2.2.2.1 (d := 2) (Nat.le_refl _) hv) (by exact Nat.le_trans (by decide) hd) cw_X7_number q2208 q2210 qs79 dX7_letterTold_23 [] rfl (Nat.le_of_ble_eq_true rfl) hf (fun v25 h26 hf => ?_)
  refine v_istore_n ok 2 dX7_letterTold_26 rfl (by decide) ?_
  refine v_aload_n ok 0 dX7_letterTold_27 rfl rfl ?_
  refine v_gI ok fl_X7_257 (fun _ _ _ => rfl) dX7_letterTold_28 hf (fun v27 hf => ?_)
  refine v_if_ne ok 54 dX7_letterTold_31 rfl hf (fun hf => ?_) (fun hf => ?_)
  ·
    exact W_X7_letterTold_54 ok hr hd hf hk ⟨rfl, rfl, rfl, trivial⟩
  ·
    refine v_aload_n ok 0 dX7_letterTold_34 rfl rfl ?_
    refine v_gR ok fl_X7_108 (by first | exact Or.inl ⟨_, rfl⟩ | exact Or.inr ⟨_, rfl⟩) dX7_letterTold_35 hf (fun v28 hf => ?_)
    refine v_iload_n ok 2 dX7_letterTold_38 rfl rfl ?_
    refine v_iald ok rfl dX7_letterTold_39 hf (fun v29 hf => ?_)
    refine v_bipush ok 12 dX7_letterTold_40 rfl ?_
    refine v_icmp_ne ok 54 dX7_letterTold_42 rfl hf (fun hf => ?_) (fun hf => ?_)
    ·
      exact W_X7_letterTold_54 ok hr hd hf hk ⟨rfl, rfl, rfl, trivial⟩
    ·
      refine v_aload_n ok 0 dX7_letterTold_45 rfl rfl ?_
      refine v_iconst ok 5 dX7_letterTold_46 rfl ?_
      refine v_aload_n ok 0 dX7_letterTold_47 rfl rfl ?_
      refine v_gI ok fl_X7_297 (fun _ _ _ => rfl) dX7_letterTold_48 hf (fun v30 hf => ?_)
      refine v_cVv ok (RX7, TX7, 117) cf_7.1 [vi 5, vi v30] (F := fun a => X7_fail a 5 v30 h26) (fun a h1 _ hv => M_X7_fail ok.2.2.2.2.2.2.1 (d := 1) (Nat.le_refl _) hv) (by exact Nat.le_trans (by decide) hd) cw_X7_fail q2177 q2179 qs72 dX7_letterTold_51 [] rfl (Nat.le_of_ble_eq_true rfl) hf (fun h31 hf => ?_)
      exact W_X7_letterTold_54 ok hr hd hf hk ⟨rfl, rfl, rfl, trivial⟩
theorem M_X7_letterTold {G : GT} {l : Launch} (hG : Glob G) {d : Nat} (hd : 5 ≤ d) {a0 : Nat} {h : AH} {h' : AH} (hf : X7_letterTold a0 h = some h') : MM G l yX7_letterTold cX7_letterTold 5 none d [vr (some a0)] h none h' := by
  refine mm_of hG (plainFor_of_name (by decide)) (Nat.le_of_ble_eq_true rfl) (fun X hX ok hr hnm => ?_)
  subst hX
  exact W_X7_letterTold ok hr hd hf rfl ⟨rfl, trivial⟩
theorem cw_X7_wordTold : CW yX7_wordTold cX7_wordTold 4 none 1 := ⟨q2229, q185, ⟨by decide, by decide⟩, by decide +kernel, by decide⟩
def pkX7_wordTold_131 (G : GT) (X : CX) (h0 : AH) (Q : State → Prop) (a0 : Nat) (o : ((Int32 × AH) ⊕ (AH))) : Prop := match o with
  | .inl s => ∀ lv : List (Nat × AV), lle lv [(0, vr (some a0)), (3, vi s.1)] → V G X 4 h0 Q s.2 131 lv []
  | .inr z => Q = QM G X h0 none z
def pkX7_wordTold_60 (G : GT) (X : CX) (h0 : AH) (Q : State → Prop) (a0 : Nat) (o : ((Int32 × Int32 × AH) ⊕ (AH))) : Prop := match o with
  | .inl s => ∀ lv : List (Nat × AV), lle lv [(0, vr (some a0)), (2, vi s.1), (3, vi s.2.1)] → V G X 4 h0 Q s.2.2 60 lv []
  | .inr z => Q = QM G X h0 none z
theorem W_X7_wordTold_167 {G : GT} {X : CX} {d : Nat} {h0 : AH} {Q : State → Prop} (ok : Ok G X RX7 cX7_wordTold 4 d h0) (hr : (cxm X).sig.returnType = none) (hd : 5 ≤ d) {a0 : Nat} {h : AH} {z : (AH)} (hf : X7_wordTold_167 a0 h = some z) (hk : Q = QM G X h0 none z) {lv : List (Nat × AV)} (hl : lle lv [(0, vr (some a0))]) : V G X 4 h0 Q h 167 lv [] := by
  refine V.sub hl ?_
  unfold X7_wordTold_167 at hf
  refine v_aload_n ok 0 dX7_wordTold_167 rfl rfl ?_
  refine v_dup ok dX7_wordTold_168 rfl ?_
  refine v_gI ok fl_X7_335 (fun _ _ _ => rfl) dX7_wordTold_169 hf (fun v1 hf => ?_)
  refine v_iconst ok 1 dX7_wordTold_172 rfl ?_
  refine v_iadd ok dX7_wordTold_173 ?_
  refine v_pI ok fl_X7_335 ⟨fun _ _ _ => rfl, rfl⟩ (FN.of cf_7.1 rfl) dX7_wordTold_174 hf (fun h2 hf => ?_)
  exact v_vret ok hr (by cases hf; exact hk) dX7_wordTold_177
theorem W_X7_wordTold_131b {G : GT} {X : CX} {d : Nat} {h0 : AH} {Q : State → Prop} (ok : Ok G X RX7 cX7_wordTold 4 d h0) (hr : (cxm X).sig.returnType = none) (hd : 5 ≤ d) {a0 : Nat} {x3 : Int32} {h : AH} {z : ((Int32 × AH) ⊕ (AH))} (hf : X7_wordTold_131b  a0 x3 h = some z) (hk : pkX7_wordTold_131 G X h0 Q a0 z) {lv : List (Nat × AV)} (hl : lle lv [(0, vr (some a0)), (3, vi x3)]) : V G X 4 h0 Q h 131 lv [] := by
  refine V.sub hl ?_
  unfold X7_wordTold_131b at hf
  refine v_iload_n ok 3 dX7_wordTold_131 rfl rfl ?_
  refine v_aload_n ok 0 dX7_wordTold_132 rfl rfl ?_
  refine v_gI ok fl_X7_304 (fun _ _ _ => rfl) dX7_wordTold_133 hf (fun v3 hf => ?_)
  refine v_icmp_ge ok 167 dX7_wordTold_136 rfl hf (fun hf => ?_) (fun hf => ?_)
  ·
    obtain ⟨o, ho, hz⟩ := ob hf
    cases hz; exact W_X7_wordTold_167 ok hr hd ho hk ⟨rfl, trivial⟩
  ·
    refine v_aload_n ok 0 dX7_wordTold_139 rfl rfl ?_
    refine v_gR ok fl_X7_114 (by first | exact Or.inl ⟨_, rfl⟩ | exact Or.inr ⟨_, rfl⟩) dX7_wordTold_140 hf (fun v4 hf => ?_)
    refine v_bipush ok 7 dX7_wordTold_143 rfl ?_
    refine v_aload_n ok 0 dX7_wordTold_145 rfl rfl ?_
    refine v_gI ok fl_X7_335 (fun _ _ _ => rfl) dX7_wordTold_146 hf (fun v5 hf => ?_)
    refine v_imul ok dX7_wordTold_149 ?_
    refine v_iconst ok 1 dX7_wordTold_150 rfl ?_
    refine v_iadd ok dX7_wordTold_151 ?_
    refine v_iload_n ok 3 dX7_wordTold_152 rfl rfl ?_
    refine v_iadd ok dX7_wordTold_153 ?_
    refine v_aload_n ok 0 dX7_wordTold_154 rfl rfl ?_
    refine v_gR ok fl_X7_105 (by first | exact Or.inl ⟨_, rfl⟩ | exact Or.inr ⟨_, rfl⟩) dX7_wordTold_155 hf (fun v6 hf => ?_)
    refine v_iload_n ok 3 dX7_wordTold_158 rfl rfl ?_
    refine v_iald ok rfl dX7_wordTold_159 hf (fun v7 hf => ?_)
    refine v_iast ok rfl dX7_wordTold_160 hf (fun h8 hf => ?_)
    refine v_iinc ok x3 (x3 + 1) dX7_wordTold_161 rfl rfl (by decide) ?_
    refine v_goto ok 131 dX7_wordTold_164 rfl ?_
    cases hf; exact hk _ ⟨rfl, rfl, trivial⟩
theorem W_X7_wordTold_131 {G : GT} {X : CX} {d : Nat} {h0 : AH} {Q : State → Prop} (ok : Ok G X RX7 cX7_wordTold 4 d h0) (hr : (cxm X).sig.returnType = none) (hd : 5 ≤ d) {a0 : Nat} {x3 : Int32} {h : AH} {z : (AH)} (hf : X7_wordTold_131  a0 x3 h = some z) (hk : Q = QM G X h0 none z) {lv : List (Nat × AV)} (hl : lle lv [(0, vr (some a0)), (3, vi x3)]) : V G X 4 h0 Q h 131 lv [] := by
  unfold X7_wordTold_131 at hf
  exact loopC_walk (Wh := fun s : Int32 × AH => ∀ lv : List (Nat × AV), lle lv [(0, vr (some a0)), (3, vi s.1)] → V G X 4 h0 Q s.2 131 lv []) (PK := fun z => Q = QM G X h0 none z) (fun s o hf hk lv hl => W_X7_wordTold_131b ok hr hd hf (by cases o <;> exact hk) hl) _ z hf hk lv hl
theorem W_X7_wordTold_99 {G : GT} {X : CX} {d : Nat} {h0 : AH} {Q : State → Prop} (ok : Ok G X RX7 cX7_wordTold 4 d h0) (hr : (cxm X).sig.returnType = none) (hd : 5 ≤ d) {a0 : Nat} {x2 : Int32} {h : AH} {z : (AH)} (hf : X7_wordTold_99 a0 x2 h = some z) (hk : Q = QM G X h0 none z) {lv : List (Nat × AV)} (hl : lle lv [(0, vr (some a0)), (2, vi x2)]) : V G X 4 h0 Q h 99 lv [] := by
  refine V.sub hl ?_
  unfold X7_wordTold_99 at hf
  refine v_iload_n ok 2 dX7_wordTold_99 rfl rfl ?_
  refine v_if_ne ok 113 dX7_wordTold_100 rfl hf (fun hf => ?_) (fun hf => ?_)
  ·
    refine v_aload_n ok 0 dX7_wordTold_113 rfl rfl ?_
    refine v_gR ok fl_X7_114 (by first | exact Or.inl ⟨_, rfl⟩ | exact Or.inr ⟨_, rfl⟩) dX7_wordTold_114 hf (fun v9 hf => ?_)
    refine v_bipush ok 7 dX7_wordTold_117 rfl ?_
    refine v_aload_n ok 0 dX7_wordTold_119 rfl rfl ?_
    refine v_gI ok fl_X7_335 (fun _ _ _ => rfl) dX7_wordTold_120 hf (fun v10 hf => ?_)
    refine v_imul ok dX7_wordTold_123 ?_
    refine v_aload_n ok 0 dX7_wordTold_124 rfl rfl ?_
    refine v_gI ok fl_X7_304 (fun _ _ _ => rfl) dX7_wordTold_125 hf (fun v11 hf => ?_)
    refine v_iast ok rfl dX7_wordTold_128 hf (fun h12 hf => ?_)
    refine v_iconst ok 0 dX7_wordTold_129 rfl ?_
    refine v_istore_n ok 3 dX7_wordTold_130 rfl (by decide) ?_
    exact W_X7_wordTold_131 ok hr hd hf hk ⟨rfl, rfl, trivial⟩
  ·
    refine v_aload_n ok 0 dX7_wordTold_103 rfl rfl ?_
    refine v_iconst ok 3 dX7_wordTold_104 rfl ?_
    refine v_aload_n ok 0 dX7_wordTold_105 rfl rfl ?_
    refine v_gI ok fl_X7_311 (fun _ _ _ => rfl) dX7_wordTold_106 hf (fun v13 hf => ?_)
    refine v_cVv ok (RX7, TX7, 117) cf_7.1 [vi 3, vi v13] (F := fun a => X7_fail a 3 v13 h) (fun a h1 _ hv => M_X7_fail ok.2.2.2.2.2.2.1 (d := 1) (Nat.le_refl _) hv) (by exact Nat.le_trans (by decide) hd) cw_X7_fail q2177 q2179 qs72 dX7_wordTold_109 [] rfl (Nat.le_of_ble_eq_true rfl) hf (fun h14 hf => ?_)
    exact v_vret ok hr (by cases hf; exact hk) dX7_wordTold_112
theorem W_X7_wordTold_60b {G : GT} {X : CX} {d : Nat} {h0 : AH} {Q : State → Prop} (ok : Ok G X RX7 cX7_wordTold 4 d h0) (hr : (cxm X).sig.returnType = none) (hd : 5 ≤ d) {a0 : Nat} {x2 : Int32} {x3 : Int32} {h : AH} {z : ((Int32 × Int32 × AH) ⊕ (AH))} (hf : X7_wordTold_60b  a0 x2 x3 h = some z) (hk : pkX7_wordTold_60 G X h0 Q a0 z) {lv : List (Nat × AV)} (hl : lle lv [(0, vr (some a0)), (2, vi x2), (3, vi x3)]) : V G X 4 h0 Q h 60 lv [] := by
  refine V.sub hl ?_
  unfold X7_wordTold_60b at hf
  refine v_iload_n ok 3 dX7_wordTold_60 rfl rfl ?_
  refine v_aload_n ok 0 dX7_wordTold_61 rfl rfl ?_
  refine v_gI ok fl_X7_304 (fun _ _ _ => rfl) dX7_wordTold_62 hf (fun v15 hf => ?_)
  refine v_icmp_ge ok 99 dX7_wordTold_65 rfl hf (fun hf => ?_) (fun hf => ?_)
  ·
    obtain ⟨o, ho, hz⟩ := ob hf
    cases hz; exact W_X7_wordTold_99 ok hr hd ho hk ⟨rfl, rfl, trivial⟩
  ·
    refine v_iload_n ok 2 dX7_wordTold_68 rfl rfl ?_
    refine v_if_eq ok 99 dX7_wordTold_69 rfl hf (fun hf => ?_) (fun hf => ?_)
    ·
      obtain ⟨o, ho, hz⟩ := ob hf
      cases hz; exact W_X7_wordTold_99 ok hr hd ho hk ⟨rfl, rfl, trivial⟩
    ·
      refine v_aload_n ok 0 dX7_wordTold_72 rfl rfl ?_
      refine v_iconst ok 0 dX7_wordTold_73 rfl ?_
      refine v_aload_n ok 0 dX7_wordTold_74 rfl rfl ?_
      refine v_gR ok fl_X7_105 (by first | exact Or.inl ⟨_, rfl⟩ | exact Or.inr ⟨_, rfl⟩) dX7_wordTold_75 hf (fun v16 hf => ?_)
      refine v_iload_n ok 3 dX7_wordTold_78 rfl rfl ?_
      refine v_iald ok rfl dX7_wordTold_79 hf (fun v17 hf => ?_)
      refine v_cVi ok (RX7, TX7, 117) cf_7.1 [vi 0, vi v17] (F := fun a => X7_toldAt a 0 v17 h) (fun a v h1 _ hv => M_X7_toldAt ok.2.2.2.2.2.2.1 (d := 1) (Nat.le_refl _) hv) (by exact Nat.le_trans (by decide) hd) cw_X7_toldAt q2218 q2220 qs80 dX7_wordTold_80 [] rfl (Nat.le_of_ble_eq_true rfl) hf (fun v18 h19 hf => ?_)
      refine v_iconst ok (-1) dX7_wordTold_83 rfl ?_
      refine v_icmp_eq ok 91 dX7_wordTold_84 rfl hf (fun hf => ?_) (fun hf => ?_)
      ·
        refine v_iconst ok 0 dX7_wordTold_91 rfl ?_
        refine v_istore_n ok 2 dX7_wordTold_92 rfl (by decide) ?_
        refine v_iinc ok x3 (x3 + 1) dX7_wordTold_93 rfl rfl (by decide) ?_
        refine v_goto ok 60 dX7_wordTold_96 rfl ?_
        cases hf; exact hk _ ⟨rfl, rfl, rfl, trivial⟩
      ·
        refine v_iconst ok 1 dX7_wordTold_87 rfl ?_
        refine v_goto ok 92 dX7_wordTold_88 rfl ?_
        refine v_istore_n ok 2 dX7_wordTold_92 rfl (by decide) ?_
        refine v_iinc ok x3 (x3 + 1) dX7_wordTold_93 rfl rfl (by decide) ?_
        refine v_goto ok 60 dX7_wordTold_96 rfl ?_
        cases hf; exact hk _ ⟨rfl, rfl, rfl, trivial⟩
theorem W_X7_wordTold_60 {G : GT} {X : CX} {d : Nat} {h0 : AH} {Q : State → Prop} (ok : Ok G X RX7 cX7_wordTold 4 d h0) (hr : (cxm X).sig.returnType = none) (hd : 5 ≤ d) {a0 : Nat} {x2 : Int32} {x3 : Int32} {h : AH} {z : (AH)} (hf : X7_wordTold_60  a0 x2 x3 h = some z) (hk : Q = QM G X h0 none z) {lv : List (Nat × AV)} (hl : lle lv [(0, vr (some a0)), (2, vi x2), (3, vi x3)]) : V G X 4 h0 Q h 60 lv [] := by
  unfold X7_wordTold_60 at hf
  exact loopC_walk (Wh := fun s : Int32 × Int32 × AH => ∀ lv : List (Nat × AV), lle lv [(0, vr (some a0)), (2, vi s.1), (3, vi s.2.1)] → V G X 4 h0 Q s.2.2 60 lv []) (PK := fun z => Q = QM G X h0 none z) (fun s o hf hk lv hl => W_X7_wordTold_60b ok hr hd hf (by cases o <;> exact hk) hl) _ z hf hk lv hl
theorem W_X7_wordTold_22 {G : GT} {X : CX} {d : Nat} {h0 : AH} {Q : State → Prop} (ok : Ok G X RX7 cX7_wordTold 4 d h0) (hr : (cxm X).sig.returnType = none) (hd : 5 ≤ d) {a0 : Nat} {h : AH} {z : (AH)} (hf : X7_wordTold_22 a0 h = some z) (hk : Q = QM G X h0 none z) {lv : List (Nat × AV)} (hl : lle lv [(0, vr (some a0))]) : V G X 4 h0 Q h 22 lv [] := by
  refine V.sub hl ?_
  unfold X7_wordTold_22 at hf
  refine v_aload_n ok 0 dX7_wordTold_22 rfl rfl ?_
  refine v_gI ok fl_X7_257 (fun _ _ _ => rfl) dX7_wordTold_23 hf (fun v20 hf => ?_)
  refine v_if_eq ok 30 dX7_wordTold_26 rfl hf (fun hf => ?_) (fun hf => ?_)
  ·
    refine v_aload_n ok 0 dX7_wordTold_30 rfl rfl ?_
    refine v_bipush ok 6 dX7_wordTold_31 rfl ?_
    refine v_cVv ok (RX7, TX7, 117) cf_7.1 [vi 6] (F := fun a => X7_name a 6 h) (fun a h1 _ hv => M_X7_name ok.2.2.2.2.2.2.1 (d := 4) (Nat.le_refl _) hv) (by exact Nat.le_trans (by decide) hd) cw_X7_name q2196 q2198 qs76 dX7_wordTold_33 [] rfl (Nat.le_of_ble_eq_true rfl) hf (fun h21 hf => ?_)
    refine v_aload_n ok 0 dX7_wordTold_36 rfl rfl ?_
    refine v_gI ok fl_X7_257 (fun _ _ _ => rfl) dX7_wordTold_37 hf (fun v22 hf => ?_)
    refine v_if_eq ok 44 dX7_wordTold_40 rfl hf (fun hf => ?_) (fun hf => ?_)
    ·
      refine v_aload_n ok 0 dX7_wordTold_44 rfl rfl ?_
      refine v_cVi ok (RX7, TX7, 117) cf_7.1 [] (F := fun a => X7_wordNamed a h21) (fun a v h1 _ hv => M_X7_wordNamed ok.2.2.2.2.2.2.1 (d := 1) (Nat.le_refl _) hv) (by exact Nat.le_trans (by decide) hd) cw_X7_wordNamed q2230 q2232 qs83 dX7_wordTold_45 [] rfl (Nat.le_of_ble_eq_true rfl) hf (fun v23 h24 hf => ?_)
      refine v_iconst ok (-1) dX7_wordTold_48 rfl ?_
      refine v_icmp_ne ok 56 dX7_wordTold_49 rfl hf (fun hf => ?_) (fun hf => ?_)
      ·
        refine v_iconst ok 0 dX7_wordTold_56 rfl ?_
        refine v_istore_n ok 2 dX7_wordTold_57 rfl (by decide) ?_
        refine v_iconst ok 0 dX7_wordTold_58 rfl ?_
        refine v_istore_n ok 3 dX7_wordTold_59 rfl (by decide) ?_
        exact W_X7_wordTold_60 ok hr hd hf hk ⟨rfl, rfl, rfl, trivial⟩
      ·
        refine v_iconst ok 1 dX7_wordTold_52 rfl ?_
        refine v_goto ok 57 dX7_wordTold_53 rfl ?_
        refine v_istore_n ok 2 dX7_wordTold_57 rfl (by decide) ?_
        refine v_iconst ok 0 dX7_wordTold_58 rfl ?_
        refine v_istore_n ok 3 dX7_wordTold_59 rfl (by decide) ?_
        exact W_X7_wordTold_60 ok hr hd hf hk ⟨rfl, rfl, rfl, trivial⟩
    ·
      exact v_vret ok hr (by cases hf; exact hk) dX7_wordTold_43
  ·
    exact v_vret ok hr (by cases hf; exact hk) dX7_wordTold_29
theorem W_X7_wordTold {G : GT} {X : CX} {d : Nat} {h0 : AH} {Q : State → Prop} (ok : Ok G X RX7 cX7_wordTold 4 d h0) (hr : (cxm X).sig.returnType = none) (hd : 5 ≤ d) {a0 : Nat} {x1 : Int32} {h : AH} {z : (AH)} (hf : X7_wordTold a0 x1 h = some z) (hk : Q = QM G X h0 none z) {lv : List (Nat × AV)} (hl : lle lv [(0, vr (some a0)), (1, vi x1)]) : V G X 4 h0 Q h 0 lv [] := by
  refine V.sub hl ?_
  unfold X7_wordTold at hf
  refine v_aload_n ok 0 dX7_wordTold_0 rfl rfl ?_
  refine v_gI ok fl_X7_257 (fun _ _ _ => rfl) dX7_wordTold_1 hf (fun v25 hf => ?_)
  refine v_if_ne ok 22 dX7_wordTold_4 rfl hf (fun hf => ?_) (fun hf => ?_)
  ·
    exact W_X7_wordTold_22 ok hr hd hf hk ⟨rfl, trivial⟩
  ·
    refine v_aload_n ok 0 dX7_wordTold_7 rfl rfl ?_
    refine v_gI ok fl_X7_335 (fun _ _ _ => rfl) dX7_wordTold_8 hf (fun v26 hf => ?_)
    refine v_bipush ok 8 dX7_wordTold_11 rfl ?_
    refine v_icmp_ne ok 22 dX7_wordTold_13 rfl hf (fun hf => ?_) (fun hf => ?_)
    ·
      exact W_X7_wordTold_22 ok hr hd hf hk ⟨rfl, trivial⟩
    ·
      refine v_aload_n ok 0 dX7_wordTold_16 rfl rfl ?_
      refine v_iconst ok 5 dX7_wordTold_17 rfl ?_
      refine v_iload_n ok 1 dX7_wordTold_18 rfl rfl ?_
      refine v_cVv ok (RX7, TX7, 117) cf_7.1 [vi 5, vi x1] (F := fun a => X7_fail a 5 x1 h) (fun a h1 _ hv => M_X7_fail ok.2.2.2.2.2.2.1 (d := 1) (Nat.le_refl _) hv) (by exact Nat.le_trans (by decide) hd) cw_X7_fail q2177 q2179 qs72 dX7_wordTold_19 [] rfl (Nat.le_of_ble_eq_true rfl) hf (fun h27 hf => ?_)
      exact W_X7_wordTold_22 ok hr hd hf hk ⟨rfl, trivial⟩
theorem M_X7_wordTold {G : GT} {l : Launch} (hG : Glob G) {d : Nat} (hd : 5 ≤ d) {a0 : Nat} {x1 : Int32} {h : AH} {h' : AH} (hf : X7_wordTold a0 x1 h = some h') : MM G l yX7_wordTold cX7_wordTold 4 none d [vr (some a0), vi x1] h none h' := by
  refine mm_of hG (plainFor_of_name (by decide)) (Nat.le_of_ble_eq_true rfl) (fun X hX ok hr hnm => ?_)
  subst hX
  exact W_X7_wordTold ok hr hd hf rfl ⟨rfl, rfl, trivial⟩
theorem cw_X7_statementTold : CW yX7_statementTold cX7_statementTold 2 none 0 := ⟨q2176, q185, ⟨by decide, by decide⟩, by decide +kernel, by decide⟩
theorem W_X7_statementTold_192 {G : GT} {X : CX} {d : Nat} {h0 : AH} {Q : State → Prop} (ok : Ok G X RX7 cX7_statementTold 2 d h0) (hr : (cxm X).sig.returnType = none) (hd : 11 ≤ d) {a0 : Nat} {h : AH} {z : (AH)} (hf : X7_statementTold_192 a0 h = some z) (hk : Q = QM G X h0 none z) {lv : List (Nat × AV)} (hl : lle lv [(0, vr (some a0))]) : V G X 2 h0 Q h 192 lv [] := by
  refine V.sub hl ?_
  unfold X7_statementTold_192 at hf
  refine v_aload_n ok 0 dX7_statementTold_192 rfl rfl ?_
  refine v_bipush ok 59 dX7_statementTold_193 rfl ?_
  refine v_cVv ok (RX7, TX7, 117) cf_7.1 [vi 59] (F := fun a => X7_asksSign a 59 h) (fun a h1 _ hv => M_X7_asksSign ok.2.2.2.2.2.2.1 (d := 3) (Nat.le_refl _) hv) (by exact Nat.le_trans (by decide) hd) cw_X7_asksSign q2278 q2280 qs95 dX7_statementTold_195 [] rfl (Nat.le_of_ble_eq_true rfl) hf (fun h1 hf => ?_)
  refine v_aload_n ok 0 dX7_statementTold_198 rfl rfl ?_
  refine v_dup ok dX7_statementTold_199 rfl ?_
  refine v_gI ok fl_X7_365 (fun _ _ _ => rfl) dX7_statementTold_200 hf (fun v2 hf => ?_)
  refine v_iconst ok 1 dX7_statementTold_203 rfl ?_
  refine v_iadd ok dX7_statementTold_204 ?_
  refine v_pI ok fl_X7_365 ⟨fun _ _ _ => rfl, rfl⟩ (FN.of cf_7.1 rfl) dX7_statementTold_205 hf (fun h3 hf => ?_)
  exact v_vret ok hr (by cases hf; exact hk) dX7_statementTold_208
theorem W_X7_statementTold {G : GT} {X : CX} {d : Nat} {h0 : AH} {Q : State → Prop} (ok : Ok G X RX7 cX7_statementTold 2 d h0) (hr : (cxm X).sig.returnType = none) (hd : 11 ≤ d) {a0 : Nat} {h : AH} {z : (AH)} (hf : X7_statementTold a0 h = some z) (hk : Q = QM G X h0 none z) {lv : List (Nat × AV)} (hl : lle lv [(0, vr (some a0))]) : V G X 2 h0 Q h 0 lv [] := by
  refine V.sub hl ?_
  unfold X7_statementTold at hf
  refine v_aload_n ok 0 dX7_statementTold_0 rfl rfl ?_
  refine v_gI ok fl_X7_263 (fun _ _ _ => rfl) dX7_statementTold_1 hf (fun v4 hf => ?_)
  refine v_istore_n ok 1 dX7_statementTold_4 rfl (by decide) ?_
  refine v_aload_n ok 0 dX7_statementTold_5 rfl rfl ?_
  refine v_gI ok fl_X7_365 (fun _ _ _ => rfl) dX7_statementTold_6 hf (fun v5 hf => ?_)
  refine v_bipush ok 60 dX7_statementTold_9 rfl ?_
  refine v_icmp_ne ok 21 dX7_statementTold_11 rfl hf (fun hf => ?_) (fun hf => ?_)
  ·
    refine v_aload_n ok 0 dX7_statementTold_21 rfl rfl ?_
    refine v_aload_n ok 0 dX7_statementTold_22 rfl rfl ?_
    refine v_gR ok fl_X7_20 (by first | exact Or.inl ⟨_, rfl⟩ | exact Or.inr ⟨_, rfl⟩) dX7_statementTold_23 hf (fun v6 hf => ?_)
    refine v_cVi ok (RX7, TX7, 117) cf_7.1 [vr v6] (F := fun a => X7_takes a v6 h) (fun a v h1 _ hv => M_X7_takes ok.2.2.2.2.2.2.1 (d := 3) (Nat.le_refl _) hv) (by exact Nat.le_trans (by decide) hd) cw_X7_takes q2181 q2183 qs73 dX7_statementTold_26 [] rfl (Nat.le_of_ble_eq_true rfl) hf (fun v7 h8 hf => ?_)
    refine v_if_eq ok 39 dX7_statementTold_29 rfl hf (fun hf => ?_) (fun hf => ?_)
    ·
      refine v_aload_n ok 0 dX7_statementTold_39 rfl rfl ?_
      refine v_aload_n ok 0 dX7_statementTold_40 rfl rfl ?_
      refine v_gR ok fl_X7_30 (by first | exact Or.inl ⟨_, rfl⟩ | exact Or.inr ⟨_, rfl⟩) dX7_statementTold_41 hf (fun v9 hf => ?_)
      refine v_cVi ok (RX7, TX7, 117) cf_7.1 [vr v9] (F := fun a => X7_takes a v9 h8) (fun a v h1 _ hv => M_X7_takes ok.2.2.2.2.2.2.1 (d := 3) (Nat.le_refl _) hv) (by exact Nat.le_trans (by decide) hd) cw_X7_takes q2181 q2183 qs73 dX7_statementTold_44 [] rfl (Nat.le_of_ble_eq_true rfl) hf (fun v10 h11 hf => ?_)
      refine v_if_eq ok 58 dX7_statementTold_47 rfl hf (fun hf => ?_) (fun hf => ?_)
      ·
        refine v_aload_n ok 0 dX7_statementTold_58 rfl rfl ?_
        refine v_aload_n ok 0 dX7_statementTold_59 rfl rfl ?_
        refine v_gR ok fl_X7_33 (by first | exact Or.inl ⟨_, rfl⟩ | exact Or.inr ⟨_, rfl⟩) dX7_statementTold_60 hf (fun v12 hf => ?_)
        refine v_cVi ok (RX7, TX7, 117) cf_7.1 [vr v12] (F := fun a => X7_takes a v12 h11) (fun a v h1 _ hv => M_X7_takes ok.2.2.2.2.2.2.1 (d := 3) (Nat.le_refl _) hv) (by exact Nat.le_trans (by decide) hd) cw_X7_takes q2181 q2183 qs73 dX7_statementTold_63 [] rfl (Nat.le_of_ble_eq_true rfl) hf (fun v13 h14 hf => ?_)
        refine v_if_eq ok 77 dX7_statementTold_66 rfl hf (fun hf => ?_) (fun hf => ?_)
        ·
          refine v_aload_n ok 0 dX7_statementTold_77 rfl rfl ?_
          refine v_aload_n ok 0 dX7_statementTold_78 rfl rfl ?_
          refine v_gR ok fl_X7_36 (by first | exact Or.inl ⟨_, rfl⟩ | exact Or.inr ⟨_, rfl⟩) dX7_statementTold_79 hf (fun v15 hf => ?_)
          refine v_cVi ok (RX7, TX7, 117) cf_7.1 [vr v15] (F := fun a => X7_takes a v15 h14) (fun a v h1 _ hv => M_X7_takes ok.2.2.2.2.2.2.1 (d := 3) (Nat.le_refl _) hv) (by exact Nat.le_trans (by decide) hd) cw_X7_takes q2181 q2183 qs73 dX7_statementTold_82 [] rfl (Nat.le_of_ble_eq_true rfl) hf (fun v16 h17 hf => ?_)
          refine v_if_eq ok 97 dX7_statementTold_85 rfl hf (fun hf => ?_) (fun hf => ?_)
          ·
            refine v_aload_n ok 0 dX7_statementTold_97 rfl rfl ?_
            refine v_aload_n ok 0 dX7_statementTold_98 rfl rfl ?_
            refine v_gR ok fl_X7_39 (by first | exact Or.inl ⟨_, rfl⟩ | exact Or.inr ⟨_, rfl⟩) dX7_statementTold_99 hf (fun v18 hf => ?_)
            refine v_cVi ok (RX7, TX7, 117) cf_7.1 [vr v18] (F := fun a => X7_takes a v18 h17) (fun a v h1 _ hv => M_X7_takes ok.2.2.2.2.2.2.1 (d := 3) (Nat.le_refl _) hv) (by exact Nat.le_trans (by decide) hd) cw_X7_takes q2181 q2183 qs73 dX7_statementTold_102 [] rfl (Nat.le_of_ble_eq_true rfl) hf (fun v19 h20 hf => ?_)
            refine v_if_eq ok 117 dX7_statementTold_105 rfl hf (fun hf => ?_) (fun hf => ?_)
            ·
              refine v_aload_n ok 0 dX7_statementTold_117 rfl rfl ?_
              refine v_aload_n ok 0 dX7_statementTold_118 rfl rfl ?_
              refine v_gR ok fl_X7_102 (by first | exact Or.inl ⟨_, rfl⟩ | exact Or.inr ⟨_, rfl⟩) dX7_statementTold_119 hf (fun v21 hf => ?_)
              refine v_cVi ok (RX7, TX7, 117) cf_7.1 [vr v21] (F := fun a => X7_takes a v21 h20) (fun a v h1 _ hv => M_X7_takes ok.2.2.2.2.2.2.1 (d := 3) (Nat.le_refl _) hv) (by exact Nat.le_trans (by decide) hd) cw_X7_takes q2181 q2183 qs73 dX7_statementTold_122 [] rfl (Nat.le_of_ble_eq_true rfl) hf (fun v22 h23 hf => ?_)
              refine v_if_eq ok 144 dX7_statementTold_125 rfl hf (fun hf => ?_) (fun hf => ?_)
              ·
                refine v_aload_n ok 0 dX7_statementTold_144 rfl rfl ?_
                refine v_aload_n ok 0 dX7_statementTold_145 rfl rfl ?_
                refine v_gR ok fl_X7_42 (by first | exact Or.inl ⟨_, rfl⟩ | exact Or.inr ⟨_, rfl⟩) dX7_statementTold_146 hf (fun v24 hf => ?_)
                refine v_cVi ok (RX7, TX7, 117) cf_7.1 [vr v24] (F := fun a => X7_takes a v24 h23) (fun a v h1 _ hv => M_X7_takes ok.2.2.2.2.2.2.1 (d := 3) (Nat.le_refl _) hv) (by exact Nat.le_trans (by decide) hd) cw_X7_takes q2181 q2183 qs73 dX7_statementTold_149 [] rfl (Nat.le_of_ble_eq_true rfl) hf (fun v25 h26 hf => ?_)
                refine v_if_eq ok 171 dX7_statementTold_152 rfl hf (fun hf => ?_) (fun hf => ?_)
                ·
                  refine v_aload_n ok 0 dX7_statementTold_171 rfl rfl ?_
                  refine v_aload_n ok 0 dX7_statementTold_172 rfl rfl ?_
                  refine v_gR ok fl_X7_45 (by first | exact Or.inl ⟨_, rfl⟩ | exact Or.inr ⟨_, rfl⟩) dX7_statementTold_173 hf (fun v27 hf => ?_)
                  refine v_cVv ok (RX7, TX7, 117) cf_7.1 [vr v27] (F := fun a => X7_asks a v27 h26) (fun a h1 _ hv => M_X7_asks ok.2.2.2.2.2.2.1 (d := 4) (Nat.le_refl _) hv) (by exact Nat.le_trans (by decide) hd) cw_X7_asks q2204 q2206 qs78 dX7_statementTold_176 [] rfl (Nat.le_of_ble_eq_true rfl) hf (fun h28 hf => ?_)
                  refine v_aload_n ok 0 dX7_statementTold_179 rfl rfl ?_
                  refine v_gR ok fl_X7_120 (by first | exact Or.inl ⟨_, rfl⟩ | exact Or.inr ⟨_, rfl⟩) dX7_statementTold_180 hf (fun v29 hf => ?_)
                  refine v_iconst ok 2 dX7_statementTold_183 rfl ?_
                  refine v_aload_n ok 0 dX7_statementTold_184 rfl rfl ?_
                  refine v_iconst ok 0 dX7_statementTold_185 rfl ?_
                  refine v_bipush ok 100 dX7_statementTold_186 rfl ?_
                  refine v_cVi ok (RX7, TX7, 117) cf_7.1 [vi 0, vi 100] (F := fun a => X7_number a 0 100 h28) (fun a v h1 _ hv => M_X7_number ok.2.2.2.2.2.2.1 (d := 2) (Nat.le_refl _) hv) (by exact Nat.le_trans (by decide) hd) cw_X7_number q2208 q2210 qs79 dX7_statementTold_188 [vi 2, vr v29] rfl (Nat.le_of_ble_eq_true rfl) hf (fun v30 h31 hf => ?_)
                  refine v_iast ok rfl dX7_statementTold_191 hf (fun h32 hf => ?_)
                  exact W_X7_statementTold_192 ok hr hd hf hk ⟨rfl, trivial⟩
                ·
                  refine v_aload_n ok 0 dX7_statementTold_155 rfl rfl ?_
                  refine v_gR ok fl_X7_120 (by first | exact Or.inl ⟨_, rfl⟩ | exact Or.inr ⟨_, rfl⟩) dX7_statementTold_156 hf (fun v33 hf => ?_)
                  refine v_iconst ok 1 dX7_statementTold_159 rfl ?_
                  refine v_aload_n ok 0 dX7_statementTold_160 rfl rfl ?_
                  refine v_iconst ok 0 dX7_statementTold_161 rfl ?_
                  refine v_bipush ok 99 dX7_statementTold_162 rfl ?_
                  refine v_cVi ok (RX7, TX7, 117) cf_7.1 [vi 0, vi 99] (F := fun a => X7_number a 0 99 h26) (fun a v h1 _ hv => M_X7_number ok.2.2.2.2.2.2.1 (d := 2) (Nat.le_refl _) hv) (by exact Nat.le_trans (by decide) hd) cw_X7_number q2208 q2210 qs79 dX7_statementTold_164 [vi 1, vr v33] rfl (Nat.le_of_ble_eq_true rfl) hf (fun v34 h35 hf => ?_)
                  refine v_iast ok rfl dX7_statementTold_167 hf (fun h36 hf => ?_)
                  refine v_goto ok 192 dX7_statementTold_168 rfl ?_
                  exact W_X7_statementTold_192 ok hr hd hf hk ⟨rfl, trivial⟩
              ·
                refine v_aload_n ok 0 dX7_statementTold_128 rfl rfl ?_
                refine v_gR ok fl_X7_120 (by first | exact Or.inl ⟨_, rfl⟩ | exact Or.inr ⟨_, rfl⟩) dX7_statementTold_129 hf (fun v37 hf => ?_)
                refine v_iconst ok 0 dX7_statementTold_132 rfl ?_
                refine v_aload_n ok 0 dX7_statementTold_133 rfl rfl ?_
                refine v_iconst ok 0 dX7_statementTold_134 rfl ?_
                refine v_bipush ok 99 dX7_statementTold_135 rfl ?_
                refine v_cVi ok (RX7, TX7, 117) cf_7.1 [vi 0, vi 99] (F := fun a => X7_number a 0 99 h23) (fun a v h1 _ hv => M_X7_number ok.2.2.2.2.2.2.1 (d := 2) (Nat.le_refl _) hv) (by exact Nat.le_trans (by decide) hd) cw_X7_number q2208 q2210 qs79 dX7_statementTold_137 [vi 0, vr v37] rfl (Nat.le_of_ble_eq_true rfl) hf (fun v38 h39 hf => ?_)
                refine v_iast ok rfl dX7_statementTold_140 hf (fun h40 hf => ?_)
                refine v_goto ok 192 dX7_statementTold_141 rfl ?_
                exact W_X7_statementTold_192 ok hr hd hf hk ⟨rfl, trivial⟩
            ·
              refine v_aload_n ok 0 dX7_statementTold_108 rfl rfl ?_
              refine v_iconst ok 1 dX7_statementTold_109 rfl ?_
              refine v_iload_n ok 1 dX7_statementTold_110 rfl rfl ?_
              refine v_cVv ok (RX7, TX7, 117) cf_7.1 [vi 1, vi v4] (F := fun a => X7_codesTold a 1 v4 h20) (fun a h1 _ hv => M_X7_codesTold ok.2.2.2.2.2.2.1 (d := 10) (Nat.le_refl _) hv) (by exact Nat.le_trans (by decide) hd) cw_X7_codesTold q2238 q2240 qs85 dX7_statementTold_111 [] rfl (Nat.le_of_ble_eq_true rfl) hf (fun h41 hf => ?_)
              refine v_goto ok 192 dX7_statementTold_114 rfl ?_
              exact W_X7_statementTold_192 ok hr hd hf hk ⟨rfl, trivial⟩
          ·
            refine v_aload_n ok 0 dX7_statementTold_88 rfl rfl ?_
            refine v_iconst ok 0 dX7_statementTold_89 rfl ?_
            refine v_iload_n ok 1 dX7_statementTold_90 rfl rfl ?_
            refine v_cVv ok (RX7, TX7, 117) cf_7.1 [vi 0, vi v4] (F := fun a => X7_codesTold a 0 v4 h17) (fun a h1 _ hv => M_X7_codesTold ok.2.2.2.2.2.2.1 (d := 10) (Nat.le_refl _) hv) (by exact Nat.le_trans (by decide) hd) cw_X7_codesTold q2238 q2240 qs85 dX7_statementTold_91 [] rfl (Nat.le_of_ble_eq_true rfl) hf (fun h42 hf => ?_)
            refine v_goto ok 192 dX7_statementTold_94 rfl ?_
            exact W_X7_statementTold_192 ok hr hd hf hk ⟨rfl, trivial⟩
        ·
          refine v_aload_n ok 0 dX7_statementTold_69 rfl rfl ?_
          refine v_iload_n ok 1 dX7_statementTold_70 rfl rfl ?_
          refine v_cVv ok (RX7, TX7, 117) cf_7.1 [vi v4] (F := fun a => X7_boardTold a v4 h14) (fun a h1 _ hv => M_X7_boardTold ok.2.2.2.2.2.2.1 (d := 5) (Nat.le_refl _) hv) (by exact Nat.le_trans (by decide) hd) cw_X7_boardTold q2234 q2236 qs84 dX7_statementTold_71 [] rfl (Nat.le_of_ble_eq_true rfl) hf (fun h43 hf => ?_)
          refine v_goto ok 192 dX7_statementTold_74 rfl ?_
          exact W_X7_statementTold_192 ok hr hd hf hk ⟨rfl, trivial⟩
      ·
        refine v_aload_n ok 0 dX7_statementTold_50 rfl rfl ?_
        refine v_iload_n ok 1 dX7_statementTold_51 rfl rfl ?_
        refine v_cVv ok (RX7, TX7, 117) cf_7.1 [vi v4] (F := fun a => X7_wordTold a v4 h11) (fun a h1 _ hv => M_X7_wordTold ok.2.2.2.2.2.2.1 (d := 5) (Nat.le_refl _) hv) (by exact Nat.le_trans (by decide) hd) cw_X7_wordTold q2226 q2228 qs82 dX7_statementTold_52 [] rfl (Nat.le_of_ble_eq_true rfl) hf (fun h44 hf => ?_)
        refine v_goto ok 192 dX7_statementTold_55 rfl ?_
        exact W_X7_statementTold_192 ok hr hd hf hk ⟨rfl, trivial⟩
    ·
      refine v_aload_n ok 0 dX7_statementTold_32 rfl rfl ?_
      refine v_cVv ok (RX7, TX7, 117) cf_7.1 [] (F := fun a => X7_letterTold a h8) (fun a h1 _ hv => M_X7_letterTold ok.2.2.2.2.2.2.1 (d := 5) (Nat.le_refl _) hv) (by exact Nat.le_trans (by decide) hd) cw_X7_letterTold q2192 q2194 qs75 dX7_statementTold_33 [] rfl (Nat.le_of_ble_eq_true rfl) hf (fun h45 hf => ?_)
      refine v_goto ok 192 dX7_statementTold_36 rfl ?_
      exact W_X7_statementTold_192 ok hr hd hf hk ⟨rfl, trivial⟩
  ·
    refine v_aload_n ok 0 dX7_statementTold_14 rfl rfl ?_
    refine v_iconst ok 5 dX7_statementTold_15 rfl ?_
    refine v_iload_n ok 1 dX7_statementTold_16 rfl rfl ?_
    refine v_cVv ok (RX7, TX7, 117) cf_7.1 [vi 5, vi v4] (F := fun a => X7_fail a 5 v4 h) (fun a h1 _ hv => M_X7_fail ok.2.2.2.2.2.2.1 (d := 1) (Nat.le_refl _) hv) (by exact Nat.le_trans (by decide) hd) cw_X7_fail q2177 q2179 qs72 dX7_statementTold_17 [] rfl (Nat.le_of_ble_eq_true rfl) hf (fun h46 hf => ?_)
    exact v_vret ok hr (by cases hf; exact hk) dX7_statementTold_20
theorem M_X7_statementTold {G : GT} {l : Launch} (hG : Glob G) {d : Nat} (hd : 11 ≤ d) {a0 : Nat} {h : AH} {h' : AH} (hf : X7_statementTold a0 h = some h') : MM G l yX7_statementTold cX7_statementTold 2 none d [vr (some a0)] h none h' := by
  refine mm_of hG (plainFor_of_name (by decide)) (Nat.le_of_ble_eq_true rfl) (fun X hX ok hr hnm => ?_)
  subst hX
  exact W_X7_statementTold ok hr hd hf rfl ⟨rfl, trivial⟩
theorem cw_X7_shop : CW yX7_shop cX7_shop 1 (Option.some Jvm.ClassFile.FieldType.int) 0 := ⟨q2168, q185, ⟨by decide, by decide⟩, by decide +kernel, by decide⟩
def pkX7_shop_103 (G : GT) (X : CX) (h0 : AH) (Q : State → Prop) (a0 : Nat) (o : ((AH) ⊕ (Int32 × AH))) : Prop := match o with
  | .inl s => ∀ lv : List (Nat × AV), lle lv [(0, vr (some a0))] → V G X 1 h0 Q s 103 lv []
  | .inr z => Q = QM G X h0 (some (vi z.1)) z.2
theorem W_X7_shop_125 {G : GT} {X : CX} {d : Nat} {h0 : AH} {Q : State → Prop} (ok : Ok G X RX7 cX7_shop 1 d h0) (hr : (cxm X).sig.returnType = (Option.some Jvm.ClassFile.FieldType.int)) (hd : 12 ≤ d) {a0 : Nat} {h : AH} {z : (Int32 × AH)} (hf : X7_shop_125 a0 h = some z) (hk : Q = QM G X h0 (some (vi z.1)) z.2) {lv : List (Nat × AV)} (hl : lle lv [(0, vr (some a0))]) : V G X 1 h0 Q h 125 lv [] := by
  refine V.sub hl ?_
  unfold X7_shop_125 at hf
  refine v_aload_n ok 0 dX7_shop_125 rfl rfl ?_
  refine v_aload_n ok 0 dX7_shop_126 rfl rfl ?_
  refine v_gI ok fl_X7_257 (fun _ _ _ => rfl) dX7_shop_127 hf (fun v1 hf => ?_)
  refine v_pI ok fl_X7_386 ⟨fun _ _ _ => rfl, rfl⟩ (FN.of cf_7.1 rfl) dX7_shop_130 hf (fun h2 hf => ?_)
  refine v_aload_n ok 0 dX7_shop_133 rfl rfl ?_
  refine v_aload_n ok 0 dX7_shop_134 rfl rfl ?_
  refine v_gI ok fl_X7_260 (fun _ _ _ => rfl) dX7_shop_135 hf (fun v3 hf => ?_)
  refine v_pI ok fl_X7_13 ⟨fun _ _ _ => rfl, rfl⟩ (FN.of cf_7.1 rfl) dX7_shop_138 hf (fun h4 hf => ?_)
  refine v_aload_n ok 0 dX7_shop_141 rfl rfl ?_
  refine v_gI ok fl_X7_257 (fun _ _ _ => rfl) dX7_shop_142 hf (fun v5 hf => ?_)
  refine v_if_eq ok 160 dX7_shop_145 rfl hf (fun hf => ?_) (fun hf => ?_)
  ·
    refine v_aload_n ok 0 dX7_shop_160 rfl rfl ?_
    refine v_cVv ok (RX7, TX7, 117) cf_7.1 [] (F := fun a => X7_stands a h4) (fun a h1 _ hv => M_X7_stands ok.2.2.2.2.2.2.1 (d := 4) (Nat.le_refl _) hv) (by exact Nat.le_trans (by decide) hd) cw_X7_stands q2329 q2331 qs107 dX7_shop_161 [] rfl (Nat.le_of_ble_eq_true rfl) hf (fun h6 hf => ?_)
    refine v_aload_n ok 0 dX7_shop_164 rfl rfl ?_
    refine v_gI ok fl_X7_365 (fun _ _ _ => rfl) dX7_shop_165 hf (fun v7 hf => ?_)
    exact v_iret ok hr (by cases hf; exact hk) dX7_shop_168
  ·
    refine v_aload_n ok 0 dX7_shop_148 rfl rfl ?_
    refine v_gR ok fl_X7_17 (by first | exact Or.inl ⟨_, rfl⟩ | exact Or.inr ⟨_, rfl⟩) dX7_shop_149 hf (fun v8 hf => ?_)
    refine v_iconst ok 1 dX7_shop_152 rfl ?_
    refine v_dup2 ok dX7_shop_153 rfl rfl ?_
    refine v_iald ok rfl dX7_shop_154 hf (fun v9 hf => ?_)
    refine v_iconst ok 1 dX7_shop_155 rfl ?_
    refine v_iadd ok dX7_shop_156 ?_
    refine v_iast ok rfl dX7_shop_157 hf (fun h10 hf => ?_)
    refine v_iconst ok (-1) dX7_shop_158 rfl ?_
    exact v_iret ok hr (by cases hf; exact hk) dX7_shop_159
theorem W_X7_shop_103b {G : GT} {X : CX} {d : Nat} {h0 : AH} {Q : State → Prop} (ok : Ok G X RX7 cX7_shop 1 d h0) (hr : (cxm X).sig.returnType = (Option.some Jvm.ClassFile.FieldType.int)) (hd : 12 ≤ d) {a0 : Nat} {h : AH} {z : ((AH) ⊕ (Int32 × AH))} (hf : X7_shop_103b  a0  h = some z) (hk : pkX7_shop_103 G X h0 Q a0 z) {lv : List (Nat × AV)} (hl : lle lv [(0, vr (some a0))]) : V G X 1 h0 Q h 103 lv [] := by
  refine V.sub hl ?_
  unfold X7_shop_103b at hf
  refine v_aload_n ok 0 dX7_shop_103 rfl rfl ?_
  refine v_gI ok fl_X7_257 (fun _ _ _ => rfl) dX7_shop_104 hf (fun v11 hf => ?_)
  refine v_if_ne ok 125 dX7_shop_107 rfl hf (fun hf => ?_) (fun hf => ?_)
  ·
    obtain ⟨o, ho, hz⟩ := ob hf
    cases hz; exact W_X7_shop_125 ok hr hd ho hk ⟨rfl, trivial⟩
  ·
    refine v_aload_n ok 0 dX7_shop_110 rfl rfl ?_
    refine v_cVi ok (RX7, TX7, 117) cf_7.1 [] (F := fun a => X7_look a h) (fun a v h1 _ hv => M_X7_look ok.2.2.2.2.2.2.1 (d := 1) (Nat.le_refl _) hv) (by exact Nat.le_trans (by decide) hd) cw_X7_look q2169 q2171 qs70 dX7_shop_111 [] rfl (Nat.le_of_ble_eq_true rfl) hf (fun v12 h13 hf => ?_)
    refine v_iconst ok (-1) dX7_shop_114 rfl ?_
    refine v_icmp_eq ok 125 dX7_shop_115 rfl hf (fun hf => ?_) (fun hf => ?_)
    ·
      obtain ⟨o, ho, hz⟩ := ob hf
      cases hz; exact W_X7_shop_125 ok hr hd ho hk ⟨rfl, trivial⟩
    ·
      refine v_aload_n ok 0 dX7_shop_118 rfl rfl ?_
      refine v_cVv ok (RX7, TX7, 117) cf_7.1 [] (F := fun a => X7_statementTold a h13) (fun a h1 _ hv => M_X7_statementTold ok.2.2.2.2.2.2.1 (d := 11) (Nat.le_refl _) hv) (by exact Nat.le_trans (by decide) hd) cw_X7_statementTold q2173 q2175 qs71 dX7_shop_119 [] rfl (Nat.le_of_ble_eq_true rfl) hf (fun h14 hf => ?_)
      refine v_goto ok 103 dX7_shop_122 rfl ?_
      cases hf; exact hk _ ⟨rfl, trivial⟩
theorem W_X7_shop_103 {G : GT} {X : CX} {d : Nat} {h0 : AH} {Q : State → Prop} (ok : Ok G X RX7 cX7_shop 1 d h0) (hr : (cxm X).sig.returnType = (Option.some Jvm.ClassFile.FieldType.int)) (hd : 12 ≤ d) {a0 : Nat} {h : AH} {z : (Int32 × AH)} (hf : X7_shop_103  a0 h = some z) (hk : Q = QM G X h0 (some (vi z.1)) z.2) {lv : List (Nat × AV)} (hl : lle lv [(0, vr (some a0))]) : V G X 1 h0 Q h 103 lv [] := by
  unfold X7_shop_103 at hf
  exact loopC_walk (Wh := fun s : AH => ∀ lv : List (Nat × AV), lle lv [(0, vr (some a0))] → V G X 1 h0 Q s 103 lv []) (PK := fun z => Q = QM G X h0 (some (vi z.1)) z.2) (fun s o hf hk lv hl => W_X7_shop_103b ok hr hd hf (by cases o <;> exact hk) hl) _ z hf hk lv hl
theorem W_X7_shop {G : GT} {X : CX} {d : Nat} {h0 : AH} {Q : State → Prop} (ok : Ok G X RX7 cX7_shop 1 d h0) (hr : (cxm X).sig.returnType = (Option.some Jvm.ClassFile.FieldType.int)) (hd : 12 ≤ d) {a0 : Nat} {h : AH} {z : (Int32 × AH)} (hf : X7_shop a0 h = some z) (hk : Q = QM G X h0 (some (vi z.1)) z.2) {lv : List (Nat × AV)} (hl : lle lv [(0, vr (some a0))]) : V G X 1 h0 Q h 0 lv [] := by
  refine V.sub hl ?_
  unfold X7_shop at hf
  refine v_aload_n ok 0 dX7_shop_0 rfl rfl ?_
  refine v_aload_n ok 0 dX7_shop_1 rfl rfl ?_
  refine v_gI ok fl_X7_254 (fun _ _ _ => rfl) dX7_shop_2 hf (fun v15 hf => ?_)
  refine v_pI ok fl_X7_266 ⟨fun _ _ _ => rfl, rfl⟩ (FN.of cf_7.1 rfl) dX7_shop_5 hf (fun h16 hf => ?_)
  refine v_aload_n ok 0 dX7_shop_8 rfl rfl ?_
  refine v_iconst ok 0 dX7_shop_9 rfl ?_
  refine v_pI ok fl_X7_254 ⟨fun _ _ _ => rfl, rfl⟩ (FN.of cf_7.1 rfl) dX7_shop_10 hf (fun h17 hf => ?_)
  refine v_aload_n ok 0 dX7_shop_13 rfl rfl ?_
  refine v_iconst ok 0 dX7_shop_14 rfl ?_
  refine v_pI ok fl_X7_263 ⟨fun _ _ _ => rfl, rfl⟩ (FN.of cf_7.1 rfl) dX7_shop_15 hf (fun h18 hf => ?_)
  refine v_aload_n ok 0 dX7_shop_18 rfl rfl ?_
  refine v_iconst ok (-1) dX7_shop_19 rfl ?_
  refine v_pI ok fl_X7_277 ⟨fun _ _ _ => rfl, rfl⟩ (FN.of cf_7.1 rfl) dX7_shop_20 hf (fun h19 hf => ?_)
  refine v_aload_n ok 0 dX7_shop_23 rfl rfl ?_
  refine v_iconst ok 0 dX7_shop_24 rfl ?_
  refine v_pI ok fl_X7_257 ⟨fun _ _ _ => rfl, rfl⟩ (FN.of cf_7.1 rfl) dX7_shop_25 hf (fun h20 hf => ?_)
  refine v_aload_n ok 0 dX7_shop_28 rfl rfl ?_
  refine v_iconst ok (-1) dX7_shop_29 rfl ?_
  refine v_pI ok fl_X7_260 ⟨fun _ _ _ => rfl, rfl⟩ (FN.of cf_7.1 rfl) dX7_shop_30 hf (fun h21 hf => ?_)
  refine v_aload_n ok 0 dX7_shop_33 rfl rfl ?_
  refine v_iconst ok 0 dX7_shop_34 rfl ?_
  refine v_pI ok fl_X7_362 ⟨fun _ _ _ => rfl, rfl⟩ (FN.of cf_7.1 rfl) dX7_shop_35 hf (fun h22 hf => ?_)
  refine v_aload_n ok 0 dX7_shop_38 rfl rfl ?_
  refine v_gR ok fl_X7_108 (by first | exact Or.inl ⟨_, rfl⟩ | exact Or.inr ⟨_, rfl⟩) dX7_shop_39 hf (fun v23 hf => ?_)
  refine v_iconst ok 0 dX7_shop_42 rfl ?_
  refine v_iconst ok 0 dX7_shop_43 rfl ?_
  refine v_iast ok rfl dX7_shop_44 hf (fun h24 hf => ?_)
  refine v_aload_n ok 0 dX7_shop_45 rfl rfl ?_
  refine v_gR ok fl_X7_108 (by first | exact Or.inl ⟨_, rfl⟩ | exact Or.inr ⟨_, rfl⟩) dX7_shop_46 hf (fun v25 hf => ?_)
  refine v_iconst ok 1 dX7_shop_49 rfl ?_
  refine v_iconst ok 0 dX7_shop_50 rfl ?_
  refine v_iast ok rfl dX7_shop_51 hf (fun h26 hf => ?_)
  refine v_aload_n ok 0 dX7_shop_52 rfl rfl ?_
  refine v_iconst ok 0 dX7_shop_53 rfl ?_
  refine v_pI ok fl_X7_335 ⟨fun _ _ _ => rfl, rfl⟩ (FN.of cf_7.1 rfl) dX7_shop_54 hf (fun h27 hf => ?_)
  refine v_aload_n ok 0 dX7_shop_57 rfl rfl ?_
  refine v_iconst ok 0 dX7_shop_58 rfl ?_
  refine v_pI ok fl_X7_341 ⟨fun _ _ _ => rfl, rfl⟩ (FN.of cf_7.1 rfl) dX7_shop_59 hf (fun h28 hf => ?_)
  refine v_aload_n ok 0 dX7_shop_62 rfl rfl ?_
  refine v_gR ok fl_X7_120 (by first | exact Or.inl ⟨_, rfl⟩ | exact Or.inr ⟨_, rfl⟩) dX7_shop_63 hf (fun v29 hf => ?_)
  refine v_iconst ok 0 dX7_shop_66 rfl ?_
  refine v_iconst ok 2 dX7_shop_67 rfl ?_
  refine v_iast ok rfl dX7_shop_68 hf (fun h30 hf => ?_)
  refine v_aload_n ok 0 dX7_shop_69 rfl rfl ?_
  refine v_gR ok fl_X7_120 (by first | exact Or.inl ⟨_, rfl⟩ | exact Or.inr ⟨_, rfl⟩) dX7_shop_70 hf (fun v31 hf => ?_)
  refine v_iconst ok 1 dX7_shop_73 rfl ?_
  refine v_bipush ok 9 dX7_shop_74 rfl ?_
  refine v_iast ok rfl dX7_shop_76 hf (fun h32 hf => ?_)
  refine v_aload_n ok 0 dX7_shop_77 rfl rfl ?_
  refine v_gR ok fl_X7_120 (by first | exact Or.inl ⟨_, rfl⟩ | exact Or.inr ⟨_, rfl⟩) dX7_shop_78 hf (fun v33 hf => ?_)
  refine v_iconst ok 2 dX7_shop_81 rfl ?_
  refine v_iconst ok 0 dX7_shop_82 rfl ?_
  refine v_iast ok rfl dX7_shop_83 hf (fun h34 hf => ?_)
  refine v_aload_n ok 0 dX7_shop_84 rfl rfl ?_
  refine v_gR ok fl_X7_123 (by first | exact Or.inl ⟨_, rfl⟩ | exact Or.inr ⟨_, rfl⟩) dX7_shop_85 hf (fun v35 hf => ?_)
  refine v_iconst ok 0 dX7_shop_88 rfl ?_
  refine v_iconst ok (-1) dX7_shop_89 rfl ?_
  refine v_iast ok rfl dX7_shop_90 hf (fun h36 hf => ?_)
  refine v_aload_n ok 0 dX7_shop_91 rfl rfl ?_
  refine v_gR ok fl_X7_123 (by first | exact Or.inl ⟨_, rfl⟩ | exact Or.inr ⟨_, rfl⟩) dX7_shop_92 hf (fun v37 hf => ?_)
  refine v_iconst ok 1 dX7_shop_95 rfl ?_
  refine v_iconst ok (-1) dX7_shop_96 rfl ?_
  refine v_iast ok rfl dX7_shop_97 hf (fun h38 hf => ?_)
  refine v_aload_n ok 0 dX7_shop_98 rfl rfl ?_
  refine v_iconst ok 0 dX7_shop_99 rfl ?_
  refine v_pI ok fl_X7_365 ⟨fun _ _ _ => rfl, rfl⟩ (FN.of cf_7.1 rfl) dX7_shop_100 hf (fun h39 hf => ?_)
  exact W_X7_shop_103 ok hr hd hf hk ⟨rfl, trivial⟩
theorem M_X7_shop {G : GT} {l : Launch} (hG : Glob G) {d : Nat} (hd : 12 ≤ d) {a0 : Nat} {h : AH} {v : Int32} {h' : AH} (hf : X7_shop a0 h = some (v, h')) : MM G l yX7_shop cX7_shop 1 (Option.some Jvm.ClassFile.FieldType.int) d [vr (some a0)] h (some (vi v)) h' := by
  refine mm_of hG (plainFor_of_name (by decide)) (Nat.le_of_ble_eq_true rfl) (fun X hX ok hr hnm => ?_)
  subst hX
  exact W_X7_shop ok hr hd hf rfl ⟨rfl, trivial⟩
theorem cw_X7_fault : CW yX7_fault cX7_fault 2 (Option.some Jvm.ClassFile.FieldType.int) 1 := ⟨q2360, q185, ⟨by decide, by decide⟩, by decide +kernel, by decide⟩
theorem W_X7_fault {G : GT} {X : CX} {d : Nat} {h0 : AH} {Q : State → Prop} (ok : Ok G X RX7 cX7_fault 2 d h0) (hr : (cxm X).sig.returnType = (Option.some Jvm.ClassFile.FieldType.int)) (hd : 1 ≤ d) {a0 : Nat} {x1 : Int32} {h : AH} {z : (Int32 × AH)} (hf : X7_fault a0 x1 h = some z) (hk : Q = QM G X h0 (some (vi z.1)) z.2) {lv : List (Nat × AV)} (hl : lle lv [(0, vr (some a0)), (1, vi x1)]) : V G X 2 h0 Q h 0 lv [] := by
  refine V.sub hl ?_
  unfold X7_fault at hf
  refine v_iload_n ok 1 dX7_fault_0 rfl rfl ?_
  refine v_if_ne ok 11 dX7_fault_1 rfl hf (fun hf => ?_) (fun hf => ?_)
  ·
    refine v_iload_n ok 1 dX7_fault_11 rfl rfl ?_
    refine v_iconst ok 1 dX7_fault_12 rfl ?_
    refine v_icmp_ne ok 23 dX7_fault_13 rfl hf (fun hf => ?_) (fun hf => ?_)
    ·
      refine v_iconst ok (-1) dX7_fault_23 rfl ?_
      exact v_iret ok hr (by cases hf; exact hk) dX7_fault_24
    ·
      refine v_aload_n ok 0 dX7_fault_16 rfl rfl ?_
      refine v_gI ok fl_X7_13 (fun _ _ _ => rfl) dX7_fault_17 hf (fun v1 hf => ?_)
      refine v_goto ok 24 dX7_fault_20 rfl ?_
      exact v_iret ok hr (by cases hf; exact hk) dX7_fault_24
  ·
    refine v_aload_n ok 0 dX7_fault_4 rfl rfl ?_
    refine v_gI ok fl_X7_386 (fun _ _ _ => rfl) dX7_fault_5 hf (fun v2 hf => ?_)
    refine v_goto ok 24 dX7_fault_8 rfl ?_
    exact v_iret ok hr (by cases hf; exact hk) dX7_fault_24
theorem M_X7_fault {G : GT} {l : Launch} (hG : Glob G) {d : Nat} (hd : 1 ≤ d) {a0 : Nat} {x1 : Int32} {h : AH} {v : Int32} {h' : AH} (hf : X7_fault a0 x1 h = some (v, h')) : MM G l yX7_fault cX7_fault 2 (Option.some Jvm.ClassFile.FieldType.int) d [vr (some a0), vi x1] h (some (vi v)) h' := by
  refine mm_of hG (plainFor_of_name (by decide)) (Nat.le_of_ble_eq_true rfl) (fun X hX ok hr hnm => ?_)
  subst hX
  exact W_X7_fault ok hr hd hf rfl ⟨rfl, rfl, trivial⟩
theorem cw_X7_boardMany : CW yX7_boardMany cX7_boardMany 1 (Option.some Jvm.ClassFile.FieldType.int) 0 := ⟨q2372, q185, ⟨by decide, by decide⟩, by decide +kernel, by decide⟩
theorem W_X7_boardMany {G : GT} {X : CX} {d : Nat} {h0 : AH} {Q : State → Prop} (ok : Ok G X RX7 cX7_boardMany 1 d h0) (hr : (cxm X).sig.returnType = (Option.some Jvm.ClassFile.FieldType.int)) (hd : 1 ≤ d) {a0 : Nat} {h : AH} {z : (Int32 × AH)} (hf : X7_boardMany a0 h = some z) (hk : Q = QM G X h0 (some (vi z.1)) z.2) {lv : List (Nat × AV)} (hl : lle lv [(0, vr (some a0))]) : V G X 1 h0 Q h 0 lv [] := by
  refine V.sub hl ?_
  unfold X7_boardMany at hf
  refine v_aload_n ok 0 dX7_boardMany_0 rfl rfl ?_
  refine v_gI ok fl_X7_395 (fun _ _ _ => rfl) dX7_boardMany_1 hf (fun v1 hf => ?_)
  exact v_iret ok hr (by cases hf; exact hk) dX7_boardMany_4
theorem M_X7_boardMany {G : GT} {l : Launch} (hG : Glob G) {d : Nat} (hd : 1 ≤ d) {a0 : Nat} {h : AH} {v : Int32} {h' : AH} (hf : X7_boardMany a0 h = some (v, h')) : MM G l yX7_boardMany cX7_boardMany 1 (Option.some Jvm.ClassFile.FieldType.int) d [vr (some a0)] h (some (vi v)) h' := by
  refine mm_of hG (plainFor_of_name (by decide)) (Nat.le_of_ble_eq_true rfl) (fun X hX ok hr hnm => ?_)
  subst hX
  exact W_X7_boardMany ok hr hd hf rfl ⟨rfl, trivial⟩
theorem cw_X7_bits : CW yX7_bits cX7_bits 3 (Option.some Jvm.ClassFile.FieldType.int) 1 := ⟨q2383, q185, ⟨by decide, by decide⟩, by decide +kernel, by decide⟩
def pkX7_bits_4 (G : GT) (X : CX) (h0 : AH) (Q : State → Prop)  (o : ((Int32 × Int32 × AH) ⊕ (Int32 × AH))) : Prop := match o with
  | .inl s => ∀ lv : List (Nat × AV), lle lv [(1, vi s.1), (2, vi s.2.1)] → V G X 3 h0 Q s.2.2 4 lv []
  | .inr z => Q = QM G X h0 (some (vi z.1)) z.2
theorem W_X7_bits_4b {G : GT} {X : CX} {d : Nat} {h0 : AH} {Q : State → Prop} (ok : Ok G X RX7 cX7_bits 3 d h0) (hr : (cxm X).sig.returnType = (Option.some Jvm.ClassFile.FieldType.int)) (hd : 1 ≤ d) {x1 : Int32} {x2 : Int32} {h : AH} {z : ((Int32 × Int32 × AH) ⊕ (Int32 × AH))} (hf : X7_bits_4b   x1 x2 h = some z) (hk : pkX7_bits_4 G X h0 Q  z) {lv : List (Nat × AV)} (hl : lle lv [(1, vi x1), (2, vi x2)]) : V G X 3 h0 Q h 4 lv [] := by
  refine V.sub hl ?_
  unfold X7_bits_4b at hf
  refine v_iload_n ok 2 dX7_bits_4 rfl rfl ?_
  refine v_if_eq ok 20 dX7_bits_5 rfl hf (fun hf => ?_) (fun hf => ?_)
  ·
    refine v_iload_n ok 1 dX7_bits_20 rfl rfl ?_
    exact v_iret ok hr (by cases hf; exact hk) dX7_bits_21
  ·
    refine v_iinc ok x1 (x1 + 1) dX7_bits_8 rfl rfl (by decide) ?_
    refine v_iload_n ok 2 dX7_bits_11 rfl rfl ?_
    refine v_iload_n ok 2 dX7_bits_12 rfl rfl ?_
    refine v_iconst ok 1 dX7_bits_13 rfl ?_
    refine v_isub ok dX7_bits_14 ?_
    refine v_iand ok dX7_bits_15 ?_
    refine v_istore_n ok 2 dX7_bits_16 rfl (by decide) ?_
    refine v_goto ok 4 dX7_bits_17 rfl ?_
    cases hf; exact hk _ ⟨rfl, rfl, trivial⟩
theorem W_X7_bits_4 {G : GT} {X : CX} {d : Nat} {h0 : AH} {Q : State → Prop} (ok : Ok G X RX7 cX7_bits 3 d h0) (hr : (cxm X).sig.returnType = (Option.some Jvm.ClassFile.FieldType.int)) (hd : 1 ≤ d) {x1 : Int32} {x2 : Int32} {h : AH} {z : (Int32 × AH)} (hf : X7_bits_4  x1 x2 h = some z) (hk : Q = QM G X h0 (some (vi z.1)) z.2) {lv : List (Nat × AV)} (hl : lle lv [(1, vi x1), (2, vi x2)]) : V G X 3 h0 Q h 4 lv [] := by
  unfold X7_bits_4 at hf
  exact loopC_walk (Wh := fun s : Int32 × Int32 × AH => ∀ lv : List (Nat × AV), lle lv [(1, vi s.1), (2, vi s.2.1)] → V G X 3 h0 Q s.2.2 4 lv []) (PK := fun z => Q = QM G X h0 (some (vi z.1)) z.2) (fun s o hf hk lv hl => W_X7_bits_4b ok hr hd hf (by cases o <;> exact hk) hl) _ z hf hk lv hl
theorem W_X7_bits {G : GT} {X : CX} {d : Nat} {h0 : AH} {Q : State → Prop} (ok : Ok G X RX7 cX7_bits 3 d h0) (hr : (cxm X).sig.returnType = (Option.some Jvm.ClassFile.FieldType.int)) (hd : 1 ≤ d) {x0 : Int32} {h : AH} {z : (Int32 × AH)} (hf : X7_bits x0 h = some z) (hk : Q = QM G X h0 (some (vi z.1)) z.2) {lv : List (Nat × AV)} (hl : lle lv [(0, vi x0)]) : V G X 3 h0 Q h 0 lv [] := by
  refine V.sub hl ?_
  unfold X7_bits at hf
  refine v_iconst ok 0 dX7_bits_0 rfl ?_
  refine v_istore_n ok 1 dX7_bits_1 rfl (by decide) ?_
  refine v_iload_n ok 0 dX7_bits_2 rfl rfl ?_
  refine v_istore_n ok 2 dX7_bits_3 rfl (by decide) ?_
  exact W_X7_bits_4 ok hr hd hf hk ⟨rfl, rfl, trivial⟩
theorem M_X7_bits {G : GT} {l : Launch} (hG : Glob G) {d : Nat} (hd : 1 ≤ d) {x0 : Int32} {h : AH} {v : Int32} {h' : AH} (hf : X7_bits x0 h = some (v, h')) : MM G l yX7_bits cX7_bits 3 (Option.some Jvm.ClassFile.FieldType.int) d [vi x0] h (some (vi v)) h' := by
  refine mm_of hG (plainFor_of_name (by decide)) (Nat.le_of_ble_eq_true rfl) (fun X hX ok hr hnm => ?_)
  subst hX
  exact W_X7_bits ok hr hd hf rfl ⟨rfl, trivial⟩
theorem cw_X7_glyphAt : CW yX7_glyphAt cX7_glyphAt 3 (Option.some Jvm.ClassFile.FieldType.int) 2 := ⟨q2380, q185, ⟨by decide, by decide⟩, by decide +kernel, by decide⟩
theorem W_X7_glyphAt {G : GT} {X : CX} {d : Nat} {h0 : AH} {Q : State → Prop} (ok : Ok G X RX7 cX7_glyphAt 3 d h0) (hr : (cxm X).sig.returnType = (Option.some Jvm.ClassFile.FieldType.int)) (hd : 1 ≤ d) {a0 : Nat} {x1 : Int32} {x2 : Int32} {h : AH} {z : (Int32 × AH)} (hf : X7_glyphAt a0 x1 x2 h = some z) (hk : Q = QM G X h0 (some (vi z.1)) z.2) {lv : List (Nat × AV)} (hl : lle lv [(0, vr (some a0)), (1, vi x1), (2, vi x2)]) : V G X 3 h0 Q h 0 lv [] := by
  refine V.sub hl ?_
  unfold X7_glyphAt at hf
  refine v_aload_n ok 0 dX7_glyphAt_0 rfl rfl ?_
  refine v_gR ok fl_X7_132 (by first | exact Or.inl ⟨_, rfl⟩ | exact Or.inr ⟨_, rfl⟩) dX7_glyphAt_1 hf (fun v1 hf => ?_)
  refine v_iconst ok 3 dX7_glyphAt_4 rfl ?_
  refine v_bipush ok 8 dX7_glyphAt_5 rfl ?_
  refine v_iload_n ok 1 dX7_glyphAt_7 rfl rfl ?_
  refine v_imul ok dX7_glyphAt_8 ?_
  refine v_iadd ok dX7_glyphAt_9 ?_
  refine v_iload_n ok 2 dX7_glyphAt_10 rfl rfl ?_
  refine v_iadd ok dX7_glyphAt_11 ?_
  refine v_iald ok rfl dX7_glyphAt_12 hf (fun v2 hf => ?_)
  exact v_iret ok hr (by cases hf; exact hk) dX7_glyphAt_13
theorem M_X7_glyphAt {G : GT} {l : Launch} (hG : Glob G) {d : Nat} (hd : 1 ≤ d) {a0 : Nat} {x1 : Int32} {x2 : Int32} {h : AH} {v : Int32} {h' : AH} (hf : X7_glyphAt a0 x1 x2 h = some (v, h')) : MM G l yX7_glyphAt cX7_glyphAt 3 (Option.some Jvm.ClassFile.FieldType.int) d [vr (some a0), vi x1, vi x2] h (some (vi v)) h' := by
  refine mm_of hG (plainFor_of_name (by decide)) (Nat.le_of_ble_eq_true rfl) (fun X hX ok hr hnm => ?_)
  subst hX
  exact W_X7_glyphAt ok hr hd hf rfl ⟨rfl, rfl, rfl, trivial⟩
