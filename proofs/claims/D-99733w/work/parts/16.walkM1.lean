set_option maxRecDepth 100000
theorem cw_X7_stands : CW yX7_stands cX7_stands 2 none 0 := ⟨q2332, q185, ⟨by decide, by decide⟩, by decide +kernel, by decide⟩
def pkX7_stands_212 (G : GT) (X : CX) (h0 : AH) (Q : State → Prop) (a0 : Nat) (o : ((Int32 × AH) ⊕ (AH))) : Prop := match o with
  | .inl s => ∀ lv : List (Nat × AV), lle lv [(0, vr (some a0)), (1, vi s.1)] → V G X 2 h0 Q s.2 212 lv []
  | .inr z => Q = QM G X h0 none z
def pkX7_stands_190 (G : GT) (X : CX) (h0 : AH) (Q : State → Prop) (a0 : Nat) (o : ((Int32 × AH) ⊕ (AH))) : Prop := match o with
  | .inl s => ∀ lv : List (Nat × AV), lle lv [(0, vr (some a0)), (1, vi s.1)] → V G X 2 h0 Q s.2 190 lv []
  | .inr z => Q = QM G X h0 none z
def pkX7_stands_158 (G : GT) (X : CX) (h0 : AH) (Q : State → Prop) (a0 : Nat) (o : ((Int32 × AH) ⊕ (AH))) : Prop := match o with
  | .inl s => ∀ lv : List (Nat × AV), lle lv [(0, vr (some a0)), (1, vi s.1)] → V G X 2 h0 Q s.2 158 lv []
  | .inr z => Q = QM G X h0 none z
def pkX7_stands_131 (G : GT) (X : CX) (h0 : AH) (Q : State → Prop) (a0 : Nat) (o : ((Int32 × AH) ⊕ (AH))) : Prop := match o with
  | .inl s => ∀ lv : List (Nat × AV), lle lv [(0, vr (some a0)), (1, vi s.1)] → V G X 2 h0 Q s.2 131 lv []
  | .inr z => Q = QM G X h0 none z
def pkX7_stands_94 (G : GT) (X : CX) (h0 : AH) (Q : State → Prop) (a0 : Nat) (o : ((Int32 × AH) ⊕ (AH))) : Prop := match o with
  | .inl s => ∀ lv : List (Nat × AV), lle lv [(0, vr (some a0)), (1, vi s.1)] → V G X 2 h0 Q s.2 94 lv []
  | .inr z => Q = QM G X h0 none z
def pkX7_stands_57 (G : GT) (X : CX) (h0 : AH) (Q : State → Prop) (a0 : Nat) (o : ((Int32 × AH) ⊕ (AH))) : Prop := match o with
  | .inl s => ∀ lv : List (Nat × AV), lle lv [(0, vr (some a0)), (1, vi s.1)] → V G X 2 h0 Q s.2 57 lv []
  | .inr z => Q = QM G X h0 none z
def pkX7_stands_2 (G : GT) (X : CX) (h0 : AH) (Q : State → Prop) (a0 : Nat) (o : ((Int32 × AH) ⊕ (AH))) : Prop := match o with
  | .inl s => ∀ lv : List (Nat × AV), lle lv [(0, vr (some a0)), (1, vi s.1)] → V G X 2 h0 Q s.2 2 lv []
  | .inr z => Q = QM G X h0 none z
theorem W_X7_stands_249 {G : GT} {X : CX} {d : Nat} {h0 : AH} {Q : State → Prop} (ok : Ok G X RX7 cX7_stands 2 d h0) (hr : (cxm X).sig.returnType = none) (hd : 4 ≤ d) {a0 : Nat} {h : AH} {z : (AH)} (hf : X7_stands_249 a0 h = some z) (hk : Q = QM G X h0 none z) {lv : List (Nat × AV)} (hl : lle lv [(0, vr (some a0))]) : V G X 2 h0 Q h 249 lv [] := by
  refine V.sub hl ?_
  unfold X7_stands_249 at hf
  refine v_aload_n ok 0 dX7_stands_249 rfl rfl ?_
  refine v_iconst ok 0 dX7_stands_250 rfl ?_
  refine v_pI ok fl_X7_402 ⟨fun _ _ _ => rfl, rfl⟩ (FN.of cf_7.1 rfl) dX7_stands_251 hf (fun h1 hf => ?_)
  exact v_vret ok hr (by cases hf; exact hk) dX7_stands_254
theorem W_X7_stands_212b {G : GT} {X : CX} {d : Nat} {h0 : AH} {Q : State → Prop} (ok : Ok G X RX7 cX7_stands 2 d h0) (hr : (cxm X).sig.returnType = none) (hd : 4 ≤ d) {a0 : Nat} {x1 : Int32} {h : AH} {z : ((Int32 × AH) ⊕ (AH))} (hf : X7_stands_212b  a0 x1 h = some z) (hk : pkX7_stands_212 G X h0 Q a0 z) {lv : List (Nat × AV)} (hl : lle lv [(0, vr (some a0)), (1, vi x1)]) : V G X 2 h0 Q h 212 lv [] := by
  refine V.sub hl ?_
  unfold X7_stands_212b at hf
  refine v_iload_n ok 1 dX7_stands_212 rfl rfl ?_
  refine v_aload_n ok 0 dX7_stands_213 rfl rfl ?_
  refine v_gI ok fl_X7_395 (fun _ _ _ => rfl) dX7_stands_214 hf (fun v2 hf => ?_)
  refine v_icmp_ge ok 249 dX7_stands_217 rfl hf (fun hf => ?_) (fun hf => ?_)
  ·
    obtain ⟨o, ho, hz⟩ := ob hf
    cases hz; exact W_X7_stands_249 ok hr hd ho hk ⟨rfl, trivial⟩
  ·
    refine v_aload_n ok 0 dX7_stands_220 rfl rfl ?_
    refine v_iload_n ok 1 dX7_stands_221 rfl rfl ?_
    refine v_aload_n ok 0 dX7_stands_222 rfl rfl ?_
    refine v_gR ok fl_X7_117 (by first | exact Or.inl ⟨_, rfl⟩ | exact Or.inr ⟨_, rfl⟩) dX7_stands_223 hf (fun v3 hf => ?_)
    refine v_iconst ok 2 dX7_stands_226 rfl ?_
    refine v_iload_n ok 1 dX7_stands_227 rfl rfl ?_
    refine v_imul ok dX7_stands_228 ?_
    refine v_iald ok rfl dX7_stands_229 hf (fun v4 hf => ?_)
    refine v_aload_n ok 0 dX7_stands_230 rfl rfl ?_
    refine v_gR ok fl_X7_117 (by first | exact Or.inl ⟨_, rfl⟩ | exact Or.inr ⟨_, rfl⟩) dX7_stands_231 hf (fun v5 hf => ?_)
    refine v_iconst ok 2 dX7_stands_234 rfl ?_
    refine v_iload_n ok 1 dX7_stands_235 rfl rfl ?_
    refine v_imul ok dX7_stands_236 ?_
    refine v_iconst ok 1 dX7_stands_237 rfl ?_
    refine v_iadd ok dX7_stands_238 ?_
    refine v_iald ok rfl dX7_stands_239 hf (fun v6 hf => ?_)
    refine v_cVv ok (RX7, TX7, 117) cf_7.1 [vi x1, vi v4, vi v6] (F := fun a => X7_paints a x1 v4 v6 h) (fun a h1 _ hv => M_X7_paints ok.2.2.2.2.2.2.1 (d := 3) (Nat.le_refl _) hv) (by exact Nat.le_trans (by decide) hd) cw_X7_paints q2333 q2335 qs108 dX7_stands_240 [] rfl (Nat.le_of_ble_eq_true rfl) hf (fun h7 hf => ?_)
    refine v_iinc ok x1 (x1 + 1) dX7_stands_243 rfl rfl (by decide) ?_
    refine v_goto ok 212 dX7_stands_246 rfl ?_
    cases hf; exact hk _ ⟨rfl, rfl, trivial⟩
theorem W_X7_stands_212 {G : GT} {X : CX} {d : Nat} {h0 : AH} {Q : State → Prop} (ok : Ok G X RX7 cX7_stands 2 d h0) (hr : (cxm X).sig.returnType = none) (hd : 4 ≤ d) {a0 : Nat} {x1 : Int32} {h : AH} {z : (AH)} (hf : X7_stands_212  a0 x1 h = some z) (hk : Q = QM G X h0 none z) {lv : List (Nat × AV)} (hl : lle lv [(0, vr (some a0)), (1, vi x1)]) : V G X 2 h0 Q h 212 lv [] := by
  unfold X7_stands_212 at hf
  exact loopC_walk (Wh := fun s : Int32 × AH => ∀ lv : List (Nat × AV), lle lv [(0, vr (some a0)), (1, vi s.1)] → V G X 2 h0 Q s.2 212 lv []) (PK := fun z => Q = QM G X h0 none z) (fun s o hf hk lv hl => W_X7_stands_212b ok hr hd hf (by cases o <;> exact hk) hl) _ z hf hk lv hl
theorem W_X7_stands_190b {G : GT} {X : CX} {d : Nat} {h0 : AH} {Q : State → Prop} (ok : Ok G X RX7 cX7_stands 2 d h0) (hr : (cxm X).sig.returnType = none) (hd : 4 ≤ d) {a0 : Nat} {x1 : Int32} {h : AH} {z : ((Int32 × AH) ⊕ (AH))} (hf : X7_stands_190b  a0 x1 h = some z) (hk : pkX7_stands_190 G X h0 Q a0 z) {lv : List (Nat × AV)} (hl : lle lv [(0, vr (some a0)), (1, vi x1)]) : V G X 2 h0 Q h 190 lv [] := by
  refine V.sub hl ?_
  unfold X7_stands_190b at hf
  refine v_iload_n ok 1 dX7_stands_190 rfl rfl ?_
  refine v_sipush ok 154 dX7_stands_191 rfl ?_
  refine v_icmp_ge ok 210 dX7_stands_194 rfl hf (fun hf => ?_) (fun hf => ?_)
  ·
    refine v_iconst ok 0 dX7_stands_210 rfl ?_
    refine v_istore_n ok 1 dX7_stands_211 rfl (by decide) ?_
    obtain ⟨o, ho, hz⟩ := ob hf
    cases hz; exact W_X7_stands_212 ok hr hd ho hk ⟨rfl, rfl, trivial⟩
  ·
    refine v_aload_n ok 0 dX7_stands_197 rfl rfl ?_
    refine v_gR ok fl_X7_132 (by first | exact Or.inl ⟨_, rfl⟩ | exact Or.inr ⟨_, rfl⟩) dX7_stands_198 hf (fun v8 hf => ?_)
    refine v_iload_n ok 1 dX7_stands_201 rfl rfl ?_
    refine v_iconst ok 0 dX7_stands_202 rfl ?_
    refine v_iast ok rfl dX7_stands_203 hf (fun h9 hf => ?_)
    refine v_iinc ok x1 (x1 + 1) dX7_stands_204 rfl rfl (by decide) ?_
    refine v_goto ok 190 dX7_stands_207 rfl ?_
    cases hf; exact hk _ ⟨rfl, rfl, trivial⟩
theorem W_X7_stands_190 {G : GT} {X : CX} {d : Nat} {h0 : AH} {Q : State → Prop} (ok : Ok G X RX7 cX7_stands 2 d h0) (hr : (cxm X).sig.returnType = none) (hd : 4 ≤ d) {a0 : Nat} {x1 : Int32} {h : AH} {z : (AH)} (hf : X7_stands_190  a0 x1 h = some z) (hk : Q = QM G X h0 none z) {lv : List (Nat × AV)} (hl : lle lv [(0, vr (some a0)), (1, vi x1)]) : V G X 2 h0 Q h 190 lv [] := by
  unfold X7_stands_190 at hf
  exact loopC_walk (Wh := fun s : Int32 × AH => ∀ lv : List (Nat × AV), lle lv [(0, vr (some a0)), (1, vi s.1)] → V G X 2 h0 Q s.2 190 lv []) (PK := fun z => Q = QM G X h0 none z) (fun s o hf hk lv hl => W_X7_stands_190b ok hr hd hf (by cases o <;> exact hk) hl) _ z hf hk lv hl
theorem W_X7_stands_158b {G : GT} {X : CX} {d : Nat} {h0 : AH} {Q : State → Prop} (ok : Ok G X RX7 cX7_stands 2 d h0) (hr : (cxm X).sig.returnType = none) (hd : 4 ≤ d) {a0 : Nat} {x1 : Int32} {h : AH} {z : ((Int32 × AH) ⊕ (AH))} (hf : X7_stands_158b  a0 x1 h = some z) (hk : pkX7_stands_158 G X h0 Q a0 z) {lv : List (Nat × AV)} (hl : lle lv [(0, vr (some a0)), (1, vi x1)]) : V G X 2 h0 Q h 158 lv [] := by
  refine V.sub hl ?_
  unfold X7_stands_158b at hf
  refine v_iload_n ok 1 dX7_stands_158 rfl rfl ?_
  refine v_aload_n ok 0 dX7_stands_159 rfl rfl ?_
  refine v_gI ok fl_X7_362 (fun _ _ _ => rfl) dX7_stands_160 hf (fun v10 hf => ?_)
  refine v_icmp_ge ok 188 dX7_stands_163 rfl hf (fun hf => ?_) (fun hf => ?_)
  ·
    refine v_iconst ok 0 dX7_stands_188 rfl ?_
    refine v_istore_n ok 1 dX7_stands_189 rfl (by decide) ?_
    obtain ⟨o, ho, hz⟩ := ob hf
    cases hz; exact W_X7_stands_190 ok hr hd ho hk ⟨rfl, rfl, trivial⟩
  ·
    refine v_aload_n ok 0 dX7_stands_166 rfl rfl ?_
    refine v_gR ok fl_X7_129 (by first | exact Or.inl ⟨_, rfl⟩ | exact Or.inr ⟨_, rfl⟩) dX7_stands_167 hf (fun v11 hf => ?_)
    refine v_sipush ok 1600 dX7_stands_170 rfl ?_
    refine v_iload_n ok 1 dX7_stands_173 rfl rfl ?_
    refine v_iadd ok dX7_stands_174 ?_
    refine v_aload_n ok 0 dX7_stands_175 rfl rfl ?_
    refine v_gR ok fl_X7_129 (by first | exact Or.inl ⟨_, rfl⟩ | exact Or.inr ⟨_, rfl⟩) dX7_stands_176 hf (fun v12 hf => ?_)
    refine v_iload_n ok 1 dX7_stands_179 rfl rfl ?_
    refine v_iald ok rfl dX7_stands_180 hf (fun v13 hf => ?_)
    refine v_iast ok rfl dX7_stands_181 hf (fun h14 hf => ?_)
    refine v_iinc ok x1 (x1 + 1) dX7_stands_182 rfl rfl (by decide) ?_
    refine v_goto ok 158 dX7_stands_185 rfl ?_
    cases hf; exact hk _ ⟨rfl, rfl, trivial⟩
theorem W_X7_stands_158 {G : GT} {X : CX} {d : Nat} {h0 : AH} {Q : State → Prop} (ok : Ok G X RX7 cX7_stands 2 d h0) (hr : (cxm X).sig.returnType = none) (hd : 4 ≤ d) {a0 : Nat} {x1 : Int32} {h : AH} {z : (AH)} (hf : X7_stands_158  a0 x1 h = some z) (hk : Q = QM G X h0 none z) {lv : List (Nat × AV)} (hl : lle lv [(0, vr (some a0)), (1, vi x1)]) : V G X 2 h0 Q h 158 lv [] := by
  unfold X7_stands_158 at hf
  exact loopC_walk (Wh := fun s : Int32 × AH => ∀ lv : List (Nat × AV), lle lv [(0, vr (some a0)), (1, vi s.1)] → V G X 2 h0 Q s.2 158 lv []) (PK := fun z => Q = QM G X h0 none z) (fun s o hf hk lv hl => W_X7_stands_158b ok hr hd hf (by cases o <;> exact hk) hl) _ z hf hk lv hl
theorem W_X7_stands_131b {G : GT} {X : CX} {d : Nat} {h0 : AH} {Q : State → Prop} (ok : Ok G X RX7 cX7_stands 2 d h0) (hr : (cxm X).sig.returnType = none) (hd : 4 ≤ d) {a0 : Nat} {x1 : Int32} {h : AH} {z : ((Int32 × AH) ⊕ (AH))} (hf : X7_stands_131b  a0 x1 h = some z) (hk : pkX7_stands_131 G X h0 Q a0 z) {lv : List (Nat × AV)} (hl : lle lv [(0, vr (some a0)), (1, vi x1)]) : V G X 2 h0 Q h 131 lv [] := by
  refine V.sub hl ?_
  unfold X7_stands_131b at hf
  refine v_iload_n ok 1 dX7_stands_131 rfl rfl ?_
  refine v_iconst ok 3 dX7_stands_132 rfl ?_
  refine v_icmp_ge ok 156 dX7_stands_133 rfl hf (fun hf => ?_) (fun hf => ?_)
  ·
    refine v_iconst ok 0 dX7_stands_156 rfl ?_
    refine v_istore_n ok 1 dX7_stands_157 rfl (by decide) ?_
    obtain ⟨o, ho, hz⟩ := ob hf
    cases hz; exact W_X7_stands_158 ok hr hd ho hk ⟨rfl, rfl, trivial⟩
  ·
    refine v_aload_n ok 0 dX7_stands_136 rfl rfl ?_
    refine v_gR ok fl_X7_120 (by first | exact Or.inl ⟨_, rfl⟩ | exact Or.inr ⟨_, rfl⟩) dX7_stands_137 hf (fun v15 hf => ?_)
    refine v_iconst ok 3 dX7_stands_140 rfl ?_
    refine v_iload_n ok 1 dX7_stands_141 rfl rfl ?_
    refine v_iadd ok dX7_stands_142 ?_
    refine v_aload_n ok 0 dX7_stands_143 rfl rfl ?_
    refine v_gR ok fl_X7_120 (by first | exact Or.inl ⟨_, rfl⟩ | exact Or.inr ⟨_, rfl⟩) dX7_stands_144 hf (fun v16 hf => ?_)
    refine v_iload_n ok 1 dX7_stands_147 rfl rfl ?_
    refine v_iald ok rfl dX7_stands_148 hf (fun v17 hf => ?_)
    refine v_iast ok rfl dX7_stands_149 hf (fun h18 hf => ?_)
    refine v_iinc ok x1 (x1 + 1) dX7_stands_150 rfl rfl (by decide) ?_
    refine v_goto ok 131 dX7_stands_153 rfl ?_
    cases hf; exact hk _ ⟨rfl, rfl, trivial⟩
theorem W_X7_stands_131 {G : GT} {X : CX} {d : Nat} {h0 : AH} {Q : State → Prop} (ok : Ok G X RX7 cX7_stands 2 d h0) (hr : (cxm X).sig.returnType = none) (hd : 4 ≤ d) {a0 : Nat} {x1 : Int32} {h : AH} {z : (AH)} (hf : X7_stands_131  a0 x1 h = some z) (hk : Q = QM G X h0 none z) {lv : List (Nat × AV)} (hl : lle lv [(0, vr (some a0)), (1, vi x1)]) : V G X 2 h0 Q h 131 lv [] := by
  unfold X7_stands_131 at hf
  exact loopC_walk (Wh := fun s : Int32 × AH => ∀ lv : List (Nat × AV), lle lv [(0, vr (some a0)), (1, vi s.1)] → V G X 2 h0 Q s.2 131 lv []) (PK := fun z => Q = QM G X h0 none z) (fun s o hf hk lv hl => W_X7_stands_131b ok hr hd hf (by cases o <;> exact hk) hl) _ z hf hk lv hl
theorem W_X7_stands_121 {G : GT} {X : CX} {d : Nat} {h0 : AH} {Q : State → Prop} (ok : Ok G X RX7 cX7_stands 2 d h0) (hr : (cxm X).sig.returnType = none) (hd : 4 ≤ d) {a0 : Nat} {h : AH} {z : (AH)} (hf : X7_stands_121 a0 h = some z) (hk : Q = QM G X h0 none z) {lv : List (Nat × AV)} (hl : lle lv [(0, vr (some a0))]) : V G X 2 h0 Q h 121 lv [] := by
  refine V.sub hl ?_
  unfold X7_stands_121 at hf
  refine v_aload_n ok 0 dX7_stands_121 rfl rfl ?_
  refine v_aload_n ok 0 dX7_stands_122 rfl rfl ?_
  refine v_gI ok fl_X7_341 (fun _ _ _ => rfl) dX7_stands_123 hf (fun v19 hf => ?_)
  refine v_pI ok fl_X7_395 ⟨fun _ _ _ => rfl, rfl⟩ (FN.of cf_7.1 rfl) dX7_stands_126 hf (fun h20 hf => ?_)
  refine v_iconst ok 0 dX7_stands_129 rfl ?_
  refine v_istore_n ok 1 dX7_stands_130 rfl (by decide) ?_
  exact W_X7_stands_131 ok hr hd hf hk ⟨rfl, rfl, trivial⟩
theorem W_X7_stands_94b {G : GT} {X : CX} {d : Nat} {h0 : AH} {Q : State → Prop} (ok : Ok G X RX7 cX7_stands 2 d h0) (hr : (cxm X).sig.returnType = none) (hd : 4 ≤ d) {a0 : Nat} {x1 : Int32} {h : AH} {z : ((Int32 × AH) ⊕ (AH))} (hf : X7_stands_94b  a0 x1 h = some z) (hk : pkX7_stands_94 G X h0 Q a0 z) {lv : List (Nat × AV)} (hl : lle lv [(0, vr (some a0)), (1, vi x1)]) : V G X 2 h0 Q h 94 lv [] := by
  refine V.sub hl ?_
  unfold X7_stands_94b at hf
  refine v_iload_n ok 1 dX7_stands_94 rfl rfl ?_
  refine v_bipush ok 56 dX7_stands_95 rfl ?_
  refine v_icmp_ge ok 121 dX7_stands_97 rfl hf (fun hf => ?_) (fun hf => ?_)
  ·
    obtain ⟨o, ho, hz⟩ := ob hf
    cases hz; exact W_X7_stands_121 ok hr hd ho hk ⟨rfl, trivial⟩
  ·
    refine v_aload_n ok 0 dX7_stands_100 rfl rfl ?_
    refine v_gR ok fl_X7_114 (by first | exact Or.inl ⟨_, rfl⟩ | exact Or.inr ⟨_, rfl⟩) dX7_stands_101 hf (fun v21 hf => ?_)
    refine v_bipush ok 56 dX7_stands_104 rfl ?_
    refine v_iload_n ok 1 dX7_stands_106 rfl rfl ?_
    refine v_iadd ok dX7_stands_107 ?_
    refine v_aload_n ok 0 dX7_stands_108 rfl rfl ?_
    refine v_gR ok fl_X7_114 (by first | exact Or.inl ⟨_, rfl⟩ | exact Or.inr ⟨_, rfl⟩) dX7_stands_109 hf (fun v22 hf => ?_)
    refine v_iload_n ok 1 dX7_stands_112 rfl rfl ?_
    refine v_iald ok rfl dX7_stands_113 hf (fun v23 hf => ?_)
    refine v_iast ok rfl dX7_stands_114 hf (fun h24 hf => ?_)
    refine v_iinc ok x1 (x1 + 1) dX7_stands_115 rfl rfl (by decide) ?_
    refine v_goto ok 94 dX7_stands_118 rfl ?_
    cases hf; exact hk _ ⟨rfl, rfl, trivial⟩
theorem W_X7_stands_94 {G : GT} {X : CX} {d : Nat} {h0 : AH} {Q : State → Prop} (ok : Ok G X RX7 cX7_stands 2 d h0) (hr : (cxm X).sig.returnType = none) (hd : 4 ≤ d) {a0 : Nat} {x1 : Int32} {h : AH} {z : (AH)} (hf : X7_stands_94  a0 x1 h = some z) (hk : Q = QM G X h0 none z) {lv : List (Nat × AV)} (hl : lle lv [(0, vr (some a0)), (1, vi x1)]) : V G X 2 h0 Q h 94 lv [] := by
  unfold X7_stands_94 at hf
  exact loopC_walk (Wh := fun s : Int32 × AH => ∀ lv : List (Nat × AV), lle lv [(0, vr (some a0)), (1, vi s.1)] → V G X 2 h0 Q s.2 94 lv []) (PK := fun z => Q = QM G X h0 none z) (fun s o hf hk lv hl => W_X7_stands_94b ok hr hd hf (by cases o <;> exact hk) hl) _ z hf hk lv hl
theorem W_X7_stands_84 {G : GT} {X : CX} {d : Nat} {h0 : AH} {Q : State → Prop} (ok : Ok G X RX7 cX7_stands 2 d h0) (hr : (cxm X).sig.returnType = none) (hd : 4 ≤ d) {a0 : Nat} {h : AH} {z : (AH)} (hf : X7_stands_84 a0 h = some z) (hk : Q = QM G X h0 none z) {lv : List (Nat × AV)} (hl : lle lv [(0, vr (some a0))]) : V G X 2 h0 Q h 84 lv [] := by
  refine V.sub hl ?_
  unfold X7_stands_84 at hf
  refine v_aload_n ok 0 dX7_stands_84 rfl rfl ?_
  refine v_aload_n ok 0 dX7_stands_85 rfl rfl ?_
  refine v_gI ok fl_X7_335 (fun _ _ _ => rfl) dX7_stands_86 hf (fun v25 hf => ?_)
  refine v_pI ok fl_X7_392 ⟨fun _ _ _ => rfl, rfl⟩ (FN.of cf_7.1 rfl) dX7_stands_89 hf (fun h26 hf => ?_)
  refine v_iconst ok 0 dX7_stands_92 rfl ?_
  refine v_istore_n ok 1 dX7_stands_93 rfl (by decide) ?_
  exact W_X7_stands_94 ok hr hd hf hk ⟨rfl, rfl, trivial⟩
theorem W_X7_stands_57b {G : GT} {X : CX} {d : Nat} {h0 : AH} {Q : State → Prop} (ok : Ok G X RX7 cX7_stands 2 d h0) (hr : (cxm X).sig.returnType = none) (hd : 4 ≤ d) {a0 : Nat} {x1 : Int32} {h : AH} {z : ((Int32 × AH) ⊕ (AH))} (hf : X7_stands_57b  a0 x1 h = some z) (hk : pkX7_stands_57 G X h0 Q a0 z) {lv : List (Nat × AV)} (hl : lle lv [(0, vr (some a0)), (1, vi x1)]) : V G X 2 h0 Q h 57 lv [] := by
  refine V.sub hl ?_
  unfold X7_stands_57b at hf
  refine v_iload_n ok 1 dX7_stands_57 rfl rfl ?_
  refine v_bipush ok 48 dX7_stands_58 rfl ?_
  refine v_icmp_ge ok 84 dX7_stands_60 rfl hf (fun hf => ?_) (fun hf => ?_)
  ·
    obtain ⟨o, ho, hz⟩ := ob hf
    cases hz; exact W_X7_stands_84 ok hr hd ho hk ⟨rfl, trivial⟩
  ·
    refine v_aload_n ok 0 dX7_stands_63 rfl rfl ?_
    refine v_gR ok fl_X7_111 (by first | exact Or.inl ⟨_, rfl⟩ | exact Or.inr ⟨_, rfl⟩) dX7_stands_64 hf (fun v27 hf => ?_)
    refine v_bipush ok 48 dX7_stands_67 rfl ?_
    refine v_iload_n ok 1 dX7_stands_69 rfl rfl ?_
    refine v_iadd ok dX7_stands_70 ?_
    refine v_aload_n ok 0 dX7_stands_71 rfl rfl ?_
    refine v_gR ok fl_X7_111 (by first | exact Or.inl ⟨_, rfl⟩ | exact Or.inr ⟨_, rfl⟩) dX7_stands_72 hf (fun v28 hf => ?_)
    refine v_iload_n ok 1 dX7_stands_75 rfl rfl ?_
    refine v_iald ok rfl dX7_stands_76 hf (fun v29 hf => ?_)
    refine v_iast ok rfl dX7_stands_77 hf (fun h30 hf => ?_)
    refine v_iinc ok x1 (x1 + 1) dX7_stands_78 rfl rfl (by decide) ?_
    refine v_goto ok 57 dX7_stands_81 rfl ?_
    cases hf; exact hk _ ⟨rfl, rfl, trivial⟩
theorem W_X7_stands_57 {G : GT} {X : CX} {d : Nat} {h0 : AH} {Q : State → Prop} (ok : Ok G X RX7 cX7_stands 2 d h0) (hr : (cxm X).sig.returnType = none) (hd : 4 ≤ d) {a0 : Nat} {x1 : Int32} {h : AH} {z : (AH)} (hf : X7_stands_57  a0 x1 h = some z) (hk : Q = QM G X h0 none z) {lv : List (Nat × AV)} (hl : lle lv [(0, vr (some a0)), (1, vi x1)]) : V G X 2 h0 Q h 57 lv [] := by
  unfold X7_stands_57 at hf
  exact loopC_walk (Wh := fun s : Int32 × AH => ∀ lv : List (Nat × AV), lle lv [(0, vr (some a0)), (1, vi s.1)] → V G X 2 h0 Q s.2 57 lv []) (PK := fun z => Q = QM G X h0 none z) (fun s o hf hk lv hl => W_X7_stands_57b ok hr hd hf (by cases o <;> exact hk) hl) _ z hf hk lv hl
theorem W_X7_stands_2b {G : GT} {X : CX} {d : Nat} {h0 : AH} {Q : State → Prop} (ok : Ok G X RX7 cX7_stands 2 d h0) (hr : (cxm X).sig.returnType = none) (hd : 4 ≤ d) {a0 : Nat} {x1 : Int32} {h : AH} {z : ((Int32 × AH) ⊕ (AH))} (hf : X7_stands_2b  a0 x1 h = some z) (hk : pkX7_stands_2 G X h0 Q a0 z) {lv : List (Nat × AV)} (hl : lle lv [(0, vr (some a0)), (1, vi x1)]) : V G X 2 h0 Q h 2 lv [] := by
  refine V.sub hl ?_
  unfold X7_stands_2b at hf
  refine v_iload_n ok 1 dX7_stands_2 rfl rfl ?_
  refine v_iconst ok 2 dX7_stands_3 rfl ?_
  refine v_icmp_ge ok 55 dX7_stands_4 rfl hf (fun hf => ?_) (fun hf => ?_)
  ·
    refine v_iconst ok 0 dX7_stands_55 rfl ?_
    refine v_istore_n ok 1 dX7_stands_56 rfl (by decide) ?_
    obtain ⟨o, ho, hz⟩ := ob hf
    cases hz; exact W_X7_stands_57 ok hr hd ho hk ⟨rfl, rfl, trivial⟩
  ·
    refine v_aload_n ok 0 dX7_stands_7 rfl rfl ?_
    refine v_gR ok fl_X7_108 (by first | exact Or.inl ⟨_, rfl⟩ | exact Or.inr ⟨_, rfl⟩) dX7_stands_8 hf (fun v31 hf => ?_)
    refine v_iconst ok 2 dX7_stands_11 rfl ?_
    refine v_iload_n ok 1 dX7_stands_12 rfl rfl ?_
    refine v_iadd ok dX7_stands_13 ?_
    refine v_aload_n ok 0 dX7_stands_14 rfl rfl ?_
    refine v_gR ok fl_X7_108 (by first | exact Or.inl ⟨_, rfl⟩ | exact Or.inr ⟨_, rfl⟩) dX7_stands_15 hf (fun v32 hf => ?_)
    refine v_iload_n ok 1 dX7_stands_18 rfl rfl ?_
    refine v_iald ok rfl dX7_stands_19 hf (fun v33 hf => ?_)
    refine v_iast ok rfl dX7_stands_20 hf (fun h34 hf => ?_)
    refine v_aload_n ok 0 dX7_stands_21 rfl rfl ?_
    refine v_gR ok fl_X7_123 (by first | exact Or.inl ⟨_, rfl⟩ | exact Or.inr ⟨_, rfl⟩) dX7_stands_22 hf (fun v35 hf => ?_)
    refine v_iconst ok 2 dX7_stands_25 rfl ?_
    refine v_iload_n ok 1 dX7_stands_26 rfl rfl ?_
    refine v_iadd ok dX7_stands_27 ?_
    refine v_aload_n ok 0 dX7_stands_28 rfl rfl ?_
    refine v_gR ok fl_X7_123 (by first | exact Or.inl ⟨_, rfl⟩ | exact Or.inr ⟨_, rfl⟩) dX7_stands_29 hf (fun v36 hf => ?_)
    refine v_iload_n ok 1 dX7_stands_32 rfl rfl ?_
    refine v_iald ok rfl dX7_stands_33 hf (fun v37 hf => ?_)
    refine v_iast ok rfl dX7_stands_34 hf (fun h38 hf => ?_)
    refine v_aload_n ok 0 dX7_stands_35 rfl rfl ?_
    refine v_gR ok fl_X7_126 (by first | exact Or.inl ⟨_, rfl⟩ | exact Or.inr ⟨_, rfl⟩) dX7_stands_36 hf (fun v39 hf => ?_)
    refine v_iconst ok 2 dX7_stands_39 rfl ?_
    refine v_iload_n ok 1 dX7_stands_40 rfl rfl ?_
    refine v_iadd ok dX7_stands_41 ?_
    refine v_aload_n ok 0 dX7_stands_42 rfl rfl ?_
    refine v_gR ok fl_X7_126 (by first | exact Or.inl ⟨_, rfl⟩ | exact Or.inr ⟨_, rfl⟩) dX7_stands_43 hf (fun v40 hf => ?_)
    refine v_iload_n ok 1 dX7_stands_46 rfl rfl ?_
    refine v_iald ok rfl dX7_stands_47 hf (fun v41 hf => ?_)
    refine v_iast ok rfl dX7_stands_48 hf (fun h42 hf => ?_)
    refine v_iinc ok x1 (x1 + 1) dX7_stands_49 rfl rfl (by decide) ?_
    refine v_goto ok 2 dX7_stands_52 rfl ?_
    cases hf; exact hk _ ⟨rfl, rfl, trivial⟩
theorem W_X7_stands_2 {G : GT} {X : CX} {d : Nat} {h0 : AH} {Q : State → Prop} (ok : Ok G X RX7 cX7_stands 2 d h0) (hr : (cxm X).sig.returnType = none) (hd : 4 ≤ d) {a0 : Nat} {x1 : Int32} {h : AH} {z : (AH)} (hf : X7_stands_2  a0 x1 h = some z) (hk : Q = QM G X h0 none z) {lv : List (Nat × AV)} (hl : lle lv [(0, vr (some a0)), (1, vi x1)]) : V G X 2 h0 Q h 2 lv [] := by
  unfold X7_stands_2 at hf
  exact loopC_walk (Wh := fun s : Int32 × AH => ∀ lv : List (Nat × AV), lle lv [(0, vr (some a0)), (1, vi s.1)] → V G X 2 h0 Q s.2 2 lv []) (PK := fun z => Q = QM G X h0 none z) (fun s o hf hk lv hl => W_X7_stands_2b ok hr hd hf (by cases o <;> exact hk) hl) _ z hf hk lv hl
theorem W_X7_stands {G : GT} {X : CX} {d : Nat} {h0 : AH} {Q : State → Prop} (ok : Ok G X RX7 cX7_stands 2 d h0) (hr : (cxm X).sig.returnType = none) (hd : 4 ≤ d) {a0 : Nat} {h : AH} {z : (AH)} (hf : X7_stands a0 h = some z) (hk : Q = QM G X h0 none z) {lv : List (Nat × AV)} (hl : lle lv [(0, vr (some a0))]) : V G X 2 h0 Q h 0 lv [] := by
  refine V.sub hl ?_
  unfold X7_stands at hf
  refine v_iconst ok 0 dX7_stands_0 rfl ?_
  refine v_istore_n ok 1 dX7_stands_1 rfl (by decide) ?_
  exact W_X7_stands_2 ok hr hd hf hk ⟨rfl, rfl, trivial⟩
theorem M_X7_stands {G : GT} {l : Launch} (hG : Glob G) {d : Nat} (hd : 4 ≤ d) {a0 : Nat} {h : AH} {h' : AH} (hf : X7_stands a0 h = some h') : MM G l yX7_stands cX7_stands 2 none d [vr (some a0)] h none h' := by
  refine mm_of hG (plainFor_of_name (by decide)) (Nat.le_of_ble_eq_true rfl) (fun X hX ok hr hnm => ?_)
  subst hX
  exact W_X7_stands ok hr hd hf rfl ⟨rfl, trivial⟩
theorem cw_X7_fail : CW yX7_fail cX7_fail 3 none 2 := ⟨q2180, q185, ⟨by decide, by decide⟩, by decide +kernel, by decide⟩
theorem W_X7_fail {G : GT} {X : CX} {d : Nat} {h0 : AH} {Q : State → Prop} (ok : Ok G X RX7 cX7_fail 3 d h0) (hr : (cxm X).sig.returnType = none) (hd : 1 ≤ d) {a0 : Nat} {x1 : Int32} {x2 : Int32} {h : AH} {z : (AH)} (hf : X7_fail a0 x1 x2 h = some z) (hk : Q = QM G X h0 none z) {lv : List (Nat × AV)} (hl : lle lv [(0, vr (some a0)), (1, vi x1), (2, vi x2)]) : V G X 3 h0 Q h 0 lv [] := by
  refine V.sub hl ?_
  unfold X7_fail at hf
  refine v_aload_n ok 0 dX7_fail_0 rfl rfl ?_
  refine v_gI ok fl_X7_257 (fun _ _ _ => rfl) dX7_fail_1 hf (fun v1 hf => ?_)
  refine v_if_eq ok 8 dX7_fail_4 rfl hf (fun hf => ?_) (fun hf => ?_)
  ·
    refine v_aload_n ok 0 dX7_fail_8 rfl rfl ?_
    refine v_iload_n ok 1 dX7_fail_9 rfl rfl ?_
    refine v_pI ok fl_X7_257 ⟨fun _ _ _ => rfl, rfl⟩ (FN.of cf_7.1 rfl) dX7_fail_10 hf (fun h2 hf => ?_)
    refine v_aload_n ok 0 dX7_fail_13 rfl rfl ?_
    refine v_iload_n ok 2 dX7_fail_14 rfl rfl ?_
    refine v_pI ok fl_X7_260 ⟨fun _ _ _ => rfl, rfl⟩ (FN.of cf_7.1 rfl) dX7_fail_15 hf (fun h3 hf => ?_)
    exact v_vret ok hr (by cases hf; exact hk) dX7_fail_18
  ·
    exact v_vret ok hr (by cases hf; exact hk) dX7_fail_7
theorem M_X7_fail {G : GT} {l : Launch} (hG : Glob G) {d : Nat} (hd : 1 ≤ d) {a0 : Nat} {x1 : Int32} {x2 : Int32} {h : AH} {h' : AH} (hf : X7_fail a0 x1 x2 h = some h') : MM G l yX7_fail cX7_fail 3 none d [vr (some a0), vi x1, vi x2] h none h' := by
  refine mm_of hG (plainFor_of_name (by decide)) (Nat.le_of_ble_eq_true rfl) (fun X hX ok hr hnm => ?_)
  subst hX
  exact W_X7_fail ok hr hd hf rfl ⟨rfl, rfl, rfl, trivial⟩
theorem cw_X7_isLetter : CW yX7_isLetter cX7_isLetter 1 (Option.some Jvm.ClassFile.FieldType.boolean) 1 := ⟨q2191, q185, ⟨by decide, by decide⟩, by decide +kernel, by decide⟩
theorem W_X7_isLetter {G : GT} {X : CX} {d : Nat} {h0 : AH} {Q : State → Prop} (ok : Ok G X RX7 cX7_isLetter 1 d h0) (hr : (cxm X).sig.returnType = (Option.some Jvm.ClassFile.FieldType.boolean)) (hd : 1 ≤ d) {x0 : Int32} {h : AH} {z : (Int32 × AH)} (hf : X7_isLetter x0 h = some z) (hk : Q = QM G X h0 (some (vi z.1)) z.2) {lv : List (Nat × AV)} (hl : lle lv [(0, vi x0)]) : V G X 1 h0 Q h 0 lv [] := by
  refine V.sub hl ?_
  unfold X7_isLetter at hf
  refine v_iload_n ok 0 dX7_isLetter_0 rfl rfl ?_
  refine v_bipush ok 97 dX7_isLetter_1 rfl ?_
  refine v_icmp_lt ok 16 dX7_isLetter_3 rfl hf (fun hf => ?_) (fun hf => ?_)
  ·
    refine v_iconst ok 0 dX7_isLetter_16 rfl ?_
    exact v_zretL ok hr (by decide) (by decide) (by cases hf; exact hk) dX7_isLetter_17
  ·
    refine v_iload_n ok 0 dX7_isLetter_6 rfl rfl ?_
    refine v_bipush ok 122 dX7_isLetter_7 rfl ?_
    refine v_icmp_gt ok 16 dX7_isLetter_9 rfl hf (fun hf => ?_) (fun hf => ?_)
    ·
      refine v_iconst ok 0 dX7_isLetter_16 rfl ?_
      exact v_zretL ok hr (by decide) (by decide) (by cases hf; exact hk) dX7_isLetter_17
    ·
      refine v_iconst ok 1 dX7_isLetter_12 rfl ?_
      refine v_goto ok 17 dX7_isLetter_13 rfl ?_
      exact v_zretL ok hr (by decide) (by decide) (by cases hf; exact hk) dX7_isLetter_17
theorem M_X7_isLetter {G : GT} {l : Launch} (hG : Glob G) {d : Nat} (hd : 1 ≤ d) {x0 : Int32} {h : AH} {v : Int32} {h' : AH} (hf : X7_isLetter x0 h = some (v, h')) : MM G l yX7_isLetter cX7_isLetter 1 (Option.some Jvm.ClassFile.FieldType.boolean) d [vi x0] h (some (vi v)) h' := by
  refine mm_of hG (plainFor_of_name (by decide)) (Nat.le_of_ble_eq_true rfl) (fun X hX ok hr hnm => ?_)
  subst hX
  exact W_X7_isLetter ok hr hd hf rfl ⟨rfl, trivial⟩
theorem cw_X7_isHere : CW yX7_isHere cX7_isHere 4 (Option.some Jvm.ClassFile.FieldType.boolean) 1 := ⟨q2188, q185, ⟨by decide, by decide⟩, by decide +kernel, by decide⟩
def pkX7_isHere_76 (G : GT) (X : CX) (h0 : AH) (Q : State → Prop) (a0 : Nat) (x1 : Option Nat) (o : ((Int32 × AH) ⊕ (Int32 × AH))) : Prop := match o with
  | .inl s => ∀ lv : List (Nat × AV), lle lv [(0, vr (some a0)), (1, vr x1), (3, vi s.1)] → V G X 4 h0 Q s.2 76 lv []
  | .inr z => Q = QM G X h0 (some (vi z.1)) z.2
def pkX7_isHere_35 (G : GT) (X : CX) (h0 : AH) (Q : State → Prop) (a0 : Nat) (x1 : Option Nat) (o : ((Int32 × AH) ⊕ (Int32 × AH))) : Prop := match o with
  | .inl s => ∀ lv : List (Nat × AV), lle lv [(0, vr (some a0)), (1, vr x1), (2, vi s.1)] → V G X 4 h0 Q s.2 35 lv []
  | .inr z => Q = QM G X h0 (some (vi z.1)) z.2
theorem W_X7_isHere_76b {G : GT} {X : CX} {d : Nat} {h0 : AH} {Q : State → Prop} (ok : Ok G X RX7 cX7_isHere 4 d h0) (hr : (cxm X).sig.returnType = (Option.some Jvm.ClassFile.FieldType.boolean)) (hd : 2 ≤ d) {a0 : Nat} {x1 : Option Nat} {x3 : Int32} {h : AH} {z : ((Int32 × AH) ⊕ (Int32 × AH))} (hf : X7_isHere_76b  a0 x1 x3 h = some z) (hk : pkX7_isHere_76 G X h0 Q a0 x1 z) {lv : List (Nat × AV)} (hl : lle lv [(0, vr (some a0)), (1, vr x1), (3, vi x3)]) : V G X 4 h0 Q h 76 lv [] := by
  refine V.sub hl ?_
  unfold X7_isHere_76b at hf
  refine v_iload_n ok 3 dX7_isHere_76 rfl rfl ?_
  refine v_aload_n ok 1 dX7_isHere_77 rfl rfl ?_
  refine v_alen ok dX7_isHere_78 hf (fun v1 hf => ?_)
  refine v_icmp_ge ok 107 dX7_isHere_79 rfl hf (fun hf => ?_) (fun hf => ?_)
  ·
    refine v_iconst ok 1 dX7_isHere_107 rfl ?_
    exact v_zretL ok hr (by decide) (by decide) (by cases hf; exact hk) dX7_isHere_108
  ·
    refine v_aload_n ok 0 dX7_isHere_82 rfl rfl ?_
    refine v_gR ok fl_X7_7 (by first | exact Or.inl ⟨_, rfl⟩ | exact Or.inr ⟨_, rfl⟩) dX7_isHere_83 hf (fun v2 hf => ?_)
    refine v_aload_n ok 0 dX7_isHere_86 rfl rfl ?_
    refine v_gI ok fl_X7_263 (fun _ _ _ => rfl) dX7_isHere_87 hf (fun v3 hf => ?_)
    refine v_iload_n ok 3 dX7_isHere_90 rfl rfl ?_
    refine v_iadd ok dX7_isHere_91 ?_
    refine v_iald ok rfl dX7_isHere_92 hf (fun v4 hf => ?_)
    refine v_aload_n ok 1 dX7_isHere_93 rfl rfl ?_
    refine v_iload_n ok 3 dX7_isHere_94 rfl rfl ?_
    refine v_cald ok rfl dX7_isHere_95 hf (fun v5 hf => ?_)
    refine v_icmp_eq ok 101 dX7_isHere_96 rfl hf (fun hf => ?_) (fun hf => ?_)
    ·
      refine v_iinc ok x3 (x3 + 1) dX7_isHere_101 rfl rfl (by decide) ?_
      refine v_goto ok 76 dX7_isHere_104 rfl ?_
      cases hf; exact hk _ ⟨rfl, rfl, rfl, trivial⟩
    ·
      refine v_iconst ok 0 dX7_isHere_99 rfl ?_
      exact v_zretL ok hr (by decide) (by decide) (by cases hf; exact hk) dX7_isHere_100
theorem W_X7_isHere_76 {G : GT} {X : CX} {d : Nat} {h0 : AH} {Q : State → Prop} (ok : Ok G X RX7 cX7_isHere 4 d h0) (hr : (cxm X).sig.returnType = (Option.some Jvm.ClassFile.FieldType.boolean)) (hd : 2 ≤ d) {a0 : Nat} {x1 : Option Nat} {x3 : Int32} {h : AH} {z : (Int32 × AH)} (hf : X7_isHere_76  a0 x1 x3 h = some z) (hk : Q = QM G X h0 (some (vi z.1)) z.2) {lv : List (Nat × AV)} (hl : lle lv [(0, vr (some a0)), (1, vr x1), (3, vi x3)]) : V G X 4 h0 Q h 76 lv [] := by
  unfold X7_isHere_76 at hf
  exact loopC_walk (Wh := fun s : Int32 × AH => ∀ lv : List (Nat × AV), lle lv [(0, vr (some a0)), (1, vr x1), (3, vi s.1)] → V G X 4 h0 Q s.2 76 lv []) (PK := fun z => Q = QM G X h0 (some (vi z.1)) z.2) (fun s o hf hk lv hl => W_X7_isHere_76b ok hr hd hf (by cases o <;> exact hk) hl) _ z hf hk lv hl
theorem W_X7_isHere_61 {G : GT} {X : CX} {d : Nat} {h0 : AH} {Q : State → Prop} (ok : Ok G X RX7 cX7_isHere 4 d h0) (hr : (cxm X).sig.returnType = (Option.some Jvm.ClassFile.FieldType.boolean)) (hd : 2 ≤ d) {a0 : Nat} {x1 : Option Nat} {x2 : Int32} {h : AH} {z : (Int32 × AH)} (hf : X7_isHere_61 a0 x1 x2 h = some z) (hk : Q = QM G X h0 (some (vi z.1)) z.2) {lv : List (Nat × AV)} (hl : lle lv [(0, vr (some a0)), (1, vr x1), (2, vi x2)]) : V G X 4 h0 Q h 61 lv [] := by
  refine V.sub hl ?_
  unfold X7_isHere_61 at hf
  refine v_iload_n ok 2 dX7_isHere_61 rfl rfl ?_
  refine v_aload_n ok 0 dX7_isHere_62 rfl rfl ?_
  refine v_gI ok fl_X7_263 (fun _ _ _ => rfl) dX7_isHere_63 hf (fun v6 hf => ?_)
  refine v_isub ok dX7_isHere_66 ?_
  refine v_aload_n ok 1 dX7_isHere_67 rfl rfl ?_
  refine v_alen ok dX7_isHere_68 hf (fun v7 hf => ?_)
  refine v_icmp_eq ok 74 dX7_isHere_69 rfl hf (fun hf => ?_) (fun hf => ?_)
  ·
    refine v_iconst ok 0 dX7_isHere_74 rfl ?_
    refine v_istore_n ok 3 dX7_isHere_75 rfl (by decide) ?_
    exact W_X7_isHere_76 ok hr hd hf hk ⟨rfl, rfl, rfl, trivial⟩
  ·
    refine v_iconst ok 0 dX7_isHere_72 rfl ?_
    exact v_zretL ok hr (by decide) (by decide) (by cases hf; exact hk) dX7_isHere_73
theorem W_X7_isHere_35b {G : GT} {X : CX} {d : Nat} {h0 : AH} {Q : State → Prop} (ok : Ok G X RX7 cX7_isHere 4 d h0) (hr : (cxm X).sig.returnType = (Option.some Jvm.ClassFile.FieldType.boolean)) (hd : 2 ≤ d) {a0 : Nat} {x1 : Option Nat} {x2 : Int32} {h : AH} {z : ((Int32 × AH) ⊕ (Int32 × AH))} (hf : X7_isHere_35b  a0 x1 x2 h = some z) (hk : pkX7_isHere_35 G X h0 Q a0 x1 z) {lv : List (Nat × AV)} (hl : lle lv [(0, vr (some a0)), (1, vr x1), (2, vi x2)]) : V G X 4 h0 Q h 35 lv [] := by
  refine V.sub hl ?_
  unfold X7_isHere_35b at hf
  refine v_iload_n ok 2 dX7_isHere_35 rfl rfl ?_
  refine v_aload_n ok 0 dX7_isHere_36 rfl rfl ?_
  refine v_gI ok fl_X7_266 (fun _ _ _ => rfl) dX7_isHere_37 hf (fun v8 hf => ?_)
  refine v_icmp_ge ok 61 dX7_isHere_40 rfl hf (fun hf => ?_) (fun hf => ?_)
  ·
    obtain ⟨o, ho, hz⟩ := ob hf
    cases hz; exact W_X7_isHere_61 ok hr hd ho hk ⟨rfl, rfl, rfl, trivial⟩
  ·
    refine v_aload_n ok 0 dX7_isHere_43 rfl rfl ?_
    refine v_gR ok fl_X7_7 (by first | exact Or.inl ⟨_, rfl⟩ | exact Or.inr ⟨_, rfl⟩) dX7_isHere_44 hf (fun v9 hf => ?_)
    refine v_iload_n ok 2 dX7_isHere_47 rfl rfl ?_
    refine v_iald ok rfl dX7_isHere_48 hf (fun v10 hf => ?_)
    refine v_cSi ok [vi v10] (F := X7_isLetter v10 h) (fun v h1 hv => M_X7_isLetter ok.2.2.2.2.2.2.1 (d := 1) (Nat.le_refl _) hv) (by exact Nat.le_trans (by decide) hd) cw_X7_isLetter q2189 q2190 dX7_isHere_49 [] rfl (Nat.le_of_ble_eq_true rfl) hf (fun v11 h12 hf => ?_)
    refine v_if_eq ok 61 dX7_isHere_52 rfl hf (fun hf => ?_) (fun hf => ?_)
    ·
      obtain ⟨o, ho, hz⟩ := ob hf
      cases hz; exact W_X7_isHere_61 ok hr hd ho hk ⟨rfl, rfl, rfl, trivial⟩
    ·
      refine v_iinc ok x2 (x2 + 1) dX7_isHere_55 rfl rfl (by decide) ?_
      refine v_goto ok 35 dX7_isHere_58 rfl ?_
      cases hf; exact hk _ ⟨rfl, rfl, rfl, trivial⟩
theorem W_X7_isHere_35 {G : GT} {X : CX} {d : Nat} {h0 : AH} {Q : State → Prop} (ok : Ok G X RX7 cX7_isHere 4 d h0) (hr : (cxm X).sig.returnType = (Option.some Jvm.ClassFile.FieldType.boolean)) (hd : 2 ≤ d) {a0 : Nat} {x1 : Option Nat} {x2 : Int32} {h : AH} {z : (Int32 × AH)} (hf : X7_isHere_35  a0 x1 x2 h = some z) (hk : Q = QM G X h0 (some (vi z.1)) z.2) {lv : List (Nat × AV)} (hl : lle lv [(0, vr (some a0)), (1, vr x1), (2, vi x2)]) : V G X 4 h0 Q h 35 lv [] := by
  unfold X7_isHere_35 at hf
  exact loopC_walk (Wh := fun s : Int32 × AH => ∀ lv : List (Nat × AV), lle lv [(0, vr (some a0)), (1, vr x1), (2, vi s.1)] → V G X 4 h0 Q s.2 35 lv []) (PK := fun z => Q = QM G X h0 (some (vi z.1)) z.2) (fun s o hf hk lv hl => W_X7_isHere_35b ok hr hd hf (by cases o <;> exact hk) hl) _ z hf hk lv hl
theorem W_X7_isHere {G : GT} {X : CX} {d : Nat} {h0 : AH} {Q : State → Prop} (ok : Ok G X RX7 cX7_isHere 4 d h0) (hr : (cxm X).sig.returnType = (Option.some Jvm.ClassFile.FieldType.boolean)) (hd : 2 ≤ d) {a0 : Nat} {x1 : Option Nat} {h : AH} {z : (Int32 × AH)} (hf : X7_isHere a0 x1 h = some z) (hk : Q = QM G X h0 (some (vi z.1)) z.2) {lv : List (Nat × AV)} (hl : lle lv [(0, vr (some a0)), (1, vr x1)]) : V G X 4 h0 Q h 0 lv [] := by
  refine V.sub hl ?_
  unfold X7_isHere at hf
  refine v_aload_n ok 0 dX7_isHere_0 rfl rfl ?_
  refine v_gI ok fl_X7_257 (fun _ _ _ => rfl) dX7_isHere_1 hf (fun v13 hf => ?_)
  refine v_if_ne ok 28 dX7_isHere_4 rfl hf (fun hf => ?_) (fun hf => ?_)
  ·
    refine v_iconst ok 0 dX7_isHere_28 rfl ?_
    exact v_zretL ok hr (by decide) (by decide) (by cases hf; exact hk) dX7_isHere_29
  ·
    refine v_aload_n ok 0 dX7_isHere_7 rfl rfl ?_
    refine v_cVi ok (RX7, TX7, 117) cf_7.1 [] (F := fun a => X7_look a h) (fun a v h1 _ hv => M_X7_look ok.2.2.2.2.2.2.1 (d := 1) (Nat.le_refl _) hv) (by exact Nat.le_trans (by decide) hd) cw_X7_look q2169 q2171 qs70 dX7_isHere_8 [] rfl (Nat.le_of_ble_eq_true rfl) hf (fun v14 h15 hf => ?_)
    refine v_cSi ok [vi v14] (F := X7_isLetter v14 h15) (fun v h1 hv => M_X7_isLetter ok.2.2.2.2.2.2.1 (d := 1) (Nat.le_refl _) hv) (by exact Nat.le_trans (by decide) hd) cw_X7_isLetter q2189 q2190 dX7_isHere_11 [] rfl (Nat.le_of_ble_eq_true rfl) hf (fun v16 h17 hf => ?_)
    refine v_if_eq ok 28 dX7_isHere_14 rfl hf (fun hf => ?_) (fun hf => ?_)
    ·
      refine v_iconst ok 0 dX7_isHere_28 rfl ?_
      exact v_zretL ok hr (by decide) (by decide) (by cases hf; exact hk) dX7_isHere_29
    ·
      refine v_aload_n ok 0 dX7_isHere_17 rfl rfl ?_
      refine v_gI ok fl_X7_263 (fun _ _ _ => rfl) dX7_isHere_18 hf (fun v18 hf => ?_)
      refine v_aload_n ok 0 dX7_isHere_21 rfl rfl ?_
      refine v_gI ok fl_X7_277 (fun _ _ _ => rfl) dX7_isHere_22 hf (fun v19 hf => ?_)
      refine v_icmp_ne ok 30 dX7_isHere_25 rfl hf (fun hf => ?_) (fun hf => ?_)
      ·
        refine v_aload_n ok 0 dX7_isHere_30 rfl rfl ?_
        refine v_gI ok fl_X7_263 (fun _ _ _ => rfl) dX7_isHere_31 hf (fun v20 hf => ?_)
        refine v_istore_n ok 2 dX7_isHere_34 rfl (by decide) ?_
        exact W_X7_isHere_35 ok hr hd hf hk ⟨rfl, rfl, rfl, trivial⟩
      ·
        refine v_iconst ok 0 dX7_isHere_28 rfl ?_
        exact v_zretL ok hr (by decide) (by decide) (by cases hf; exact hk) dX7_isHere_29
theorem M_X7_isHere {G : GT} {l : Launch} (hG : Glob G) {d : Nat} (hd : 2 ≤ d) {a0 : Nat} {x1 : Option Nat} {h : AH} {v : Int32} {h' : AH} (hf : X7_isHere a0 x1 h = some (v, h')) : MM G l yX7_isHere cX7_isHere 4 (Option.some Jvm.ClassFile.FieldType.boolean) d [vr (some a0), vr x1] h (some (vi v)) h' := by
  refine mm_of hG (plainFor_of_name (by decide)) (Nat.le_of_ble_eq_true rfl) (fun X hX ok hr hnm => ?_)
  subst hX
  exact W_X7_isHere ok hr hd hf rfl ⟨rfl, rfl, trivial⟩
theorem cw_X7_takes : CW yX7_takes cX7_takes 2 (Option.some Jvm.ClassFile.FieldType.boolean) 1 := ⟨q2184, q185, ⟨by decide, by decide⟩, by decide +kernel, by decide⟩
theorem W_X7_takes {G : GT} {X : CX} {d : Nat} {h0 : AH} {Q : State → Prop} (ok : Ok G X RX7 cX7_takes 2 d h0) (hr : (cxm X).sig.returnType = (Option.some Jvm.ClassFile.FieldType.boolean)) (hd : 3 ≤ d) {a0 : Nat} {x1 : Option Nat} {h : AH} {z : (Int32 × AH)} (hf : X7_takes a0 x1 h = some z) (hk : Q = QM G X h0 (some (vi z.1)) z.2) {lv : List (Nat × AV)} (hl : lle lv [(0, vr (some a0)), (1, vr x1)]) : V G X 2 h0 Q h 0 lv [] := by
  refine V.sub hl ?_
  unfold X7_takes at hf
  refine v_aload_n ok 0 dX7_takes_0 rfl rfl ?_
  refine v_aload_n ok 1 dX7_takes_1 rfl rfl ?_
  refine v_cVi ok (RX7, TX7, 117) cf_7.1 [vr x1] (F := fun a => X7_isHere a x1 h) (fun a v h1 _ hv => M_X7_isHere ok.2.2.2.2.2.2.1 (d := 2) (Nat.le_refl _) hv) (by exact Nat.le_trans (by decide) hd) cw_X7_isHere q2185 q2187 qs74 dX7_takes_2 [] rfl (Nat.le_of_ble_eq_true rfl) hf (fun v1 h2 hf => ?_)
  refine v_if_ne ok 10 dX7_takes_5 rfl hf (fun hf => ?_) (fun hf => ?_)
  ·
    refine v_aload_n ok 0 dX7_takes_10 rfl rfl ?_
    refine v_dup ok dX7_takes_11 rfl ?_
    refine v_gI ok fl_X7_263 (fun _ _ _ => rfl) dX7_takes_12 hf (fun v3 hf => ?_)
    refine v_aload_n ok 1 dX7_takes_15 rfl rfl ?_
    refine v_alen ok dX7_takes_16 hf (fun v4 hf => ?_)
    refine v_iadd ok dX7_takes_17 ?_
    refine v_pI ok fl_X7_263 ⟨fun _ _ _ => rfl, rfl⟩ (FN.of cf_7.1 rfl) dX7_takes_18 hf (fun h5 hf => ?_)
    refine v_aload_n ok 0 dX7_takes_21 rfl rfl ?_
    refine v_aload_n ok 0 dX7_takes_22 rfl rfl ?_
    refine v_gI ok fl_X7_263 (fun _ _ _ => rfl) dX7_takes_23 hf (fun v6 hf => ?_)
    refine v_pI ok fl_X7_277 ⟨fun _ _ _ => rfl, rfl⟩ (FN.of cf_7.1 rfl) dX7_takes_26 hf (fun h7 hf => ?_)
    refine v_iconst ok 1 dX7_takes_29 rfl ?_
    exact v_zretL ok hr (by decide) (by decide) (by cases hf; exact hk) dX7_takes_30
  ·
    refine v_iconst ok 0 dX7_takes_8 rfl ?_
    exact v_zretL ok hr (by decide) (by decide) (by cases hf; exact hk) dX7_takes_9
theorem M_X7_takes {G : GT} {l : Launch} (hG : Glob G) {d : Nat} (hd : 3 ≤ d) {a0 : Nat} {x1 : Option Nat} {h : AH} {v : Int32} {h' : AH} (hf : X7_takes a0 x1 h = some (v, h')) : MM G l yX7_takes cX7_takes 2 (Option.some Jvm.ClassFile.FieldType.boolean) d [vr (some a0), vr x1] h (some (vi v)) h' := by
  refine mm_of hG (plainFor_of_name (by decide)) (Nat.le_of_ble_eq_true rfl) (fun X hX ok hr hnm => ?_)
  subst hX
  exact W_X7_takes ok hr hd hf rfl ⟨rfl, rfl, trivial⟩
theorem cw_X7_asks : CW yX7_asks cX7_asks 2 none 1 := ⟨q2207, q185, ⟨by decide, by decide⟩, by decide +kernel, by decide⟩
theorem W_X7_asks {G : GT} {X : CX} {d : Nat} {h0 : AH} {Q : State → Prop} (ok : Ok G X RX7 cX7_asks 2 d h0) (hr : (cxm X).sig.returnType = none) (hd : 4 ≤ d) {a0 : Nat} {x1 : Option Nat} {h : AH} {z : (AH)} (hf : X7_asks a0 x1 h = some z) (hk : Q = QM G X h0 none z) {lv : List (Nat × AV)} (hl : lle lv [(0, vr (some a0)), (1, vr x1)]) : V G X 2 h0 Q h 0 lv [] := by
  refine V.sub hl ?_
  unfold X7_asks at hf
  refine v_aload_n ok 0 dX7_asks_0 rfl rfl ?_
  refine v_gI ok fl_X7_257 (fun _ _ _ => rfl) dX7_asks_1 hf (fun v1 hf => ?_)
  refine v_if_ne ok 24 dX7_asks_4 rfl hf (fun hf => ?_) (fun hf => ?_)
  ·
    exact v_vret ok hr (by cases hf; exact hk) dX7_asks_24
  ·
    refine v_aload_n ok 0 dX7_asks_7 rfl rfl ?_
    refine v_aload_n ok 1 dX7_asks_8 rfl rfl ?_
    refine v_cVi ok (RX7, TX7, 117) cf_7.1 [vr x1] (F := fun a => X7_takes a x1 h) (fun a v h1 _ hv => M_X7_takes ok.2.2.2.2.2.2.1 (d := 3) (Nat.le_refl _) hv) (by exact Nat.le_trans (by decide) hd) cw_X7_takes q2181 q2183 qs73 dX7_asks_9 [] rfl (Nat.le_of_ble_eq_true rfl) hf (fun v2 h3 hf => ?_)
    refine v_if_ne ok 24 dX7_asks_12 rfl hf (fun hf => ?_) (fun hf => ?_)
    ·
      exact v_vret ok hr (by cases hf; exact hk) dX7_asks_24
    ·
      refine v_aload_n ok 0 dX7_asks_15 rfl rfl ?_
      refine v_iconst ok 1 dX7_asks_16 rfl ?_
      refine v_aload_n ok 0 dX7_asks_17 rfl rfl ?_
      refine v_gI ok fl_X7_263 (fun _ _ _ => rfl) dX7_asks_18 hf (fun v4 hf => ?_)
      refine v_cVv ok (RX7, TX7, 117) cf_7.1 [vi 1, vi v4] (F := fun a => X7_fail a 1 v4 h3) (fun a h1 _ hv => M_X7_fail ok.2.2.2.2.2.2.1 (d := 1) (Nat.le_refl _) hv) (by exact Nat.le_trans (by decide) hd) cw_X7_fail q2177 q2179 qs72 dX7_asks_21 [] rfl (Nat.le_of_ble_eq_true rfl) hf (fun h5 hf => ?_)
      exact v_vret ok hr (by cases hf; exact hk) dX7_asks_24
theorem M_X7_asks {G : GT} {l : Launch} (hG : Glob G) {d : Nat} (hd : 4 ≤ d) {a0 : Nat} {x1 : Option Nat} {h : AH} {h' : AH} (hf : X7_asks a0 x1 h = some h') : MM G l yX7_asks cX7_asks 2 none d [vr (some a0), vr x1] h none h' := by
  refine mm_of hG (plainFor_of_name (by decide)) (Nat.le_of_ble_eq_true rfl) (fun X hX ok hr hnm => ?_)
  subst hX
  exact W_X7_asks ok hr hd hf rfl ⟨rfl, rfl, trivial⟩
theorem cw_X7_takesSign : CW yX7_takesSign cX7_takesSign 2 (Option.some Jvm.ClassFile.FieldType.boolean) 1 := ⟨q2285, q185, ⟨by decide, by decide⟩, by decide +kernel, by decide⟩
theorem W_X7_takesSign {G : GT} {X : CX} {d : Nat} {h0 : AH} {Q : State → Prop} (ok : Ok G X RX7 cX7_takesSign 2 d h0) (hr : (cxm X).sig.returnType = (Option.some Jvm.ClassFile.FieldType.boolean)) (hd : 2 ≤ d) {a0 : Nat} {x1 : Int32} {h : AH} {z : (Int32 × AH)} (hf : X7_takesSign a0 x1 h = some z) (hk : Q = QM G X h0 (some (vi z.1)) z.2) {lv : List (Nat × AV)} (hl : lle lv [(0, vr (some a0)), (1, vi x1)]) : V G X 2 h0 Q h 0 lv [] := by
  refine V.sub hl ?_
  unfold X7_takesSign at hf
  refine v_aload_n ok 0 dX7_takesSign_0 rfl rfl ?_
  refine v_gI ok fl_X7_257 (fun _ _ _ => rfl) dX7_takesSign_1 hf (fun v1 hf => ?_)
  refine v_if_ne ok 15 dX7_takesSign_4 rfl hf (fun hf => ?_) (fun hf => ?_)
  ·
    refine v_iconst ok 0 dX7_takesSign_15 rfl ?_
    exact v_zretL ok hr (by decide) (by decide) (by cases hf; exact hk) dX7_takesSign_16
  ·
    refine v_aload_n ok 0 dX7_takesSign_7 rfl rfl ?_
    refine v_cVi ok (RX7, TX7, 117) cf_7.1 [] (F := fun a => X7_look a h) (fun a v h1 _ hv => M_X7_look ok.2.2.2.2.2.2.1 (d := 1) (Nat.le_refl _) hv) (by exact Nat.le_trans (by decide) hd) cw_X7_look q2169 q2171 qs70 dX7_takesSign_8 [] rfl (Nat.le_of_ble_eq_true rfl) hf (fun v2 h3 hf => ?_)
    refine v_iload_n ok 1 dX7_takesSign_11 rfl rfl ?_
    refine v_icmp_eq ok 17 dX7_takesSign_12 rfl hf (fun hf => ?_) (fun hf => ?_)
    ·
      refine v_aload_n ok 0 dX7_takesSign_17 rfl rfl ?_
      refine v_dup ok dX7_takesSign_18 rfl ?_
      refine v_gI ok fl_X7_263 (fun _ _ _ => rfl) dX7_takesSign_19 hf (fun v4 hf => ?_)
      refine v_iconst ok 1 dX7_takesSign_22 rfl ?_
      refine v_iadd ok dX7_takesSign_23 ?_
      refine v_pI ok fl_X7_263 ⟨fun _ _ _ => rfl, rfl⟩ (FN.of cf_7.1 rfl) dX7_takesSign_24 hf (fun h5 hf => ?_)
      refine v_iconst ok 1 dX7_takesSign_27 rfl ?_
      exact v_zretL ok hr (by decide) (by decide) (by cases hf; exact hk) dX7_takesSign_28
    ·
      refine v_iconst ok 0 dX7_takesSign_15 rfl ?_
      exact v_zretL ok hr (by decide) (by decide) (by cases hf; exact hk) dX7_takesSign_16
theorem M_X7_takesSign {G : GT} {l : Launch} (hG : Glob G) {d : Nat} (hd : 2 ≤ d) {a0 : Nat} {x1 : Int32} {h : AH} {v : Int32} {h' : AH} (hf : X7_takesSign a0 x1 h = some (v, h')) : MM G l yX7_takesSign cX7_takesSign 2 (Option.some Jvm.ClassFile.FieldType.boolean) d [vr (some a0), vi x1] h (some (vi v)) h' := by
  refine mm_of hG (plainFor_of_name (by decide)) (Nat.le_of_ble_eq_true rfl) (fun X hX ok hr hnm => ?_)
  subst hX
  exact W_X7_takesSign ok hr hd hf rfl ⟨rfl, rfl, trivial⟩
theorem cw_X7_asksSign : CW yX7_asksSign cX7_asksSign 2 none 1 := ⟨q2281, q185, ⟨by decide, by decide⟩, by decide +kernel, by decide⟩
theorem W_X7_asksSign {G : GT} {X : CX} {d : Nat} {h0 : AH} {Q : State → Prop} (ok : Ok G X RX7 cX7_asksSign 2 d h0) (hr : (cxm X).sig.returnType = none) (hd : 3 ≤ d) {a0 : Nat} {x1 : Int32} {h : AH} {z : (AH)} (hf : X7_asksSign a0 x1 h = some z) (hk : Q = QM G X h0 none z) {lv : List (Nat × AV)} (hl : lle lv [(0, vr (some a0)), (1, vi x1)]) : V G X 2 h0 Q h 0 lv [] := by
  refine V.sub hl ?_
  unfold X7_asksSign at hf
  refine v_aload_n ok 0 dX7_asksSign_0 rfl rfl ?_
  refine v_gI ok fl_X7_257 (fun _ _ _ => rfl) dX7_asksSign_1 hf (fun v1 hf => ?_)
  refine v_if_ne ok 24 dX7_asksSign_4 rfl hf (fun hf => ?_) (fun hf => ?_)
  ·
    exact v_vret ok hr (by cases hf; exact hk) dX7_asksSign_24
  ·
    refine v_aload_n ok 0 dX7_asksSign_7 rfl rfl ?_
    refine v_iload_n ok 1 dX7_asksSign_8 rfl rfl ?_
    refine v_cVi ok (RX7, TX7, 117) cf_7.1 [vi x1] (F := fun a => X7_takesSign a x1 h) (fun a v h1 _ hv => M_X7_takesSign ok.2.2.2.2.2.2.1 (d := 2) (Nat.le_refl _) hv) (by exact Nat.le_trans (by decide) hd) cw_X7_takesSign q2282 q2284 qs96 dX7_asksSign_9 [] rfl (Nat.le_of_ble_eq_true rfl) hf (fun v2 h3 hf => ?_)
    refine v_if_ne ok 24 dX7_asksSign_12 rfl hf (fun hf => ?_) (fun hf => ?_)
    ·
      exact v_vret ok hr (by cases hf; exact hk) dX7_asksSign_24
    ·
      refine v_aload_n ok 0 dX7_asksSign_15 rfl rfl ?_
      refine v_iconst ok 1 dX7_asksSign_16 rfl ?_
      refine v_aload_n ok 0 dX7_asksSign_17 rfl rfl ?_
      refine v_gI ok fl_X7_263 (fun _ _ _ => rfl) dX7_asksSign_18 hf (fun v4 hf => ?_)
      refine v_cVv ok (RX7, TX7, 117) cf_7.1 [vi 1, vi v4] (F := fun a => X7_fail a 1 v4 h3) (fun a h1 _ hv => M_X7_fail ok.2.2.2.2.2.2.1 (d := 1) (Nat.le_refl _) hv) (by exact Nat.le_trans (by decide) hd) cw_X7_fail q2177 q2179 qs72 dX7_asksSign_21 [] rfl (Nat.le_of_ble_eq_true rfl) hf (fun h5 hf => ?_)
      exact v_vret ok hr (by cases hf; exact hk) dX7_asksSign_24
theorem M_X7_asksSign {G : GT} {l : Launch} (hG : Glob G) {d : Nat} (hd : 3 ≤ d) {a0 : Nat} {x1 : Int32} {h : AH} {h' : AH} (hf : X7_asksSign a0 x1 h = some h') : MM G l yX7_asksSign cX7_asksSign 2 none d [vr (some a0), vi x1] h none h' := by
  refine mm_of hG (plainFor_of_name (by decide)) (Nat.le_of_ble_eq_true rfl) (fun X hX ok hr hnm => ?_)
  subst hX
  exact W_X7_asksSign ok hr hd hf rfl ⟨rfl, rfl, trivial⟩
theorem cw_X7_isOwnHere : CW yX7_isOwnHere cX7_isOwnHere 2 (Option.some Jvm.ClassFile.FieldType.boolean) 0 := ⟨q2203, q185, ⟨by decide, by decide⟩, by decide +kernel, by decide⟩
theorem W_X7_isOwnHere_299 {G : GT} {X : CX} {d : Nat} {h0 : AH} {Q : State → Prop} (ok : Ok G X RX7 cX7_isOwnHere 2 d h0) (hr : (cxm X).sig.returnType = (Option.some Jvm.ClassFile.FieldType.boolean)) (hd : 3 ≤ d) {a0 : Nat} {s0 : Int32} {h : AH} {z : (Int32 × AH)} (hf : X7_isOwnHere_299 a0 s0 h = some z) (hk : Q = QM G X h0 (some (vi z.1)) z.2) {lv : List (Nat × AV)} (hl : lle lv [(0, vr (some a0))]) : V G X 2 h0 Q h 299 lv [vi s0] := by
  refine V.sub hl ?_
  unfold X7_isOwnHere_299 at hf
  refine v_istore_n ok 1 dX7_isOwnHere_299 rfl (by decide) ?_
  refine v_iload_n ok 1 dX7_isOwnHere_300 rfl rfl ?_
  refine v_if_ne ok 348 dX7_isOwnHere_301 rfl hf (fun hf => ?_) (fun hf => ?_)
  ·
    refine v_iconst ok 1 dX7_isOwnHere_348 rfl ?_
    refine v_goto ok 353 dX7_isOwnHere_349 rfl ?_
    refine v_istore_n ok 1 dX7_isOwnHere_353 rfl (by decide) ?_
    refine v_iload_n ok 1 dX7_isOwnHere_354 rfl rfl ?_
    exact v_zretL ok hr (by decide) (by decide) (by cases hf; exact hk) dX7_isOwnHere_355
  ·
    refine v_aload_n ok 0 dX7_isOwnHere_304 rfl rfl ?_
    refine v_aload_n ok 0 dX7_isOwnHere_305 rfl rfl ?_
    refine v_gR ok fl_X7_93 (by first | exact Or.inl ⟨_, rfl⟩ | exact Or.inr ⟨_, rfl⟩) dX7_isOwnHere_306 hf (fun v1 hf => ?_)
    refine v_cVi ok (RX7, TX7, 117) cf_7.1 [vr v1] (F := fun a => X7_isHere a v1 h) (fun a v h1 _ hv => M_X7_isHere ok.2.2.2.2.2.2.1 (d := 2) (Nat.le_refl _) hv) (by exact Nat.le_trans (by decide) hd) cw_X7_isHere q2185 q2187 qs74 dX7_isOwnHere_309 [] rfl (Nat.le_of_ble_eq_true rfl) hf (fun v2 h3 hf => ?_)
    refine v_if_ne ok 348 dX7_isOwnHere_312 rfl hf (fun hf => ?_) (fun hf => ?_)
    ·
      refine v_iconst ok 1 dX7_isOwnHere_348 rfl ?_
      refine v_goto ok 353 dX7_isOwnHere_349 rfl ?_
      refine v_istore_n ok 1 dX7_isOwnHere_353 rfl (by decide) ?_
      refine v_iload_n ok 1 dX7_isOwnHere_354 rfl rfl ?_
      exact v_zretL ok hr (by decide) (by decide) (by cases hf; exact hk) dX7_isOwnHere_355
    ·
      refine v_aload_n ok 0 dX7_isOwnHere_315 rfl rfl ?_
      refine v_aload_n ok 0 dX7_isOwnHere_316 rfl rfl ?_
      refine v_gR ok fl_X7_96 (by first | exact Or.inl ⟨_, rfl⟩ | exact Or.inr ⟨_, rfl⟩) dX7_isOwnHere_317 hf (fun v4 hf => ?_)
      refine v_cVi ok (RX7, TX7, 117) cf_7.1 [vr v4] (F := fun a => X7_isHere a v4 h3) (fun a v h1 _ hv => M_X7_isHere ok.2.2.2.2.2.2.1 (d := 2) (Nat.le_refl _) hv) (by exact Nat.le_trans (by decide) hd) cw_X7_isHere q2185 q2187 qs74 dX7_isOwnHere_320 [] rfl (Nat.le_of_ble_eq_true rfl) hf (fun v5 h6 hf => ?_)
      refine v_if_ne ok 348 dX7_isOwnHere_323 rfl hf (fun hf => ?_) (fun hf => ?_)
      ·
        refine v_iconst ok 1 dX7_isOwnHere_348 rfl ?_
        refine v_goto ok 353 dX7_isOwnHere_349 rfl ?_
        refine v_istore_n ok 1 dX7_isOwnHere_353 rfl (by decide) ?_
        refine v_iload_n ok 1 dX7_isOwnHere_354 rfl rfl ?_
        exact v_zretL ok hr (by decide) (by decide) (by cases hf; exact hk) dX7_isOwnHere_355
      ·
        refine v_aload_n ok 0 dX7_isOwnHere_326 rfl rfl ?_
        refine v_aload_n ok 0 dX7_isOwnHere_327 rfl rfl ?_
        refine v_gR ok fl_X7_99 (by first | exact Or.inl ⟨_, rfl⟩ | exact Or.inr ⟨_, rfl⟩) dX7_isOwnHere_328 hf (fun v7 hf => ?_)
        refine v_cVi ok (RX7, TX7, 117) cf_7.1 [vr v7] (F := fun a => X7_isHere a v7 h6) (fun a v h1 _ hv => M_X7_isHere ok.2.2.2.2.2.2.1 (d := 2) (Nat.le_refl _) hv) (by exact Nat.le_trans (by decide) hd) cw_X7_isHere q2185 q2187 qs74 dX7_isOwnHere_331 [] rfl (Nat.le_of_ble_eq_true rfl) hf (fun v8 h9 hf => ?_)
        refine v_if_ne ok 348 dX7_isOwnHere_334 rfl hf (fun hf => ?_) (fun hf => ?_)
        ·
          refine v_iconst ok 1 dX7_isOwnHere_348 rfl ?_
          refine v_goto ok 353 dX7_isOwnHere_349 rfl ?_
          refine v_istore_n ok 1 dX7_isOwnHere_353 rfl (by decide) ?_
          refine v_iload_n ok 1 dX7_isOwnHere_354 rfl rfl ?_
          exact v_zretL ok hr (by decide) (by decide) (by cases hf; exact hk) dX7_isOwnHere_355
        ·
          refine v_aload_n ok 0 dX7_isOwnHere_337 rfl rfl ?_
          refine v_aload_n ok 0 dX7_isOwnHere_338 rfl rfl ?_
          refine v_gR ok fl_X7_102 (by first | exact Or.inl ⟨_, rfl⟩ | exact Or.inr ⟨_, rfl⟩) dX7_isOwnHere_339 hf (fun v10 hf => ?_)
          refine v_cVi ok (RX7, TX7, 117) cf_7.1 [vr v10] (F := fun a => X7_isHere a v10 h9) (fun a v h1 _ hv => M_X7_isHere ok.2.2.2.2.2.2.1 (d := 2) (Nat.le_refl _) hv) (by exact Nat.le_trans (by decide) hd) cw_X7_isHere q2185 q2187 qs74 dX7_isOwnHere_342 [] rfl (Nat.le_of_ble_eq_true rfl) hf (fun v11 h12 hf => ?_)
          refine v_if_eq ok 352 dX7_isOwnHere_345 rfl hf (fun hf => ?_) (fun hf => ?_)
          ·
            refine v_iconst ok 0 dX7_isOwnHere_352 rfl ?_
            refine v_istore_n ok 1 dX7_isOwnHere_353 rfl (by decide) ?_
            refine v_iload_n ok 1 dX7_isOwnHere_354 rfl rfl ?_
            exact v_zretL ok hr (by decide) (by decide) (by cases hf; exact hk) dX7_isOwnHere_355
          ·
            refine v_iconst ok 1 dX7_isOwnHere_348 rfl ?_
            refine v_goto ok 353 dX7_isOwnHere_349 rfl ?_
            refine v_istore_n ok 1 dX7_isOwnHere_353 rfl (by decide) ?_
            refine v_iload_n ok 1 dX7_isOwnHere_354 rfl rfl ?_
            exact v_zretL ok hr (by decide) (by decide) (by cases hf; exact hk) dX7_isOwnHere_355
theorem W_X7_isOwnHere_294 {G : GT} {X : CX} {d : Nat} {h0 : AH} {Q : State → Prop} (ok : Ok G X RX7 cX7_isOwnHere 2 d h0) (hr : (cxm X).sig.returnType = (Option.some Jvm.ClassFile.FieldType.boolean)) (hd : 3 ≤ d) {a0 : Nat} {h : AH} {z : (Int32 × AH)} (hf : X7_isOwnHere_294 a0 h = some z) (hk : Q = QM G X h0 (some (vi z.1)) z.2) {lv : List (Nat × AV)} (hl : lle lv [(0, vr (some a0))]) : V G X 2 h0 Q h 294 lv [] := by
  refine V.sub hl ?_
  unfold X7_isOwnHere_294 at hf
  refine v_iconst ok 1 dX7_isOwnHere_294 rfl ?_
  refine v_goto ok 299 dX7_isOwnHere_295 rfl ?_
  exact W_X7_isOwnHere_299 ok hr hd hf hk ⟨rfl, trivial⟩
theorem W_X7_isOwnHere_223 {G : GT} {X : CX} {d : Nat} {h0 : AH} {Q : State → Prop} (ok : Ok G X RX7 cX7_isOwnHere 2 d h0) (hr : (cxm X).sig.returnType = (Option.some Jvm.ClassFile.FieldType.boolean)) (hd : 3 ≤ d) {a0 : Nat} {s0 : Int32} {h : AH} {z : (Int32 × AH)} (hf : X7_isOwnHere_223 a0 s0 h = some z) (hk : Q = QM G X h0 (some (vi z.1)) z.2) {lv : List (Nat × AV)} (hl : lle lv [(0, vr (some a0))]) : V G X 2 h0 Q h 223 lv [vi s0] := by
  refine V.sub hl ?_
  unfold X7_isOwnHere_223 at hf
  refine v_istore_n ok 1 dX7_isOwnHere_223 rfl (by decide) ?_
  refine v_iload_n ok 1 dX7_isOwnHere_224 rfl rfl ?_
  refine v_if_ne ok 294 dX7_isOwnHere_225 rfl hf (fun hf => ?_) (fun hf => ?_)
  ·
    exact W_X7_isOwnHere_294 ok hr hd hf hk ⟨rfl, trivial⟩
  ·
    refine v_aload_n ok 0 dX7_isOwnHere_228 rfl rfl ?_
    refine v_aload_n ok 0 dX7_isOwnHere_229 rfl rfl ?_
    refine v_gR ok fl_X7_75 (by first | exact Or.inl ⟨_, rfl⟩ | exact Or.inr ⟨_, rfl⟩) dX7_isOwnHere_230 hf (fun v13 hf => ?_)
    refine v_cVi ok (RX7, TX7, 117) cf_7.1 [vr v13] (F := fun a => X7_isHere a v13 h) (fun a v h1 _ hv => M_X7_isHere ok.2.2.2.2.2.2.1 (d := 2) (Nat.le_refl _) hv) (by exact Nat.le_trans (by decide) hd) cw_X7_isHere q2185 q2187 qs74 dX7_isOwnHere_233 [] rfl (Nat.le_of_ble_eq_true rfl) hf (fun v14 h15 hf => ?_)
    refine v_if_ne ok 294 dX7_isOwnHere_236 rfl hf (fun hf => ?_) (fun hf => ?_)
    ·
      exact W_X7_isOwnHere_294 ok hr hd hf hk ⟨rfl, trivial⟩
    ·
      refine v_aload_n ok 0 dX7_isOwnHere_239 rfl rfl ?_
      refine v_aload_n ok 0 dX7_isOwnHere_240 rfl rfl ?_
      refine v_gR ok fl_X7_78 (by first | exact Or.inl ⟨_, rfl⟩ | exact Or.inr ⟨_, rfl⟩) dX7_isOwnHere_241 hf (fun v16 hf => ?_)
      refine v_cVi ok (RX7, TX7, 117) cf_7.1 [vr v16] (F := fun a => X7_isHere a v16 h15) (fun a v h1 _ hv => M_X7_isHere ok.2.2.2.2.2.2.1 (d := 2) (Nat.le_refl _) hv) (by exact Nat.le_trans (by decide) hd) cw_X7_isHere q2185 q2187 qs74 dX7_isOwnHere_244 [] rfl (Nat.le_of_ble_eq_true rfl) hf (fun v17 h18 hf => ?_)
      refine v_if_ne ok 294 dX7_isOwnHere_247 rfl hf (fun hf => ?_) (fun hf => ?_)
      ·
        exact W_X7_isOwnHere_294 ok hr hd hf hk ⟨rfl, trivial⟩
      ·
        refine v_aload_n ok 0 dX7_isOwnHere_250 rfl rfl ?_
        refine v_aload_n ok 0 dX7_isOwnHere_251 rfl rfl ?_
        refine v_gR ok fl_X7_81 (by first | exact Or.inl ⟨_, rfl⟩ | exact Or.inr ⟨_, rfl⟩) dX7_isOwnHere_252 hf (fun v19 hf => ?_)
        refine v_cVi ok (RX7, TX7, 117) cf_7.1 [vr v19] (F := fun a => X7_isHere a v19 h18) (fun a v h1 _ hv => M_X7_isHere ok.2.2.2.2.2.2.1 (d := 2) (Nat.le_refl _) hv) (by exact Nat.le_trans (by decide) hd) cw_X7_isHere q2185 q2187 qs74 dX7_isOwnHere_255 [] rfl (Nat.le_of_ble_eq_true rfl) hf (fun v20 h21 hf => ?_)
        refine v_if_ne ok 294 dX7_isOwnHere_258 rfl hf (fun hf => ?_) (fun hf => ?_)
        ·
          exact W_X7_isOwnHere_294 ok hr hd hf hk ⟨rfl, trivial⟩
        ·
          refine v_aload_n ok 0 dX7_isOwnHere_261 rfl rfl ?_
          refine v_aload_n ok 0 dX7_isOwnHere_262 rfl rfl ?_
          refine v_gR ok fl_X7_84 (by first | exact Or.inl ⟨_, rfl⟩ | exact Or.inr ⟨_, rfl⟩) dX7_isOwnHere_263 hf (fun v22 hf => ?_)
          refine v_cVi ok (RX7, TX7, 117) cf_7.1 [vr v22] (F := fun a => X7_isHere a v22 h21) (fun a v h1 _ hv => M_X7_isHere ok.2.2.2.2.2.2.1 (d := 2) (Nat.le_refl _) hv) (by exact Nat.le_trans (by decide) hd) cw_X7_isHere q2185 q2187 qs74 dX7_isOwnHere_266 [] rfl (Nat.le_of_ble_eq_true rfl) hf (fun v23 h24 hf => ?_)
          refine v_if_ne ok 294 dX7_isOwnHere_269 rfl hf (fun hf => ?_) (fun hf => ?_)
          ·
            exact W_X7_isOwnHere_294 ok hr hd hf hk ⟨rfl, trivial⟩
          ·
            refine v_aload_n ok 0 dX7_isOwnHere_272 rfl rfl ?_
            refine v_aload_n ok 0 dX7_isOwnHere_273 rfl rfl ?_
            refine v_gR ok fl_X7_87 (by first | exact Or.inl ⟨_, rfl⟩ | exact Or.inr ⟨_, rfl⟩) dX7_isOwnHere_274 hf (fun v25 hf => ?_)
            refine v_cVi ok (RX7, TX7, 117) cf_7.1 [vr v25] (F := fun a => X7_isHere a v25 h24) (fun a v h1 _ hv => M_X7_isHere ok.2.2.2.2.2.2.1 (d := 2) (Nat.le_refl _) hv) (by exact Nat.le_trans (by decide) hd) cw_X7_isHere q2185 q2187 qs74 dX7_isOwnHere_277 [] rfl (Nat.le_of_ble_eq_true rfl) hf (fun v26 h27 hf => ?_)
            refine v_if_ne ok 294 dX7_isOwnHere_280 rfl hf (fun hf => ?_) (fun hf => ?_)
            ·
              exact W_X7_isOwnHere_294 ok hr hd hf hk ⟨rfl, trivial⟩
            ·
              refine v_aload_n ok 0 dX7_isOwnHere_283 rfl rfl ?_
              refine v_aload_n ok 0 dX7_isOwnHere_284 rfl rfl ?_
              refine v_gR ok fl_X7_90 (by first | exact Or.inl ⟨_, rfl⟩ | exact Or.inr ⟨_, rfl⟩) dX7_isOwnHere_285 hf (fun v28 hf => ?_)
              refine v_cVi ok (RX7, TX7, 117) cf_7.1 [vr v28] (F := fun a => X7_isHere a v28 h27) (fun a v h1 _ hv => M_X7_isHere ok.2.2.2.2.2.2.1 (d := 2) (Nat.le_refl _) hv) (by exact Nat.le_trans (by decide) hd) cw_X7_isHere q2185 q2187 qs74 dX7_isOwnHere_288 [] rfl (Nat.le_of_ble_eq_true rfl) hf (fun v29 h30 hf => ?_)
              refine v_if_eq ok 298 dX7_isOwnHere_291 rfl hf (fun hf => ?_) (fun hf => ?_)
              ·
                refine v_iconst ok 0 dX7_isOwnHere_298 rfl ?_
                exact W_X7_isOwnHere_299 ok hr hd hf hk ⟨rfl, trivial⟩
              ·
                exact W_X7_isOwnHere_294 ok hr hd hf hk ⟨rfl, trivial⟩
theorem W_X7_isOwnHere_218 {G : GT} {X : CX} {d : Nat} {h0 : AH} {Q : State → Prop} (ok : Ok G X RX7 cX7_isOwnHere 2 d h0) (hr : (cxm X).sig.returnType = (Option.some Jvm.ClassFile.FieldType.boolean)) (hd : 3 ≤ d) {a0 : Nat} {h : AH} {z : (Int32 × AH)} (hf : X7_isOwnHere_218 a0 h = some z) (hk : Q = QM G X h0 (some (vi z.1)) z.2) {lv : List (Nat × AV)} (hl : lle lv [(0, vr (some a0))]) : V G X 2 h0 Q h 218 lv [] := by
  refine V.sub hl ?_
  unfold X7_isOwnHere_218 at hf
  refine v_iconst ok 1 dX7_isOwnHere_218 rfl ?_
  refine v_goto ok 223 dX7_isOwnHere_219 rfl ?_
  exact W_X7_isOwnHere_223 ok hr hd hf hk ⟨rfl, trivial⟩
theorem W_X7_isOwnHere_147 {G : GT} {X : CX} {d : Nat} {h0 : AH} {Q : State → Prop} (ok : Ok G X RX7 cX7_isOwnHere 2 d h0) (hr : (cxm X).sig.returnType = (Option.some Jvm.ClassFile.FieldType.boolean)) (hd : 3 ≤ d) {a0 : Nat} {s0 : Int32} {h : AH} {z : (Int32 × AH)} (hf : X7_isOwnHere_147 a0 s0 h = some z) (hk : Q = QM G X h0 (some (vi z.1)) z.2) {lv : List (Nat × AV)} (hl : lle lv [(0, vr (some a0))]) : V G X 2 h0 Q h 147 lv [vi s0] := by
  refine V.sub hl ?_
  unfold X7_isOwnHere_147 at hf
  refine v_istore_n ok 1 dX7_isOwnHere_147 rfl (by decide) ?_
  refine v_iload_n ok 1 dX7_isOwnHere_148 rfl rfl ?_
  refine v_if_ne ok 218 dX7_isOwnHere_149 rfl hf (fun hf => ?_) (fun hf => ?_)
  ·
    exact W_X7_isOwnHere_218 ok hr hd hf hk ⟨rfl, trivial⟩
  ·
    refine v_aload_n ok 0 dX7_isOwnHere_152 rfl rfl ?_
    refine v_aload_n ok 0 dX7_isOwnHere_153 rfl rfl ?_
    refine v_gR ok fl_X7_57 (by first | exact Or.inl ⟨_, rfl⟩ | exact Or.inr ⟨_, rfl⟩) dX7_isOwnHere_154 hf (fun v31 hf => ?_)
    refine v_cVi ok (RX7, TX7, 117) cf_7.1 [vr v31] (F := fun a => X7_isHere a v31 h) (fun a v h1 _ hv => M_X7_isHere ok.2.2.2.2.2.2.1 (d := 2) (Nat.le_refl _) hv) (by exact Nat.le_trans (by decide) hd) cw_X7_isHere q2185 q2187 qs74 dX7_isOwnHere_157 [] rfl (Nat.le_of_ble_eq_true rfl) hf (fun v32 h33 hf => ?_)
    refine v_if_ne ok 218 dX7_isOwnHere_160 rfl hf (fun hf => ?_) (fun hf => ?_)
    ·
      exact W_X7_isOwnHere_218 ok hr hd hf hk ⟨rfl, trivial⟩
    ·
      refine v_aload_n ok 0 dX7_isOwnHere_163 rfl rfl ?_
      refine v_aload_n ok 0 dX7_isOwnHere_164 rfl rfl ?_
      refine v_gR ok fl_X7_60 (by first | exact Or.inl ⟨_, rfl⟩ | exact Or.inr ⟨_, rfl⟩) dX7_isOwnHere_165 hf (fun v34 hf => ?_)
      refine v_cVi ok (RX7, TX7, 117) cf_7.1 [vr v34] (F := fun a => X7_isHere a v34 h33) (fun a v h1 _ hv => M_X7_isHere ok.2.2.2.2.2.2.1 (d := 2) (Nat.le_refl _) hv) (by exact Nat.le_trans (by decide) hd) cw_X7_isHere q2185 q2187 qs74 dX7_isOwnHere_168 [] rfl (Nat.le_of_ble_eq_true rfl) hf (fun v35 h36 hf => ?_)
      refine v_if_ne ok 218 dX7_isOwnHere_171 rfl hf (fun hf => ?_) (fun hf => ?_)
      ·
        exact W_X7_isOwnHere_218 ok hr hd hf hk ⟨rfl, trivial⟩
      ·
        refine v_aload_n ok 0 dX7_isOwnHere_174 rfl rfl ?_
        refine v_aload_n ok 0 dX7_isOwnHere_175 rfl rfl ?_
        refine v_gR ok fl_X7_63 (by first | exact Or.inl ⟨_, rfl⟩ | exact Or.inr ⟨_, rfl⟩) dX7_isOwnHere_176 hf (fun v37 hf => ?_)
        refine v_cVi ok (RX7, TX7, 117) cf_7.1 [vr v37] (F := fun a => X7_isHere a v37 h36) (fun a v h1 _ hv => M_X7_isHere ok.2.2.2.2.2.2.1 (d := 2) (Nat.le_refl _) hv) (by exact Nat.le_trans (by decide) hd) cw_X7_isHere q2185 q2187 qs74 dX7_isOwnHere_179 [] rfl (Nat.le_of_ble_eq_true rfl) hf (fun v38 h39 hf => ?_)
        refine v_if_ne ok 218 dX7_isOwnHere_182 rfl hf (fun hf => ?_) (fun hf => ?_)
        ·
          exact W_X7_isOwnHere_218 ok hr hd hf hk ⟨rfl, trivial⟩
        ·
          refine v_aload_n ok 0 dX7_isOwnHere_185 rfl rfl ?_
          refine v_aload_n ok 0 dX7_isOwnHere_186 rfl rfl ?_
          refine v_gR ok fl_X7_66 (by first | exact Or.inl ⟨_, rfl⟩ | exact Or.inr ⟨_, rfl⟩) dX7_isOwnHere_187 hf (fun v40 hf => ?_)
          refine v_cVi ok (RX7, TX7, 117) cf_7.1 [vr v40] (F := fun a => X7_isHere a v40 h39) (fun a v h1 _ hv => M_X7_isHere ok.2.2.2.2.2.2.1 (d := 2) (Nat.le_refl _) hv) (by exact Nat.le_trans (by decide) hd) cw_X7_isHere q2185 q2187 qs74 dX7_isOwnHere_190 [] rfl (Nat.le_of_ble_eq_true rfl) hf (fun v41 h42 hf => ?_)
          refine v_if_ne ok 218 dX7_isOwnHere_193 rfl hf (fun hf => ?_) (fun hf => ?_)
          ·
            exact W_X7_isOwnHere_218 ok hr hd hf hk ⟨rfl, trivial⟩
          ·
            refine v_aload_n ok 0 dX7_isOwnHere_196 rfl rfl ?_
            refine v_aload_n ok 0 dX7_isOwnHere_197 rfl rfl ?_
            refine v_gR ok fl_X7_69 (by first | exact Or.inl ⟨_, rfl⟩ | exact Or.inr ⟨_, rfl⟩) dX7_isOwnHere_198 hf (fun v43 hf => ?_)
            refine v_cVi ok (RX7, TX7, 117) cf_7.1 [vr v43] (F := fun a => X7_isHere a v43 h42) (fun a v h1 _ hv => M_X7_isHere ok.2.2.2.2.2.2.1 (d := 2) (Nat.le_refl _) hv) (by exact Nat.le_trans (by decide) hd) cw_X7_isHere q2185 q2187 qs74 dX7_isOwnHere_201 [] rfl (Nat.le_of_ble_eq_true rfl) hf (fun v44 h45 hf => ?_)
            refine v_if_ne ok 218 dX7_isOwnHere_204 rfl hf (fun hf => ?_) (fun hf => ?_)
            ·
              exact W_X7_isOwnHere_218 ok hr hd hf hk ⟨rfl, trivial⟩
            ·
              refine v_aload_n ok 0 dX7_isOwnHere_207 rfl rfl ?_
              refine v_aload_n ok 0 dX7_isOwnHere_208 rfl rfl ?_
              refine v_gR ok fl_X7_72 (by first | exact Or.inl ⟨_, rfl⟩ | exact Or.inr ⟨_, rfl⟩) dX7_isOwnHere_209 hf (fun v46 hf => ?_)
              refine v_cVi ok (RX7, TX7, 117) cf_7.1 [vr v46] (F := fun a => X7_isHere a v46 h45) (fun a v h1 _ hv => M_X7_isHere ok.2.2.2.2.2.2.1 (d := 2) (Nat.le_refl _) hv) (by exact Nat.le_trans (by decide) hd) cw_X7_isHere q2185 q2187 qs74 dX7_isOwnHere_212 [] rfl (Nat.le_of_ble_eq_true rfl) hf (fun v47 h48 hf => ?_)
              refine v_if_eq ok 222 dX7_isOwnHere_215 rfl hf (fun hf => ?_) (fun hf => ?_)
              ·
                refine v_iconst ok 0 dX7_isOwnHere_222 rfl ?_
                exact W_X7_isOwnHere_223 ok hr hd hf hk ⟨rfl, trivial⟩
              ·
                exact W_X7_isOwnHere_218 ok hr hd hf hk ⟨rfl, trivial⟩
theorem W_X7_isOwnHere_142 {G : GT} {X : CX} {d : Nat} {h0 : AH} {Q : State → Prop} (ok : Ok G X RX7 cX7_isOwnHere 2 d h0) (hr : (cxm X).sig.returnType = (Option.some Jvm.ClassFile.FieldType.boolean)) (hd : 3 ≤ d) {a0 : Nat} {h : AH} {z : (Int32 × AH)} (hf : X7_isOwnHere_142 a0 h = some z) (hk : Q = QM G X h0 (some (vi z.1)) z.2) {lv : List (Nat × AV)} (hl : lle lv [(0, vr (some a0))]) : V G X 2 h0 Q h 142 lv [] := by
  refine V.sub hl ?_
  unfold X7_isOwnHere_142 at hf
  refine v_iconst ok 1 dX7_isOwnHere_142 rfl ?_
  refine v_goto ok 147 dX7_isOwnHere_143 rfl ?_
  exact W_X7_isOwnHere_147 ok hr hd hf hk ⟨rfl, trivial⟩
theorem W_X7_isOwnHere_71 {G : GT} {X : CX} {d : Nat} {h0 : AH} {Q : State → Prop} (ok : Ok G X RX7 cX7_isOwnHere 2 d h0) (hr : (cxm X).sig.returnType = (Option.some Jvm.ClassFile.FieldType.boolean)) (hd : 3 ≤ d) {a0 : Nat} {s0 : Int32} {h : AH} {z : (Int32 × AH)} (hf : X7_isOwnHere_71 a0 s0 h = some z) (hk : Q = QM G X h0 (some (vi z.1)) z.2) {lv : List (Nat × AV)} (hl : lle lv [(0, vr (some a0))]) : V G X 2 h0 Q h 71 lv [vi s0] := by
  refine V.sub hl ?_
  unfold X7_isOwnHere_71 at hf
  refine v_istore_n ok 1 dX7_isOwnHere_71 rfl (by decide) ?_
  refine v_iload_n ok 1 dX7_isOwnHere_72 rfl rfl ?_
  refine v_if_ne ok 142 dX7_isOwnHere_73 rfl hf (fun hf => ?_) (fun hf => ?_)
  ·
    exact W_X7_isOwnHere_142 ok hr hd hf hk ⟨rfl, trivial⟩
  ·
    refine v_aload_n ok 0 dX7_isOwnHere_76 rfl rfl ?_
    refine v_aload_n ok 0 dX7_isOwnHere_77 rfl rfl ?_
    refine v_gR ok fl_X7_39 (by first | exact Or.inl ⟨_, rfl⟩ | exact Or.inr ⟨_, rfl⟩) dX7_isOwnHere_78 hf (fun v49 hf => ?_)
    refine v_cVi ok (RX7, TX7, 117) cf_7.1 [vr v49] (F := fun a => X7_isHere a v49 h) (fun a v h1 _ hv => M_X7_isHere ok.2.2.2.2.2.2.1 (d := 2) (Nat.le_refl _) hv) (by exact Nat.le_trans (by decide) hd) cw_X7_isHere q2185 q2187 qs74 dX7_isOwnHere_81 [] rfl (Nat.le_of_ble_eq_true rfl) hf (fun v50 h51 hf => ?_)
    refine v_if_ne ok 142 dX7_isOwnHere_84 rfl hf (fun hf => ?_) (fun hf => ?_)
    ·
      exact W_X7_isOwnHere_142 ok hr hd hf hk ⟨rfl, trivial⟩
    ·
      refine v_aload_n ok 0 dX7_isOwnHere_87 rfl rfl ?_
      refine v_aload_n ok 0 dX7_isOwnHere_88 rfl rfl ?_
      refine v_gR ok fl_X7_42 (by first | exact Or.inl ⟨_, rfl⟩ | exact Or.inr ⟨_, rfl⟩) dX7_isOwnHere_89 hf (fun v52 hf => ?_)
      refine v_cVi ok (RX7, TX7, 117) cf_7.1 [vr v52] (F := fun a => X7_isHere a v52 h51) (fun a v h1 _ hv => M_X7_isHere ok.2.2.2.2.2.2.1 (d := 2) (Nat.le_refl _) hv) (by exact Nat.le_trans (by decide) hd) cw_X7_isHere q2185 q2187 qs74 dX7_isOwnHere_92 [] rfl (Nat.le_of_ble_eq_true rfl) hf (fun v53 h54 hf => ?_)
      refine v_if_ne ok 142 dX7_isOwnHere_95 rfl hf (fun hf => ?_) (fun hf => ?_)
      ·
        exact W_X7_isOwnHere_142 ok hr hd hf hk ⟨rfl, trivial⟩
      ·
        refine v_aload_n ok 0 dX7_isOwnHere_98 rfl rfl ?_
        refine v_aload_n ok 0 dX7_isOwnHere_99 rfl rfl ?_
        refine v_gR ok fl_X7_45 (by first | exact Or.inl ⟨_, rfl⟩ | exact Or.inr ⟨_, rfl⟩) dX7_isOwnHere_100 hf (fun v55 hf => ?_)
        refine v_cVi ok (RX7, TX7, 117) cf_7.1 [vr v55] (F := fun a => X7_isHere a v55 h54) (fun a v h1 _ hv => M_X7_isHere ok.2.2.2.2.2.2.1 (d := 2) (Nat.le_refl _) hv) (by exact Nat.le_trans (by decide) hd) cw_X7_isHere q2185 q2187 qs74 dX7_isOwnHere_103 [] rfl (Nat.le_of_ble_eq_true rfl) hf (fun v56 h57 hf => ?_)
        refine v_if_ne ok 142 dX7_isOwnHere_106 rfl hf (fun hf => ?_) (fun hf => ?_)
        ·
          exact W_X7_isOwnHere_142 ok hr hd hf hk ⟨rfl, trivial⟩
        ·
          refine v_aload_n ok 0 dX7_isOwnHere_109 rfl rfl ?_
          refine v_aload_n ok 0 dX7_isOwnHere_110 rfl rfl ?_
          refine v_gR ok fl_X7_48 (by first | exact Or.inl ⟨_, rfl⟩ | exact Or.inr ⟨_, rfl⟩) dX7_isOwnHere_111 hf (fun v58 hf => ?_)
          refine v_cVi ok (RX7, TX7, 117) cf_7.1 [vr v58] (F := fun a => X7_isHere a v58 h57) (fun a v h1 _ hv => M_X7_isHere ok.2.2.2.2.2.2.1 (d := 2) (Nat.le_refl _) hv) (by exact Nat.le_trans (by decide) hd) cw_X7_isHere q2185 q2187 qs74 dX7_isOwnHere_114 [] rfl (Nat.le_of_ble_eq_true rfl) hf (fun v59 h60 hf => ?_)
          refine v_if_ne ok 142 dX7_isOwnHere_117 rfl hf (fun hf => ?_) (fun hf => ?_)
          ·
            exact W_X7_isOwnHere_142 ok hr hd hf hk ⟨rfl, trivial⟩
          ·
            refine v_aload_n ok 0 dX7_isOwnHere_120 rfl rfl ?_
            refine v_aload_n ok 0 dX7_isOwnHere_121 rfl rfl ?_
            refine v_gR ok fl_X7_51 (by first | exact Or.inl ⟨_, rfl⟩ | exact Or.inr ⟨_, rfl⟩) dX7_isOwnHere_122 hf (fun v61 hf => ?_)
            refine v_cVi ok (RX7, TX7, 117) cf_7.1 [vr v61] (F := fun a => X7_isHere a v61 h60) (fun a v h1 _ hv => M_X7_isHere ok.2.2.2.2.2.2.1 (d := 2) (Nat.le_refl _) hv) (by exact Nat.le_trans (by decide) hd) cw_X7_isHere q2185 q2187 qs74 dX7_isOwnHere_125 [] rfl (Nat.le_of_ble_eq_true rfl) hf (fun v62 h63 hf => ?_)
            refine v_if_ne ok 142 dX7_isOwnHere_128 rfl hf (fun hf => ?_) (fun hf => ?_)
            ·
              exact W_X7_isOwnHere_142 ok hr hd hf hk ⟨rfl, trivial⟩
            ·
              refine v_aload_n ok 0 dX7_isOwnHere_131 rfl rfl ?_
              refine v_aload_n ok 0 dX7_isOwnHere_132 rfl rfl ?_
              refine v_gR ok fl_X7_54 (by first | exact Or.inl ⟨_, rfl⟩ | exact Or.inr ⟨_, rfl⟩) dX7_isOwnHere_133 hf (fun v64 hf => ?_)
              refine v_cVi ok (RX7, TX7, 117) cf_7.1 [vr v64] (F := fun a => X7_isHere a v64 h63) (fun a v h1 _ hv => M_X7_isHere ok.2.2.2.2.2.2.1 (d := 2) (Nat.le_refl _) hv) (by exact Nat.le_trans (by decide) hd) cw_X7_isHere q2185 q2187 qs74 dX7_isOwnHere_136 [] rfl (Nat.le_of_ble_eq_true rfl) hf (fun v65 h66 hf => ?_)
              refine v_if_eq ok 146 dX7_isOwnHere_139 rfl hf (fun hf => ?_) (fun hf => ?_)
              ·
                refine v_iconst ok 0 dX7_isOwnHere_146 rfl ?_
                exact W_X7_isOwnHere_147 ok hr hd hf hk ⟨rfl, trivial⟩
              ·
                exact W_X7_isOwnHere_142 ok hr hd hf hk ⟨rfl, trivial⟩
theorem W_X7_isOwnHere_66 {G : GT} {X : CX} {d : Nat} {h0 : AH} {Q : State → Prop} (ok : Ok G X RX7 cX7_isOwnHere 2 d h0) (hr : (cxm X).sig.returnType = (Option.some Jvm.ClassFile.FieldType.boolean)) (hd : 3 ≤ d) {a0 : Nat} {h : AH} {z : (Int32 × AH)} (hf : X7_isOwnHere_66 a0 h = some z) (hk : Q = QM G X h0 (some (vi z.1)) z.2) {lv : List (Nat × AV)} (hl : lle lv [(0, vr (some a0))]) : V G X 2 h0 Q h 66 lv [] := by
  refine V.sub hl ?_
  unfold X7_isOwnHere_66 at hf
  refine v_iconst ok 1 dX7_isOwnHere_66 rfl ?_
  refine v_goto ok 71 dX7_isOwnHere_67 rfl ?_
  exact W_X7_isOwnHere_71 ok hr hd hf hk ⟨rfl, trivial⟩
theorem W_X7_isOwnHere {G : GT} {X : CX} {d : Nat} {h0 : AH} {Q : State → Prop} (ok : Ok G X RX7 cX7_isOwnHere 2 d h0) (hr : (cxm X).sig.returnType = (Option.some Jvm.ClassFile.FieldType.boolean)) (hd : 3 ≤ d) {a0 : Nat} {h : AH} {z : (Int32 × AH)} (hf : X7_isOwnHere a0 h = some z) (hk : Q = QM G X h0 (some (vi z.1)) z.2) {lv : List (Nat × AV)} (hl : lle lv [(0, vr (some a0))]) : V G X 2 h0 Q h 0 lv [] := by
  refine V.sub hl ?_
  unfold X7_isOwnHere at hf
  refine v_aload_n ok 0 dX7_isOwnHere_0 rfl rfl ?_
  refine v_aload_n ok 0 dX7_isOwnHere_1 rfl rfl ?_
  refine v_gR ok fl_X7_20 (by first | exact Or.inl ⟨_, rfl⟩ | exact Or.inr ⟨_, rfl⟩) dX7_isOwnHere_2 hf (fun v67 hf => ?_)
  refine v_cVi ok (RX7, TX7, 117) cf_7.1 [vr v67] (F := fun a => X7_isHere a v67 h) (fun a v h1 _ hv => M_X7_isHere ok.2.2.2.2.2.2.1 (d := 2) (Nat.le_refl _) hv) (by exact Nat.le_trans (by decide) hd) cw_X7_isHere q2185 q2187 qs74 dX7_isOwnHere_5 [] rfl (Nat.le_of_ble_eq_true rfl) hf (fun v68 h69 hf => ?_)
  refine v_if_ne ok 66 dX7_isOwnHere_8 rfl hf (fun hf => ?_) (fun hf => ?_)
  ·
    exact W_X7_isOwnHere_66 ok hr hd hf hk ⟨rfl, trivial⟩
  ·
    refine v_aload_n ok 0 dX7_isOwnHere_11 rfl rfl ?_
    refine v_aload_n ok 0 dX7_isOwnHere_12 rfl rfl ?_
    refine v_gR ok fl_X7_24 (by first | exact Or.inl ⟨_, rfl⟩ | exact Or.inr ⟨_, rfl⟩) dX7_isOwnHere_13 hf (fun v70 hf => ?_)
    refine v_cVi ok (RX7, TX7, 117) cf_7.1 [vr v70] (F := fun a => X7_isHere a v70 h69) (fun a v h1 _ hv => M_X7_isHere ok.2.2.2.2.2.2.1 (d := 2) (Nat.le_refl _) hv) (by exact Nat.le_trans (by decide) hd) cw_X7_isHere q2185 q2187 qs74 dX7_isOwnHere_16 [] rfl (Nat.le_of_ble_eq_true rfl) hf (fun v71 h72 hf => ?_)
    refine v_if_ne ok 66 dX7_isOwnHere_19 rfl hf (fun hf => ?_) (fun hf => ?_)
    ·
      exact W_X7_isOwnHere_66 ok hr hd hf hk ⟨rfl, trivial⟩
    ·
      refine v_aload_n ok 0 dX7_isOwnHere_22 rfl rfl ?_
      refine v_aload_n ok 0 dX7_isOwnHere_23 rfl rfl ?_
      refine v_gR ok fl_X7_27 (by first | exact Or.inl ⟨_, rfl⟩ | exact Or.inr ⟨_, rfl⟩) dX7_isOwnHere_24 hf (fun v73 hf => ?_)
      refine v_cVi ok (RX7, TX7, 117) cf_7.1 [vr v73] (F := fun a => X7_isHere a v73 h72) (fun a v h1 _ hv => M_X7_isHere ok.2.2.2.2.2.2.1 (d := 2) (Nat.le_refl _) hv) (by exact Nat.le_trans (by decide) hd) cw_X7_isHere q2185 q2187 qs74 dX7_isOwnHere_27 [] rfl (Nat.le_of_ble_eq_true rfl) hf (fun v74 h75 hf => ?_)
      refine v_if_ne ok 66 dX7_isOwnHere_30 rfl hf (fun hf => ?_) (fun hf => ?_)
      ·
        exact W_X7_isOwnHere_66 ok hr hd hf hk ⟨rfl, trivial⟩
      ·
        refine v_aload_n ok 0 dX7_isOwnHere_33 rfl rfl ?_
        refine v_aload_n ok 0 dX7_isOwnHere_34 rfl rfl ?_
        refine v_gR ok fl_X7_30 (by first | exact Or.inl ⟨_, rfl⟩ | exact Or.inr ⟨_, rfl⟩) dX7_isOwnHere_35 hf (fun v76 hf => ?_)
        refine v_cVi ok (RX7, TX7, 117) cf_7.1 [vr v76] (F := fun a => X7_isHere a v76 h75) (fun a v h1 _ hv => M_X7_isHere ok.2.2.2.2.2.2.1 (d := 2) (Nat.le_refl _) hv) (by exact Nat.le_trans (by decide) hd) cw_X7_isHere q2185 q2187 qs74 dX7_isOwnHere_38 [] rfl (Nat.le_of_ble_eq_true rfl) hf (fun v77 h78 hf => ?_)
        refine v_if_ne ok 66 dX7_isOwnHere_41 rfl hf (fun hf => ?_) (fun hf => ?_)
        ·
          exact W_X7_isOwnHere_66 ok hr hd hf hk ⟨rfl, trivial⟩
        ·
          refine v_aload_n ok 0 dX7_isOwnHere_44 rfl rfl ?_
          refine v_aload_n ok 0 dX7_isOwnHere_45 rfl rfl ?_
          refine v_gR ok fl_X7_33 (by first | exact Or.inl ⟨_, rfl⟩ | exact Or.inr ⟨_, rfl⟩) dX7_isOwnHere_46 hf (fun v79 hf => ?_)
          refine v_cVi ok (RX7, TX7, 117) cf_7.1 [vr v79] (F := fun a => X7_isHere a v79 h78) (fun a v h1 _ hv => M_X7_isHere ok.2.2.2.2.2.2.1 (d := 2) (Nat.le_refl _) hv) (by exact Nat.le_trans (by decide) hd) cw_X7_isHere q2185 q2187 qs74 dX7_isOwnHere_49 [] rfl (Nat.le_of_ble_eq_true rfl) hf (fun v80 h81 hf => ?_)
          refine v_if_ne ok 66 dX7_isOwnHere_52 rfl hf (fun hf => ?_) (fun hf => ?_)
          ·
            exact W_X7_isOwnHere_66 ok hr hd hf hk ⟨rfl, trivial⟩
          ·
            refine v_aload_n ok 0 dX7_isOwnHere_55 rfl rfl ?_
            refine v_aload_n ok 0 dX7_isOwnHere_56 rfl rfl ?_
            refine v_gR ok fl_X7_36 (by first | exact Or.inl ⟨_, rfl⟩ | exact Or.inr ⟨_, rfl⟩) dX7_isOwnHere_57 hf (fun v82 hf => ?_)
            refine v_cVi ok (RX7, TX7, 117) cf_7.1 [vr v82] (F := fun a => X7_isHere a v82 h81) (fun a v h1 _ hv => M_X7_isHere ok.2.2.2.2.2.2.1 (d := 2) (Nat.le_refl _) hv) (by exact Nat.le_trans (by decide) hd) cw_X7_isHere q2185 q2187 qs74 dX7_isOwnHere_60 [] rfl (Nat.le_of_ble_eq_true rfl) hf (fun v83 h84 hf => ?_)
            refine v_if_eq ok 70 dX7_isOwnHere_63 rfl hf (fun hf => ?_) (fun hf => ?_)
            ·
              refine v_iconst ok 0 dX7_isOwnHere_70 rfl ?_
              exact W_X7_isOwnHere_71 ok hr hd hf hk ⟨rfl, trivial⟩
            ·
              exact W_X7_isOwnHere_66 ok hr hd hf hk ⟨rfl, trivial⟩
theorem M_X7_isOwnHere {G : GT} {l : Launch} (hG : Glob G) {d : Nat} (hd : 3 ≤ d) {a0 : Nat} {h : AH} {v : Int32} {h' : AH} (hf : X7_isOwnHere a0 h = some (v, h')) : MM G l yX7_isOwnHere cX7_isOwnHere 2 (Option.some Jvm.ClassFile.FieldType.boolean) d [vr (some a0)] h (some (vi v)) h' := by
  refine mm_of hG (plainFor_of_name (by decide)) (Nat.le_of_ble_eq_true rfl) (fun X hX ok hr hnm => ?_)
  subst hX
  exact W_X7_isOwnHere ok hr hd hf rfl ⟨rfl, trivial⟩
theorem cw_X7_name : CW yX7_name cX7_name 2 none 1 := ⟨q2199, q185, ⟨by decide, by decide⟩, by decide +kernel, by decide⟩
def pkX7_name_59 (G : GT) (X : CX) (h0 : AH) (Q : State → Prop) (a0 : Nat) (x1 : Int32) (o : ((AH) ⊕ (AH))) : Prop := match o with
  | .inl s => ∀ lv : List (Nat × AV), lle lv [(0, vr (some a0)), (1, vi x1)] → V G X 2 h0 Q s 59 lv []
  | .inr z => Q = QM G X h0 none z
theorem W_X7_name_41 {G : GT} {X : CX} {d : Nat} {h0 : AH} {Q : State → Prop} (ok : Ok G X RX7 cX7_name 2 d h0) (hr : (cxm X).sig.returnType = none) (hd : 4 ≤ d) {a0 : Nat} {h : AH} {z : (AH)} (hf : X7_name_41 a0 h = some z) (hk : Q = QM G X h0 none z) {lv : List (Nat × AV)} (hl : lle lv [(0, vr (some a0))]) : V G X 2 h0 Q h 41 lv [] := by
  refine V.sub hl ?_
  unfold X7_name_41 at hf
  refine v_aload_n ok 0 dX7_name_41 rfl rfl ?_
  refine v_iconst ok 1 dX7_name_42 rfl ?_
  refine v_aload_n ok 0 dX7_name_43 rfl rfl ?_
  refine v_gI ok fl_X7_263 (fun _ _ _ => rfl) dX7_name_44 hf (fun v1 hf => ?_)
  refine v_cVv ok (RX7, TX7, 117) cf_7.1 [vi 1, vi v1] (F := fun a => X7_fail a 1 v1 h) (fun a h1 _ hv => M_X7_fail ok.2.2.2.2.2.2.1 (d := 1) (Nat.le_refl _) hv) (by exact Nat.le_trans (by decide) hd) cw_X7_fail q2177 q2179 qs72 dX7_name_47 [] rfl (Nat.le_of_ble_eq_true rfl) hf (fun h2 hf => ?_)
  exact v_vret ok hr (by cases hf; exact hk) dX7_name_50
theorem W_X7_name_93 {G : GT} {X : CX} {d : Nat} {h0 : AH} {Q : State → Prop} (ok : Ok G X RX7 cX7_name 2 d h0) (hr : (cxm X).sig.returnType = none) (hd : 4 ≤ d) {a0 : Nat} {h : AH} {z : (AH)} (hf : X7_name_93 a0 h = some z) (hk : Q = QM G X h0 none z) {lv : List (Nat × AV)} (hl : lle lv [(0, vr (some a0))]) : V G X 2 h0 Q h 93 lv [] := by
  refine V.sub hl ?_
  unfold X7_name_93 at hf
  refine v_aload_n ok 0 dX7_name_93 rfl rfl ?_
  refine v_iconst ok 1 dX7_name_94 rfl ?_
  refine v_aload_n ok 0 dX7_name_95 rfl rfl ?_
  refine v_gI ok fl_X7_263 (fun _ _ _ => rfl) dX7_name_96 hf (fun v3 hf => ?_)
  refine v_cVv ok (RX7, TX7, 117) cf_7.1 [vi 1, vi v3] (F := fun a => X7_fail a 1 v3 h) (fun a h1 _ hv => M_X7_fail ok.2.2.2.2.2.2.1 (d := 1) (Nat.le_refl _) hv) (by exact Nat.le_trans (by decide) hd) cw_X7_fail q2177 q2179 qs72 dX7_name_99 [] rfl (Nat.le_of_ble_eq_true rfl) hf (fun h4 hf => ?_)
  exact v_vret ok hr (by cases hf; exact hk) dX7_name_102
theorem W_X7_name_149 {G : GT} {X : CX} {d : Nat} {h0 : AH} {Q : State → Prop} (ok : Ok G X RX7 cX7_name 2 d h0) (hr : (cxm X).sig.returnType = none) (hd : 4 ≤ d) {a0 : Nat} {h : AH} {z : (AH)} (hf : X7_name_149 a0 h = some z) (hk : Q = QM G X h0 none z) {lv : List (Nat × AV)} (hl : lle lv [(0, vr (some a0))]) : V G X 2 h0 Q h 149 lv [] := by
  refine V.sub hl ?_
  unfold X7_name_149 at hf
  refine v_aload_n ok 0 dX7_name_149 rfl rfl ?_
  refine v_aload_n ok 0 dX7_name_150 rfl rfl ?_
  refine v_gI ok fl_X7_263 (fun _ _ _ => rfl) dX7_name_151 hf (fun v5 hf => ?_)
  refine v_pI ok fl_X7_277 ⟨fun _ _ _ => rfl, rfl⟩ (FN.of cf_7.1 rfl) dX7_name_154 hf (fun h6 hf => ?_)
  exact v_vret ok hr (by cases hf; exact hk) dX7_name_157
theorem W_X7_name_59b {G : GT} {X : CX} {d : Nat} {h0 : AH} {Q : State → Prop} (ok : Ok G X RX7 cX7_name 2 d h0) (hr : (cxm X).sig.returnType = none) (hd : 4 ≤ d) {a0 : Nat} {x1 : Int32} {h : AH} {z : ((AH) ⊕ (AH))} (hf : X7_name_59b  a0 x1  h = some z) (hk : pkX7_name_59 G X h0 Q a0 x1 z) {lv : List (Nat × AV)} (hl : lle lv [(0, vr (some a0)), (1, vi x1)]) : V G X 2 h0 Q h 59 lv [] := by
  refine V.sub hl ?_
  unfold X7_name_59b at hf
  refine v_aload_n ok 0 dX7_name_59 rfl rfl ?_
  refine v_gI ok fl_X7_263 (fun _ _ _ => rfl) dX7_name_60 hf (fun v7 hf => ?_)
  refine v_aload_n ok 0 dX7_name_63 rfl rfl ?_
  refine v_gI ok fl_X7_266 (fun _ _ _ => rfl) dX7_name_64 hf (fun v8 hf => ?_)
  refine v_icmp_ge ok 149 dX7_name_67 rfl hf (fun hf => ?_) (fun hf => ?_)
  ·
    obtain ⟨o, ho, hz⟩ := ob hf
    cases hz; exact W_X7_name_149 ok hr hd ho hk ⟨rfl, trivial⟩
  ·
    refine v_aload_n ok 0 dX7_name_70 rfl rfl ?_
    refine v_gR ok fl_X7_7 (by first | exact Or.inl ⟨_, rfl⟩ | exact Or.inr ⟨_, rfl⟩) dX7_name_71 hf (fun v9 hf => ?_)
    refine v_aload_n ok 0 dX7_name_74 rfl rfl ?_
    refine v_gI ok fl_X7_263 (fun _ _ _ => rfl) dX7_name_75 hf (fun v10 hf => ?_)
    refine v_iald ok rfl dX7_name_78 hf (fun v11 hf => ?_)
    refine v_cSi ok [vi v11] (F := X7_isLetter v11 h) (fun v h1 hv => M_X7_isLetter ok.2.2.2.2.2.2.1 (d := 1) (Nat.le_refl _) hv) (by exact Nat.le_trans (by decide) hd) cw_X7_isLetter q2189 q2190 dX7_name_79 [] rfl (Nat.le_of_ble_eq_true rfl) hf (fun v12 h13 hf => ?_)
    refine v_if_eq ok 149 dX7_name_82 rfl hf (fun hf => ?_) (fun hf => ?_)
    ·
      obtain ⟨o, ho, hz⟩ := ob hf
      cases hz; exact W_X7_name_149 ok hr hd ho hk ⟨rfl, trivial⟩
    ·
      refine v_aload_n ok 0 dX7_name_85 rfl rfl ?_
      refine v_gI ok fl_X7_304 (fun _ _ _ => rfl) dX7_name_86 hf (fun v14 hf => ?_)
      refine v_iload_n ok 1 dX7_name_89 rfl rfl ?_
      refine v_icmp_ne ok 103 dX7_name_90 rfl hf (fun hf => ?_) (fun hf => ?_)
      ·
        refine v_aload_n ok 0 dX7_name_103 rfl rfl ?_
        refine v_gR ok fl_X7_105 (by first | exact Or.inl ⟨_, rfl⟩ | exact Or.inr ⟨_, rfl⟩) dX7_name_104 hf (fun v15 hf => ?_)
        refine v_aload_n ok 0 dX7_name_107 rfl rfl ?_
        refine v_gI ok fl_X7_304 (fun _ _ _ => rfl) dX7_name_108 hf (fun v16 hf => ?_)
        refine v_aload_n ok 0 dX7_name_111 rfl rfl ?_
        refine v_gR ok fl_X7_7 (by first | exact Or.inl ⟨_, rfl⟩ | exact Or.inr ⟨_, rfl⟩) dX7_name_112 hf (fun v17 hf => ?_)
        refine v_aload_n ok 0 dX7_name_115 rfl rfl ?_
        refine v_gI ok fl_X7_263 (fun _ _ _ => rfl) dX7_name_116 hf (fun v18 hf => ?_)
        refine v_iald ok rfl dX7_name_119 hf (fun v19 hf => ?_)
        refine v_bipush ok 97 dX7_name_120 rfl ?_
        refine v_isub ok dX7_name_122 ?_
        refine v_iconst ok 1 dX7_name_123 rfl ?_
        refine v_iadd ok dX7_name_124 ?_
        refine v_iast ok rfl dX7_name_125 hf (fun h20 hf => ?_)
        refine v_aload_n ok 0 dX7_name_126 rfl rfl ?_
        refine v_dup ok dX7_name_127 rfl ?_
        refine v_gI ok fl_X7_304 (fun _ _ _ => rfl) dX7_name_128 hf (fun v21 hf => ?_)
        refine v_iconst ok 1 dX7_name_131 rfl ?_
        refine v_iadd ok dX7_name_132 ?_
        refine v_pI ok fl_X7_304 ⟨fun _ _ _ => rfl, rfl⟩ (FN.of cf_7.1 rfl) dX7_name_133 hf (fun h22 hf => ?_)
        refine v_aload_n ok 0 dX7_name_136 rfl rfl ?_
        refine v_dup ok dX7_name_137 rfl ?_
        refine v_gI ok fl_X7_263 (fun _ _ _ => rfl) dX7_name_138 hf (fun v23 hf => ?_)
        refine v_iconst ok 1 dX7_name_141 rfl ?_
        refine v_iadd ok dX7_name_142 ?_
        refine v_pI ok fl_X7_263 ⟨fun _ _ _ => rfl, rfl⟩ (FN.of cf_7.1 rfl) dX7_name_143 hf (fun h24 hf => ?_)
        refine v_goto ok 59 dX7_name_146 rfl ?_
        cases hf; exact hk _ ⟨rfl, rfl, trivial⟩
      ·
        obtain ⟨o, ho, hz⟩ := ob hf
        cases hz; exact W_X7_name_93 ok hr hd ho hk ⟨rfl, trivial⟩
theorem W_X7_name_59 {G : GT} {X : CX} {d : Nat} {h0 : AH} {Q : State → Prop} (ok : Ok G X RX7 cX7_name 2 d h0) (hr : (cxm X).sig.returnType = none) (hd : 4 ≤ d) {a0 : Nat} {x1 : Int32} {h : AH} {z : (AH)} (hf : X7_name_59  a0 x1 h = some z) (hk : Q = QM G X h0 none z) {lv : List (Nat × AV)} (hl : lle lv [(0, vr (some a0)), (1, vi x1)]) : V G X 2 h0 Q h 59 lv [] := by
  unfold X7_name_59 at hf
  exact loopC_walk (Wh := fun s : AH => ∀ lv : List (Nat × AV), lle lv [(0, vr (some a0)), (1, vi x1)] → V G X 2 h0 Q s 59 lv []) (PK := fun z => Q = QM G X h0 none z) (fun s o hf hk lv hl => W_X7_name_59b ok hr hd hf (by cases o <;> exact hk) hl) _ z hf hk lv hl
theorem W_X7_name {G : GT} {X : CX} {d : Nat} {h0 : AH} {Q : State → Prop} (ok : Ok G X RX7 cX7_name 2 d h0) (hr : (cxm X).sig.returnType = none) (hd : 4 ≤ d) {a0 : Nat} {x1 : Int32} {h : AH} {z : (AH)} (hf : X7_name a0 x1 h = some z) (hk : Q = QM G X h0 none z) {lv : List (Nat × AV)} (hl : lle lv [(0, vr (some a0)), (1, vi x1)]) : V G X 2 h0 Q h 0 lv [] := by
  refine V.sub hl ?_
  unfold X7_name at hf
  refine v_aload_n ok 0 dX7_name_0 rfl rfl ?_
  refine v_iconst ok 0 dX7_name_1 rfl ?_
  refine v_pI ok fl_X7_304 ⟨fun _ _ _ => rfl, rfl⟩ (FN.of cf_7.1 rfl) dX7_name_2 hf (fun h25 hf => ?_)
  refine v_aload_n ok 0 dX7_name_5 rfl rfl ?_
  refine v_gI ok fl_X7_257 (fun _ _ _ => rfl) dX7_name_6 hf (fun v26 hf => ?_)
  refine v_if_eq ok 13 dX7_name_9 rfl hf (fun hf => ?_) (fun hf => ?_)
  ·
    refine v_aload_n ok 0 dX7_name_13 rfl rfl ?_
    refine v_cVi ok (RX7, TX7, 117) cf_7.1 [] (F := fun a => X7_look a h25) (fun a v h1 _ hv => M_X7_look ok.2.2.2.2.2.2.1 (d := 1) (Nat.le_refl _) hv) (by exact Nat.le_trans (by decide) hd) cw_X7_look q2169 q2171 qs70 dX7_name_14 [] rfl (Nat.le_of_ble_eq_true rfl) hf (fun v27 h28 hf => ?_)
    refine v_cSi ok [vi v27] (F := X7_isLetter v27 h28) (fun v h1 hv => M_X7_isLetter ok.2.2.2.2.2.2.1 (d := 1) (Nat.le_refl _) hv) (by exact Nat.le_trans (by decide) hd) cw_X7_isLetter q2189 q2190 dX7_name_17 [] rfl (Nat.le_of_ble_eq_true rfl) hf (fun v29 h30 hf => ?_)
    refine v_if_eq ok 41 dX7_name_20 rfl hf (fun hf => ?_) (fun hf => ?_)
    ·
      exact W_X7_name_41 ok hr hd hf hk ⟨rfl, trivial⟩
    ·
      refine v_aload_n ok 0 dX7_name_23 rfl rfl ?_
      refine v_gI ok fl_X7_263 (fun _ _ _ => rfl) dX7_name_24 hf (fun v31 hf => ?_)
      refine v_aload_n ok 0 dX7_name_27 rfl rfl ?_
      refine v_gI ok fl_X7_277 (fun _ _ _ => rfl) dX7_name_28 hf (fun v32 hf => ?_)
      refine v_icmp_eq ok 41 dX7_name_31 rfl hf (fun hf => ?_) (fun hf => ?_)
      ·
        exact W_X7_name_41 ok hr hd hf hk ⟨rfl, trivial⟩
      ·
        refine v_aload_n ok 0 dX7_name_34 rfl rfl ?_
        refine v_cVi ok (RX7, TX7, 117) cf_7.1 [] (F := fun a => X7_isOwnHere a h30) (fun a v h1 _ hv => M_X7_isOwnHere ok.2.2.2.2.2.2.1 (d := 3) (Nat.le_refl _) hv) (by exact Nat.le_trans (by decide) hd) cw_X7_isOwnHere q2200 q2202 qs77 dX7_name_35 [] rfl (Nat.le_of_ble_eq_true rfl) hf (fun v33 h34 hf => ?_)
        refine v_if_eq ok 51 dX7_name_38 rfl hf (fun hf => ?_) (fun hf => ?_)
        ·
          refine v_aload_n ok 0 dX7_name_51 rfl rfl ?_
          refine v_aload_n ok 0 dX7_name_52 rfl rfl ?_
          refine v_gI ok fl_X7_263 (fun _ _ _ => rfl) dX7_name_53 hf (fun v35 hf => ?_)
          refine v_pI ok fl_X7_311 ⟨fun _ _ _ => rfl, rfl⟩ (FN.of cf_7.1 rfl) dX7_name_56 hf (fun h36 hf => ?_)
          exact W_X7_name_59 ok hr hd hf hk ⟨rfl, rfl, trivial⟩
        ·
          exact W_X7_name_41 ok hr hd hf hk ⟨rfl, trivial⟩
  ·
    exact v_vret ok hr (by cases hf; exact hk) dX7_name_12
theorem M_X7_name {G : GT} {l : Launch} (hG : Glob G) {d : Nat} (hd : 4 ≤ d) {a0 : Nat} {x1 : Int32} {h : AH} {h' : AH} (hf : X7_name a0 x1 h = some h') : MM G l yX7_name cX7_name 2 none d [vr (some a0), vi x1] h none h' := by
  refine mm_of hG (plainFor_of_name (by decide)) (Nat.le_of_ble_eq_true rfl) (fun X hX ok hr hnm => ?_)
  subst hX
  exact W_X7_name ok hr hd hf rfl ⟨rfl, rfl, trivial⟩
theorem cw_X7_isDigit : CW yX7_isDigit cX7_isDigit 1 (Option.some Jvm.ClassFile.FieldType.boolean) 1 := ⟨q2214, q185, ⟨by decide, by decide⟩, by decide +kernel, by decide⟩
theorem W_X7_isDigit {G : GT} {X : CX} {d : Nat} {h0 : AH} {Q : State → Prop} (ok : Ok G X RX7 cX7_isDigit 1 d h0) (hr : (cxm X).sig.returnType = (Option.some Jvm.ClassFile.FieldType.boolean)) (hd : 1 ≤ d) {x0 : Int32} {h : AH} {z : (Int32 × AH)} (hf : X7_isDigit x0 h = some z) (hk : Q = QM G X h0 (some (vi z.1)) z.2) {lv : List (Nat × AV)} (hl : lle lv [(0, vi x0)]) : V G X 1 h0 Q h 0 lv [] := by
  refine V.sub hl ?_
  unfold X7_isDigit at hf
  refine v_iload_n ok 0 dX7_isDigit_0 rfl rfl ?_
  refine v_bipush ok 48 dX7_isDigit_1 rfl ?_
  refine v_icmp_lt ok 16 dX7_isDigit_3 rfl hf (fun hf => ?_) (fun hf => ?_)
  ·
    refine v_iconst ok 0 dX7_isDigit_16 rfl ?_
    exact v_zretL ok hr (by decide) (by decide) (by cases hf; exact hk) dX7_isDigit_17
  ·
    refine v_iload_n ok 0 dX7_isDigit_6 rfl rfl ?_
    refine v_bipush ok 57 dX7_isDigit_7 rfl ?_
    refine v_icmp_gt ok 16 dX7_isDigit_9 rfl hf (fun hf => ?_) (fun hf => ?_)
    ·
      refine v_iconst ok 0 dX7_isDigit_16 rfl ?_
      exact v_zretL ok hr (by decide) (by decide) (by cases hf; exact hk) dX7_isDigit_17
    ·
      refine v_iconst ok 1 dX7_isDigit_12 rfl ?_
      refine v_goto ok 17 dX7_isDigit_13 rfl ?_
      exact v_zretL ok hr (by decide) (by decide) (by cases hf; exact hk) dX7_isDigit_17
theorem M_X7_isDigit {G : GT} {l : Launch} (hG : Glob G) {d : Nat} (hd : 1 ≤ d) {x0 : Int32} {h : AH} {v : Int32} {h' : AH} (hf : X7_isDigit x0 h = some (v, h')) : MM G l yX7_isDigit cX7_isDigit 1 (Option.some Jvm.ClassFile.FieldType.boolean) d [vi x0] h (some (vi v)) h' := by
  refine mm_of hG (plainFor_of_name (by decide)) (Nat.le_of_ble_eq_true rfl) (fun X hX ok hr hnm => ?_)
  subst hX
  exact W_X7_isDigit ok hr hd hf rfl ⟨rfl, trivial⟩
theorem cw_X7_isIn : CW yX7_isIn cX7_isIn 6 (Option.some Jvm.ClassFile.FieldType.boolean) 3 := ⟨q2217, q185, ⟨by decide, by decide⟩, by decide +kernel, by decide⟩
theorem W_X7_isIn {G : GT} {X : CX} {d : Nat} {h0 : AH} {Q : State → Prop} (ok : Ok G X RX7 cX7_isIn 6 d h0) (hr : (cxm X).sig.returnType = (Option.some Jvm.ClassFile.FieldType.boolean)) (hd : 1 ≤ d) {x0 : Int64} {x2 : Int64} {x4 : Int64} {h : AH} {z : (Int32 × AH)} (hf : X7_isIn x0 x2 x4 h = some z) (hk : Q = QM G X h0 (some (vi z.1)) z.2) {lv : List (Nat × AV)} (hl : lle lv [(0, vl x0), (2, vl x2), (4, vl x4)]) : V G X 6 h0 Q h 0 lv [] := by
  refine V.sub hl ?_
  unfold X7_isIn at hf
  refine v_lload_n ok 0 dX7_isIn_0 rfl rfl ?_
  refine v_lload_n ok 2 dX7_isIn_1 rfl rfl ?_
  refine v_lcmp ok dX7_isIn_2 ?_
  refine v_if_lt ok 17 dX7_isIn_3 rfl hf (fun hf => ?_) (fun hf => ?_)
  ·
    refine v_iconst ok 0 dX7_isIn_17 rfl ?_
    exact v_zretL ok hr (by decide) (by decide) (by cases hf; exact hk) dX7_isIn_18
  ·
    refine v_lload_n ok 0 dX7_isIn_6 rfl rfl ?_
    refine v_lload ok dX7_isIn_7 rfl ?_
    refine v_lcmp ok dX7_isIn_9 ?_
    refine v_if_gt ok 17 dX7_isIn_10 rfl hf (fun hf => ?_) (fun hf => ?_)
    ·
      refine v_iconst ok 0 dX7_isIn_17 rfl ?_
      exact v_zretL ok hr (by decide) (by decide) (by cases hf; exact hk) dX7_isIn_18
    ·
      refine v_iconst ok 1 dX7_isIn_13 rfl ?_
      refine v_goto ok 18 dX7_isIn_14 rfl ?_
      exact v_zretL ok hr (by decide) (by decide) (by cases hf; exact hk) dX7_isIn_18
theorem M_X7_isIn {G : GT} {l : Launch} (hG : Glob G) {d : Nat} (hd : 1 ≤ d) {x0 : Int64} {x2 : Int64} {x4 : Int64} {h : AH} {v : Int32} {h' : AH} (hf : X7_isIn x0 x2 x4 h = some (v, h')) : MM G l yX7_isIn cX7_isIn 6 (Option.some Jvm.ClassFile.FieldType.boolean) d [vl x0, vl x2, vl x4] h (some (vi v)) h' := by
  refine mm_of hG (plainFor_of_name (by decide)) (Nat.le_of_ble_eq_true rfl) (fun X hX ok hr hnm => ?_)
  subst hX
  exact W_X7_isIn ok hr hd hf rfl ⟨rfl, rfl, rfl, trivial⟩
theorem cw_X7_number : CW yX7_number cX7_number 5 (Option.some Jvm.ClassFile.FieldType.int) 2 := ⟨q2211, q185, ⟨by decide, by decide⟩, by decide +kernel, by decide⟩
def pkX7_number_49 (G : GT) (X : CX) (h0 : AH) (Q : State → Prop) (a0 : Nat) (x1 : Int32) (x2 : Int32) (x3 : Int32) (o : ((Int32 × AH) ⊕ (Int32 × AH))) : Prop := match o with
  | .inl s => ∀ lv : List (Nat × AV), lle lv [(0, vr (some a0)), (1, vi x1), (2, vi x2), (3, vi x3), (4, vi s.1)] → V G X 5 h0 Q s.2 49 lv []
  | .inr z => Q = QM G X h0 (some (vi z.1)) z.2
theorem W_X7_number_30 {G : GT} {X : CX} {d : Nat} {h0 : AH} {Q : State → Prop} (ok : Ok G X RX7 cX7_number 5 d h0) (hr : (cxm X).sig.returnType = (Option.some Jvm.ClassFile.FieldType.int)) (hd : 2 ≤ d) {a0 : Nat} {h : AH} {z : (Int32 × AH)} (hf : X7_number_30 a0 h = some z) (hk : Q = QM G X h0 (some (vi z.1)) z.2) {lv : List (Nat × AV)} (hl : lle lv [(0, vr (some a0))]) : V G X 5 h0 Q h 30 lv [] := by
  refine V.sub hl ?_
  unfold X7_number_30 at hf
  refine v_aload_n ok 0 dX7_number_30 rfl rfl ?_
  refine v_iconst ok 1 dX7_number_31 rfl ?_
  refine v_aload_n ok 0 dX7_number_32 rfl rfl ?_
  refine v_gI ok fl_X7_263 (fun _ _ _ => rfl) dX7_number_33 hf (fun v1 hf => ?_)
  refine v_cVv ok (RX7, TX7, 117) cf_7.1 [vi 1, vi v1] (F := fun a => X7_fail a 1 v1 h) (fun a h1 _ hv => M_X7_fail ok.2.2.2.2.2.2.1 (d := 1) (Nat.le_refl _) hv) (by exact Nat.le_trans (by decide) hd) cw_X7_fail q2177 q2179 qs72 dX7_number_36 [] rfl (Nat.le_of_ble_eq_true rfl) hf (fun h2 hf => ?_)
  refine v_iconst ok 0 dX7_number_39 rfl ?_
  exact v_iret ok hr (by cases hf; exact hk) dX7_number_40
theorem W_X7_number_85 {G : GT} {X : CX} {d : Nat} {h0 : AH} {Q : State → Prop} (ok : Ok G X RX7 cX7_number 5 d h0) (hr : (cxm X).sig.returnType = (Option.some Jvm.ClassFile.FieldType.int)) (hd : 2 ≤ d) {a0 : Nat} {h : AH} {z : (Int32 × AH)} (hf : X7_number_85 a0 h = some z) (hk : Q = QM G X h0 (some (vi z.1)) z.2) {lv : List (Nat × AV)} (hl : lle lv [(0, vr (some a0))]) : V G X 5 h0 Q h 85 lv [] := by
  refine V.sub hl ?_
  unfold X7_number_85 at hf
  refine v_aload_n ok 0 dX7_number_85 rfl rfl ?_
  refine v_iconst ok 1 dX7_number_86 rfl ?_
  refine v_aload_n ok 0 dX7_number_87 rfl rfl ?_
  refine v_gI ok fl_X7_263 (fun _ _ _ => rfl) dX7_number_88 hf (fun v3 hf => ?_)
  refine v_cVv ok (RX7, TX7, 117) cf_7.1 [vi 1, vi v3] (F := fun a => X7_fail a 1 v3 h) (fun a h1 _ hv => M_X7_fail ok.2.2.2.2.2.2.1 (d := 1) (Nat.le_refl _) hv) (by exact Nat.le_trans (by decide) hd) cw_X7_fail q2177 q2179 qs72 dX7_number_91 [] rfl (Nat.le_of_ble_eq_true rfl) hf (fun h4 hf => ?_)
  refine v_iconst ok 0 dX7_number_94 rfl ?_
  exact v_iret ok hr (by cases hf; exact hk) dX7_number_95
theorem W_X7_number_129 {G : GT} {X : CX} {d : Nat} {h0 : AH} {Q : State → Prop} (ok : Ok G X RX7 cX7_number 5 d h0) (hr : (cxm X).sig.returnType = (Option.some Jvm.ClassFile.FieldType.int)) (hd : 2 ≤ d) {a0 : Nat} {x1 : Int32} {x2 : Int32} {x3 : Int32} {x4 : Int32} {h : AH} {z : (Int32 × AH)} (hf : X7_number_129 a0 x1 x2 x3 x4 h = some z) (hk : Q = QM G X h0 (some (vi z.1)) z.2) {lv : List (Nat × AV)} (hl : lle lv [(0, vr (some a0)), (1, vi x1), (2, vi x2), (3, vi x3), (4, vi x4)]) : V G X 5 h0 Q h 129 lv [] := by
  refine V.sub hl ?_
  unfold X7_number_129 at hf
  refine v_aload_n ok 0 dX7_number_129 rfl rfl ?_
  refine v_aload_n ok 0 dX7_number_130 rfl rfl ?_
  refine v_gI ok fl_X7_263 (fun _ _ _ => rfl) dX7_number_131 hf (fun v5 hf => ?_)
  refine v_pI ok fl_X7_277 ⟨fun _ _ _ => rfl, rfl⟩ (FN.of cf_7.1 rfl) dX7_number_134 hf (fun h6 hf => ?_)
  refine v_aload_n ok 0 dX7_number_137 rfl rfl ?_
  refine v_iload_n ok 3 dX7_number_138 rfl rfl ?_
  refine v_pI ok fl_X7_297 ⟨fun _ _ _ => rfl, rfl⟩ (FN.of cf_7.1 rfl) dX7_number_139 hf (fun h7 hf => ?_)
  refine v_iload ok dX7_number_142 rfl ?_
  refine v_i2l ok dX7_number_144 ?_
  refine v_iload_n ok 1 dX7_number_145 rfl rfl ?_
  refine v_i2l ok dX7_number_146 ?_
  refine v_iload_n ok 2 dX7_number_147 rfl rfl ?_
  refine v_i2l ok dX7_number_148 ?_
  refine v_cSi ok [vl (Int32.toInt64 x4), vl (Int32.toInt64 x1), vl (Int32.toInt64 x2)] (F := X7_isIn (Int32.toInt64 x4) (Int32.toInt64 x1) (Int32.toInt64 x2) h7) (fun v h1 hv => M_X7_isIn ok.2.2.2.2.2.2.1 (d := 1) (Nat.le_refl _) hv) (by exact Nat.le_trans (by decide) hd) cw_X7_isIn q2215 q2216 dX7_number_149 [] rfl (Nat.le_of_ble_eq_true rfl) hf (fun v8 h9 hf => ?_)
  refine v_if_ne ok 164 dX7_number_152 rfl hf (fun hf => ?_) (fun hf => ?_)
  ·
    refine v_iload ok dX7_number_164 rfl ?_
    exact v_iret ok hr (by cases hf; exact hk) dX7_number_166
  ·
    refine v_aload_n ok 0 dX7_number_155 rfl rfl ?_
    refine v_iconst ok 2 dX7_number_156 rfl ?_
    refine v_aload_n ok 0 dX7_number_157 rfl rfl ?_
    refine v_gI ok fl_X7_297 (fun _ _ _ => rfl) dX7_number_158 hf (fun v10 hf => ?_)
    refine v_cVv ok (RX7, TX7, 117) cf_7.1 [vi 2, vi v10] (F := fun a => X7_fail a 2 v10 h9) (fun a h1 _ hv => M_X7_fail ok.2.2.2.2.2.2.1 (d := 1) (Nat.le_refl _) hv) (by exact Nat.le_trans (by decide) hd) cw_X7_fail q2177 q2179 qs72 dX7_number_161 [] rfl (Nat.le_of_ble_eq_true rfl) hf (fun h11 hf => ?_)
    refine v_iload ok dX7_number_164 rfl ?_
    exact v_iret ok hr (by cases hf; exact hk) dX7_number_166
theorem W_X7_number_49b {G : GT} {X : CX} {d : Nat} {h0 : AH} {Q : State → Prop} (ok : Ok G X RX7 cX7_number 5 d h0) (hr : (cxm X).sig.returnType = (Option.some Jvm.ClassFile.FieldType.int)) (hd : 2 ≤ d) {a0 : Nat} {x1 : Int32} {x2 : Int32} {x3 : Int32} {x4 : Int32} {h : AH} {z : ((Int32 × AH) ⊕ (Int32 × AH))} (hf : X7_number_49b  a0 x1 x2 x3 x4 h = some z) (hk : pkX7_number_49 G X h0 Q a0 x1 x2 x3 z) {lv : List (Nat × AV)} (hl : lle lv [(0, vr (some a0)), (1, vi x1), (2, vi x2), (3, vi x3), (4, vi x4)]) : V G X 5 h0 Q h 49 lv [] := by
  refine V.sub hl ?_
  unfold X7_number_49b at hf
  refine v_aload_n ok 0 dX7_number_49 rfl rfl ?_
  refine v_gI ok fl_X7_263 (fun _ _ _ => rfl) dX7_number_50 hf (fun v12 hf => ?_)
  refine v_aload_n ok 0 dX7_number_53 rfl rfl ?_
  refine v_gI ok fl_X7_266 (fun _ _ _ => rfl) dX7_number_54 hf (fun v13 hf => ?_)
  refine v_icmp_ge ok 129 dX7_number_57 rfl hf (fun hf => ?_) (fun hf => ?_)
  ·
    obtain ⟨o, ho, hz⟩ := ob hf
    cases hz; exact W_X7_number_129 ok hr hd ho hk ⟨rfl, rfl, rfl, rfl, rfl, trivial⟩
  ·
    refine v_aload_n ok 0 dX7_number_60 rfl rfl ?_
    refine v_gR ok fl_X7_7 (by first | exact Or.inl ⟨_, rfl⟩ | exact Or.inr ⟨_, rfl⟩) dX7_number_61 hf (fun v14 hf => ?_)
    refine v_aload_n ok 0 dX7_number_64 rfl rfl ?_
    refine v_gI ok fl_X7_263 (fun _ _ _ => rfl) dX7_number_65 hf (fun v15 hf => ?_)
    refine v_iald ok rfl dX7_number_68 hf (fun v16 hf => ?_)
    refine v_cSi ok [vi v16] (F := X7_isDigit v16 h) (fun v h1 hv => M_X7_isDigit ok.2.2.2.2.2.2.1 (d := 1) (Nat.le_refl _) hv) (by exact Nat.le_trans (by decide) hd) cw_X7_isDigit q2212 q2213 dX7_number_69 [] rfl (Nat.le_of_ble_eq_true rfl) hf (fun v17 h18 hf => ?_)
    refine v_if_eq ok 129 dX7_number_72 rfl hf (fun hf => ?_) (fun hf => ?_)
    ·
      obtain ⟨o, ho, hz⟩ := ob hf
      cases hz; exact W_X7_number_129 ok hr hd ho hk ⟨rfl, rfl, rfl, rfl, rfl, trivial⟩
    ·
      refine v_aload_n ok 0 dX7_number_75 rfl rfl ?_
      refine v_gI ok fl_X7_263 (fun _ _ _ => rfl) dX7_number_76 hf (fun v19 hf => ?_)
      refine v_iload_n ok 3 dX7_number_79 rfl rfl ?_
      refine v_isub ok dX7_number_80 ?_
      refine v_iconst ok 4 dX7_number_81 rfl ?_
      refine v_icmp_ne ok 96 dX7_number_82 rfl hf (fun hf => ?_) (fun hf => ?_)
      ·
        refine v_bipush ok 10 dX7_number_96 rfl ?_
        refine v_iload ok dX7_number_98 rfl ?_
        refine v_imul ok dX7_number_100 ?_
        refine v_aload_n ok 0 dX7_number_101 rfl rfl ?_
        refine v_gR ok fl_X7_7 (by first | exact Or.inl ⟨_, rfl⟩ | exact Or.inr ⟨_, rfl⟩) dX7_number_102 hf (fun v20 hf => ?_)
        refine v_aload_n ok 0 dX7_number_105 rfl rfl ?_
        refine v_gI ok fl_X7_263 (fun _ _ _ => rfl) dX7_number_106 hf (fun v21 hf => ?_)
        refine v_iald ok rfl dX7_number_109 hf (fun v22 hf => ?_)
        refine v_iadd ok dX7_number_110 ?_
        refine v_bipush ok 48 dX7_number_111 rfl ?_
        refine v_isub ok dX7_number_113 ?_
        refine v_istore ok dX7_number_114 (by decide) ?_
        refine v_aload_n ok 0 dX7_number_116 rfl rfl ?_
        refine v_dup ok dX7_number_117 rfl ?_
        refine v_gI ok fl_X7_263 (fun _ _ _ => rfl) dX7_number_118 hf (fun v23 hf => ?_)
        refine v_iconst ok 1 dX7_number_121 rfl ?_
        refine v_iadd ok dX7_number_122 ?_
        refine v_pI ok fl_X7_263 ⟨fun _ _ _ => rfl, rfl⟩ (FN.of cf_7.1 rfl) dX7_number_123 hf (fun h24 hf => ?_)
        refine v_goto ok 49 dX7_number_126 rfl ?_
        cases hf; exact hk _ ⟨rfl, rfl, rfl, rfl, rfl, trivial⟩
      ·
        obtain ⟨o, ho, hz⟩ := ob hf
        cases hz; exact W_X7_number_85 ok hr hd ho hk ⟨rfl, trivial⟩
theorem W_X7_number_49 {G : GT} {X : CX} {d : Nat} {h0 : AH} {Q : State → Prop} (ok : Ok G X RX7 cX7_number 5 d h0) (hr : (cxm X).sig.returnType = (Option.some Jvm.ClassFile.FieldType.int)) (hd : 2 ≤ d) {a0 : Nat} {x1 : Int32} {x2 : Int32} {x3 : Int32} {x4 : Int32} {h : AH} {z : (Int32 × AH)} (hf : X7_number_49  a0 x1 x2 x3 x4 h = some z) (hk : Q = QM G X h0 (some (vi z.1)) z.2) {lv : List (Nat × AV)} (hl : lle lv [(0, vr (some a0)), (1, vi x1), (2, vi x2), (3, vi x3), (4, vi x4)]) : V G X 5 h0 Q h 49 lv [] := by
  unfold X7_number_49 at hf
  exact loopC_walk (Wh := fun s : Int32 × AH => ∀ lv : List (Nat × AV), lle lv [(0, vr (some a0)), (1, vi x1), (2, vi x2), (3, vi x3), (4, vi s.1)] → V G X 5 h0 Q s.2 49 lv []) (PK := fun z => Q = QM G X h0 (some (vi z.1)) z.2) (fun s o hf hk lv hl => W_X7_number_49b ok hr hd hf (by cases o <;> exact hk) hl) _ z hf hk lv hl
theorem W_X7_number {G : GT} {X : CX} {d : Nat} {h0 : AH} {Q : State → Prop} (ok : Ok G X RX7 cX7_number 5 d h0) (hr : (cxm X).sig.returnType = (Option.some Jvm.ClassFile.FieldType.int)) (hd : 2 ≤ d) {a0 : Nat} {x1 : Int32} {x2 : Int32} {h : AH} {z : (Int32 × AH)} (hf : X7_number a0 x1 x2 h = some z) (hk : Q = QM G X h0 (some (vi z.1)) z.2) {lv : List (Nat × AV)} (hl : lle lv [(0, vr (some a0)), (1, vi x1), (2, vi x2)]) : V G X 5 h0 Q h 0 lv [] := by
  refine V.sub hl ?_
  unfold X7_number at hf
  refine v_aload_n ok 0 dX7_number_0 rfl rfl ?_
  refine v_gI ok fl_X7_257 (fun _ _ _ => rfl) dX7_number_1 hf (fun v25 hf => ?_)
  refine v_if_eq ok 9 dX7_number_4 rfl hf (fun hf => ?_) (fun hf => ?_)
  ·
    refine v_aload_n ok 0 dX7_number_9 rfl rfl ?_
    refine v_cVi ok (RX7, TX7, 117) cf_7.1 [] (F := fun a => X7_look a h) (fun a v h1 _ hv => M_X7_look ok.2.2.2.2.2.2.1 (d := 1) (Nat.le_refl _) hv) (by exact Nat.le_trans (by decide) hd) cw_X7_look q2169 q2171 qs70 dX7_number_10 [] rfl (Nat.le_of_ble_eq_true rfl) hf (fun v26 h27 hf => ?_)
    refine v_cSi ok [vi v26] (F := X7_isDigit v26 h27) (fun v h1 hv => M_X7_isDigit ok.2.2.2.2.2.2.1 (d := 1) (Nat.le_refl _) hv) (by exact Nat.le_trans (by decide) hd) cw_X7_isDigit q2212 q2213 dX7_number_13 [] rfl (Nat.le_of_ble_eq_true rfl) hf (fun v28 h29 hf => ?_)
    refine v_if_eq ok 30 dX7_number_16 rfl hf (fun hf => ?_) (fun hf => ?_)
    ·
      exact W_X7_number_30 ok hr hd hf hk ⟨rfl, trivial⟩
    ·
      refine v_aload_n ok 0 dX7_number_19 rfl rfl ?_
      refine v_gI ok fl_X7_263 (fun _ _ _ => rfl) dX7_number_20 hf (fun v30 hf => ?_)
      refine v_aload_n ok 0 dX7_number_23 rfl rfl ?_
      refine v_gI ok fl_X7_277 (fun _ _ _ => rfl) dX7_number_24 hf (fun v31 hf => ?_)
      refine v_icmp_ne ok 41 dX7_number_27 rfl hf (fun hf => ?_) (fun hf => ?_)
      ·
        refine v_aload_n ok 0 dX7_number_41 rfl rfl ?_
        refine v_gI ok fl_X7_263 (fun _ _ _ => rfl) dX7_number_42 hf (fun v32 hf => ?_)
        refine v_istore_n ok 3 dX7_number_45 rfl (by decide) ?_
        refine v_iconst ok 0 dX7_number_46 rfl ?_
        refine v_istore ok dX7_number_47 (by decide) ?_
        exact W_X7_number_49 ok hr hd hf hk ⟨rfl, rfl, rfl, rfl, rfl, trivial⟩
      ·
        exact W_X7_number_30 ok hr hd hf hk ⟨rfl, trivial⟩
  ·
    refine v_iconst ok 0 dX7_number_7 rfl ?_
    exact v_iret ok hr (by cases hf; exact hk) dX7_number_8
theorem M_X7_number {G : GT} {l : Launch} (hG : Glob G) {d : Nat} (hd : 2 ≤ d) {a0 : Nat} {x1 : Int32} {x2 : Int32} {h : AH} {v : Int32} {h' : AH} (hf : X7_number a0 x1 x2 h = some (v, h')) : MM G l yX7_number cX7_number 5 (Option.some Jvm.ClassFile.FieldType.int) d [vr (some a0), vi x1, vi x2] h (some (vi v)) h' := by
  refine mm_of hG (plainFor_of_name (by decide)) (Nat.le_of_ble_eq_true rfl) (fun X hX ok hr hnm => ?_)
  subst hX
  exact W_X7_number ok hr hd hf rfl ⟨rfl, rfl, rfl, trivial⟩
theorem cw_X7_toldAt : CW yX7_toldAt cX7_toldAt 4 (Option.some Jvm.ClassFile.FieldType.int) 2 := ⟨q2221, q185, ⟨by decide, by decide⟩, by decide +kernel, by decide⟩
def pkX7_toldAt_2 (G : GT) (X : CX) (h0 : AH) (Q : State → Prop) (a0 : Nat) (x1 : Int32) (x2 : Int32) (o : ((Int32 × AH) ⊕ (Int32 × AH))) : Prop := match o with
  | .inl s => ∀ lv : List (Nat × AV), lle lv [(0, vr (some a0)), (1, vi x1), (2, vi x2), (3, vi s.1)] → V G X 4 h0 Q s.2 2 lv []
  | .inr z => Q = QM G X h0 (some (vi z.1)) z.2
theorem W_X7_toldAt_2b {G : GT} {X : CX} {d : Nat} {h0 : AH} {Q : State → Prop} (ok : Ok G X RX7 cX7_toldAt 4 d h0) (hr : (cxm X).sig.returnType = (Option.some Jvm.ClassFile.FieldType.int)) (hd : 1 ≤ d) {a0 : Nat} {x1 : Int32} {x2 : Int32} {x3 : Int32} {h : AH} {z : ((Int32 × AH) ⊕ (Int32 × AH))} (hf : X7_toldAt_2b  a0 x1 x2 x3 h = some z) (hk : pkX7_toldAt_2 G X h0 Q a0 x1 x2 z) {lv : List (Nat × AV)} (hl : lle lv [(0, vr (some a0)), (1, vi x1), (2, vi x2), (3, vi x3)]) : V G X 4 h0 Q h 2 lv [] := by
  refine V.sub hl ?_
  unfold X7_toldAt_2b at hf
  refine v_iload_n ok 3 dX7_toldAt_2 rfl rfl ?_
  refine v_aload_n ok 0 dX7_toldAt_3 rfl rfl ?_
  refine v_gR ok fl_X7_108 (by first | exact Or.inl ⟨_, rfl⟩ | exact Or.inr ⟨_, rfl⟩) dX7_toldAt_4 hf (fun v1 hf => ?_)
  refine v_iload_n ok 1 dX7_toldAt_7 rfl rfl ?_
  refine v_iald ok rfl dX7_toldAt_8 hf (fun v2 hf => ?_)
  refine v_icmp_ge ok 37 dX7_toldAt_9 rfl hf (fun hf => ?_) (fun hf => ?_)
  ·
    refine v_iconst ok (-1) dX7_toldAt_37 rfl ?_
    exact v_iret ok hr (by cases hf; exact hk) dX7_toldAt_38
  ·
    refine v_aload_n ok 0 dX7_toldAt_12 rfl rfl ?_
    refine v_gR ok fl_X7_111 (by first | exact Or.inl ⟨_, rfl⟩ | exact Or.inr ⟨_, rfl⟩) dX7_toldAt_13 hf (fun v3 hf => ?_)
    refine v_bipush ok 24 dX7_toldAt_16 rfl ?_
    refine v_iload_n ok 1 dX7_toldAt_18 rfl rfl ?_
    refine v_imul ok dX7_toldAt_19 ?_
    refine v_iconst ok 2 dX7_toldAt_20 rfl ?_
    refine v_iload_n ok 3 dX7_toldAt_21 rfl rfl ?_
    refine v_imul ok dX7_toldAt_22 ?_
    refine v_iadd ok dX7_toldAt_23 ?_
    refine v_iald ok rfl dX7_toldAt_24 hf (fun v4 hf => ?_)
    refine v_iload_n ok 2 dX7_toldAt_25 rfl rfl ?_
    refine v_icmp_ne ok 31 dX7_toldAt_26 rfl hf (fun hf => ?_) (fun hf => ?_)
    ·
      refine v_iinc ok x3 (x3 + 1) dX7_toldAt_31 rfl rfl (by decide) ?_
      refine v_goto ok 2 dX7_toldAt_34 rfl ?_
      cases hf; exact hk _ ⟨rfl, rfl, rfl, rfl, trivial⟩
    ·
      refine v_iload_n ok 3 dX7_toldAt_29 rfl rfl ?_
      exact v_iret ok hr (by cases hf; exact hk) dX7_toldAt_30
theorem W_X7_toldAt_2 {G : GT} {X : CX} {d : Nat} {h0 : AH} {Q : State → Prop} (ok : Ok G X RX7 cX7_toldAt 4 d h0) (hr : (cxm X).sig.returnType = (Option.some Jvm.ClassFile.FieldType.int)) (hd : 1 ≤ d) {a0 : Nat} {x1 : Int32} {x2 : Int32} {x3 : Int32} {h : AH} {z : (Int32 × AH)} (hf : X7_toldAt_2  a0 x1 x2 x3 h = some z) (hk : Q = QM G X h0 (some (vi z.1)) z.2) {lv : List (Nat × AV)} (hl : lle lv [(0, vr (some a0)), (1, vi x1), (2, vi x2), (3, vi x3)]) : V G X 4 h0 Q h 2 lv [] := by
  unfold X7_toldAt_2 at hf
  exact loopC_walk (Wh := fun s : Int32 × AH => ∀ lv : List (Nat × AV), lle lv [(0, vr (some a0)), (1, vi x1), (2, vi x2), (3, vi s.1)] → V G X 4 h0 Q s.2 2 lv []) (PK := fun z => Q = QM G X h0 (some (vi z.1)) z.2) (fun s o hf hk lv hl => W_X7_toldAt_2b ok hr hd hf (by cases o <;> exact hk) hl) _ z hf hk lv hl
theorem W_X7_toldAt {G : GT} {X : CX} {d : Nat} {h0 : AH} {Q : State → Prop} (ok : Ok G X RX7 cX7_toldAt 4 d h0) (hr : (cxm X).sig.returnType = (Option.some Jvm.ClassFile.FieldType.int)) (hd : 1 ≤ d) {a0 : Nat} {x1 : Int32} {x2 : Int32} {h : AH} {z : (Int32 × AH)} (hf : X7_toldAt a0 x1 x2 h = some z) (hk : Q = QM G X h0 (some (vi z.1)) z.2) {lv : List (Nat × AV)} (hl : lle lv [(0, vr (some a0)), (1, vi x1), (2, vi x2)]) : V G X 4 h0 Q h 0 lv [] := by
  refine V.sub hl ?_
  unfold X7_toldAt at hf
  refine v_iconst ok 0 dX7_toldAt_0 rfl ?_
  refine v_istore_n ok 3 dX7_toldAt_1 rfl (by decide) ?_
  exact W_X7_toldAt_2 ok hr hd hf hk ⟨rfl, rfl, rfl, rfl, trivial⟩
theorem M_X7_toldAt {G : GT} {l : Launch} (hG : Glob G) {d : Nat} (hd : 1 ≤ d) {a0 : Nat} {x1 : Int32} {x2 : Int32} {h : AH} {v : Int32} {h' : AH} (hf : X7_toldAt a0 x1 x2 h = some (v, h')) : MM G l yX7_toldAt cX7_toldAt 4 (Option.some Jvm.ClassFile.FieldType.int) d [vr (some a0), vi x1, vi x2] h (some (vi v)) h' := by
  refine mm_of hG (plainFor_of_name (by decide)) (Nat.le_of_ble_eq_true rfl) (fun X hX ok hr hnm => ?_)
  subst hX
  exact W_X7_toldAt ok hr hd hf rfl ⟨rfl, rfl, rfl, trivial⟩
theorem cw_X7_wordNamed : CW yX7_wordNamed cX7_wordNamed 4 (Option.some Jvm.ClassFile.FieldType.int) 0 := ⟨q2233, q185, ⟨by decide, by decide⟩, by decide +kernel, by decide⟩
def pkX7_wordNamed_2 (G : GT) (X : CX) (h0 : AH) (Q : State → Prop) (a0 : Nat) (o : ((Int32 × AH) ⊕ (Int32 × AH))) : Prop := match o with
  | .inl s => ∀ lv : List (Nat × AV), lle lv [(0, vr (some a0)), (1, vi s.1)] → V G X 4 h0 Q s.2 2 lv []
  | .inr z => Q = QM G X h0 (some (vi z.1)) z.2
def pkX7_wordNamed_34 (G : GT) (X : CX) (h0 : AH) (Q : State → Prop) (a0 : Nat) (x1 : Int32) (o : ((Int32 × Int32 × AH) ⊕ ((Int32 × AH) ⊕ (Int32 × AH)))) : Prop := match o with
  | .inl s => ∀ lv : List (Nat × AV), lle lv [(0, vr (some a0)), (1, vi x1), (2, vi s.1), (3, vi s.2.1)] → V G X 4 h0 Q s.2.2 34 lv []
  | .inr z => pkX7_wordNamed_2 G X h0 Q a0 z
theorem W_X7_wordNamed_80 {G : GT} {X : CX} {d : Nat} {h0 : AH} {Q : State → Prop} (ok : Ok G X RX7 cX7_wordNamed 4 d h0) (hr : (cxm X).sig.returnType = (Option.some Jvm.ClassFile.FieldType.int)) (hd : 1 ≤ d) {a0 : Nat} {x1 : Int32} {x2 : Int32} {h : AH} {z : ((Int32 × AH) ⊕ (Int32 × AH))} (hf : X7_wordNamed_80 a0 x1 x2 h = some z) (hk : pkX7_wordNamed_2 G X h0 Q a0 z) {lv : List (Nat × AV)} (hl : lle lv [(0, vr (some a0)), (1, vi x1), (2, vi x2)]) : V G X 4 h0 Q h 80 lv [] := by
  refine V.sub hl ?_
  unfold X7_wordNamed_80 at hf
  refine v_iload_n ok 2 dX7_wordNamed_80 rfl rfl ?_
  refine v_if_eq ok 86 dX7_wordNamed_81 rfl hf (fun hf => ?_) (fun hf => ?_)
  ·
    refine v_iinc ok x1 (x1 + 1) dX7_wordNamed_86 rfl rfl (by decide) ?_
    refine v_goto ok 2 dX7_wordNamed_89 rfl ?_
    cases hf; exact hk _ ⟨rfl, rfl, trivial⟩
  ·
    refine v_iload_n ok 1 dX7_wordNamed_84 rfl rfl ?_
    exact v_iret ok hr (by cases hf; exact hk) dX7_wordNamed_85
theorem W_X7_wordNamed_34b {G : GT} {X : CX} {d : Nat} {h0 : AH} {Q : State → Prop} (ok : Ok G X RX7 cX7_wordNamed 4 d h0) (hr : (cxm X).sig.returnType = (Option.some Jvm.ClassFile.FieldType.int)) (hd : 1 ≤ d) {a0 : Nat} {x1 : Int32} {x2 : Int32} {x3 : Int32} {h : AH} {z : ((Int32 × Int32 × AH) ⊕ ((Int32 × AH) ⊕ (Int32 × AH)))} (hf : X7_wordNamed_34b  a0 x1 x2 x3 h = some z) (hk : pkX7_wordNamed_34 G X h0 Q a0 x1 z) {lv : List (Nat × AV)} (hl : lle lv [(0, vr (some a0)), (1, vi x1), (2, vi x2), (3, vi x3)]) : V G X 4 h0 Q h 34 lv [] := by
  refine V.sub hl ?_
  unfold X7_wordNamed_34b at hf
  refine v_iload_n ok 3 dX7_wordNamed_34 rfl rfl ?_
  refine v_aload_n ok 0 dX7_wordNamed_35 rfl rfl ?_
  refine v_gI ok fl_X7_304 (fun _ _ _ => rfl) dX7_wordNamed_36 hf (fun v1 hf => ?_)
  refine v_icmp_ge ok 80 dX7_wordNamed_39 rfl hf (fun hf => ?_) (fun hf => ?_)
  ·
    obtain ⟨o, ho, hz⟩ := ob hf
    cases hz; exact W_X7_wordNamed_80 ok hr hd ho hk ⟨rfl, rfl, rfl, trivial⟩
  ·
    refine v_iload_n ok 2 dX7_wordNamed_42 rfl rfl ?_
    refine v_if_eq ok 80 dX7_wordNamed_43 rfl hf (fun hf => ?_) (fun hf => ?_)
    ·
      obtain ⟨o, ho, hz⟩ := ob hf
      cases hz; exact W_X7_wordNamed_80 ok hr hd ho hk ⟨rfl, rfl, rfl, trivial⟩
    ·
      refine v_aload_n ok 0 dX7_wordNamed_46 rfl rfl ?_
      refine v_gR ok fl_X7_114 (by first | exact Or.inl ⟨_, rfl⟩ | exact Or.inr ⟨_, rfl⟩) dX7_wordNamed_47 hf (fun v2 hf => ?_)
      refine v_bipush ok 7 dX7_wordNamed_50 rfl ?_
      refine v_iload_n ok 1 dX7_wordNamed_52 rfl rfl ?_
      refine v_imul ok dX7_wordNamed_53 ?_
      refine v_iconst ok 1 dX7_wordNamed_54 rfl ?_
      refine v_iadd ok dX7_wordNamed_55 ?_
      refine v_iload_n ok 3 dX7_wordNamed_56 rfl rfl ?_
      refine v_iadd ok dX7_wordNamed_57 ?_
      refine v_iald ok rfl dX7_wordNamed_58 hf (fun v3 hf => ?_)
      refine v_aload_n ok 0 dX7_wordNamed_59 rfl rfl ?_
      refine v_gR ok fl_X7_105 (by first | exact Or.inl ⟨_, rfl⟩ | exact Or.inr ⟨_, rfl⟩) dX7_wordNamed_60 hf (fun v4 hf => ?_)
      refine v_iload_n ok 3 dX7_wordNamed_63 rfl rfl ?_
      refine v_iald ok rfl dX7_wordNamed_64 hf (fun v5 hf => ?_)
      refine v_icmp_ne ok 72 dX7_wordNamed_65 rfl hf (fun hf => ?_) (fun hf => ?_)
      ·
        refine v_iconst ok 0 dX7_wordNamed_72 rfl ?_
        refine v_istore_n ok 2 dX7_wordNamed_73 rfl (by decide) ?_
        refine v_iinc ok x3 (x3 + 1) dX7_wordNamed_74 rfl rfl (by decide) ?_
        refine v_goto ok 34 dX7_wordNamed_77 rfl ?_
        cases hf; exact hk _ ⟨rfl, rfl, rfl, rfl, trivial⟩
      ·
        refine v_iconst ok 1 dX7_wordNamed_68 rfl ?_
        refine v_goto ok 73 dX7_wordNamed_69 rfl ?_
        refine v_istore_n ok 2 dX7_wordNamed_73 rfl (by decide) ?_
        refine v_iinc ok x3 (x3 + 1) dX7_wordNamed_74 rfl rfl (by decide) ?_
        refine v_goto ok 34 dX7_wordNamed_77 rfl ?_
        cases hf; exact hk _ ⟨rfl, rfl, rfl, rfl, trivial⟩
theorem W_X7_wordNamed_34 {G : GT} {X : CX} {d : Nat} {h0 : AH} {Q : State → Prop} (ok : Ok G X RX7 cX7_wordNamed 4 d h0) (hr : (cxm X).sig.returnType = (Option.some Jvm.ClassFile.FieldType.int)) (hd : 1 ≤ d) {a0 : Nat} {x1 : Int32} {x2 : Int32} {x3 : Int32} {h : AH} {z : ((Int32 × AH) ⊕ (Int32 × AH))} (hf : X7_wordNamed_34  a0 x1 x2 x3 h = some z) (hk : pkX7_wordNamed_2 G X h0 Q a0 z) {lv : List (Nat × AV)} (hl : lle lv [(0, vr (some a0)), (1, vi x1), (2, vi x2), (3, vi x3)]) : V G X 4 h0 Q h 34 lv [] := by
  unfold X7_wordNamed_34 at hf
  exact loopC_walk (Wh := fun s : Int32 × Int32 × AH => ∀ lv : List (Nat × AV), lle lv [(0, vr (some a0)), (1, vi x1), (2, vi s.1), (3, vi s.2.1)] → V G X 4 h0 Q s.2.2 34 lv []) (PK := fun z => pkX7_wordNamed_2 G X h0 Q a0 z) (fun s o hf hk lv hl => W_X7_wordNamed_34b ok hr hd hf (by cases o <;> exact hk) hl) _ z hf hk lv hl
theorem W_X7_wordNamed_2b {G : GT} {X : CX} {d : Nat} {h0 : AH} {Q : State → Prop} (ok : Ok G X RX7 cX7_wordNamed 4 d h0) (hr : (cxm X).sig.returnType = (Option.some Jvm.ClassFile.FieldType.int)) (hd : 1 ≤ d) {a0 : Nat} {x1 : Int32} {h : AH} {z : ((Int32 × AH) ⊕ (Int32 × AH))} (hf : X7_wordNamed_2b  a0 x1 h = some z) (hk : pkX7_wordNamed_2 G X h0 Q a0 z) {lv : List (Nat × AV)} (hl : lle lv [(0, vr (some a0)), (1, vi x1)]) : V G X 4 h0 Q h 2 lv [] := by
  refine V.sub hl ?_
  unfold X7_wordNamed_2b at hf
  refine v_iload_n ok 1 dX7_wordNamed_2 rfl rfl ?_
  refine v_aload_n ok 0 dX7_wordNamed_3 rfl rfl ?_
  refine v_gI ok fl_X7_335 (fun _ _ _ => rfl) dX7_wordNamed_4 hf (fun v6 hf => ?_)
  refine v_icmp_ge ok 92 dX7_wordNamed_7 rfl hf (fun hf => ?_) (fun hf => ?_)
  ·
    refine v_iconst ok (-1) dX7_wordNamed_92 rfl ?_
    exact v_iret ok hr (by cases hf; exact hk) dX7_wordNamed_93
  ·
    refine v_aload_n ok 0 dX7_wordNamed_10 rfl rfl ?_
    refine v_gR ok fl_X7_114 (by first | exact Or.inl ⟨_, rfl⟩ | exact Or.inr ⟨_, rfl⟩) dX7_wordNamed_11 hf (fun v7 hf => ?_)
    refine v_bipush ok 7 dX7_wordNamed_14 rfl ?_
    refine v_iload_n ok 1 dX7_wordNamed_16 rfl rfl ?_
    refine v_imul ok dX7_wordNamed_17 ?_
    refine v_iald ok rfl dX7_wordNamed_18 hf (fun v8 hf => ?_)
    refine v_aload_n ok 0 dX7_wordNamed_19 rfl rfl ?_
    refine v_gI ok fl_X7_304 (fun _ _ _ => rfl) dX7_wordNamed_20 hf (fun v9 hf => ?_)
    refine v_icmp_ne ok 30 dX7_wordNamed_23 rfl hf (fun hf => ?_) (fun hf => ?_)
    ·
      refine v_iconst ok 0 dX7_wordNamed_30 rfl ?_
      refine v_istore_n ok 2 dX7_wordNamed_31 rfl (by decide) ?_
      refine v_iconst ok 0 dX7_wordNamed_32 rfl ?_
      refine v_istore_n ok 3 dX7_wordNamed_33 rfl (by decide) ?_
      exact W_X7_wordNamed_34 ok hr hd hf hk ⟨rfl, rfl, rfl, rfl, trivial⟩
    ·
      refine v_iconst ok 1 dX7_wordNamed_26 rfl ?_
      refine v_goto ok 31 dX7_wordNamed_27 rfl ?_
      refine v_istore_n ok 2 dX7_wordNamed_31 rfl (by decide) ?_
      refine v_iconst ok 0 dX7_wordNamed_32 rfl ?_
      refine v_istore_n ok 3 dX7_wordNamed_33 rfl (by decide) ?_
      exact W_X7_wordNamed_34 ok hr hd hf hk ⟨rfl, rfl, rfl, rfl, trivial⟩
theorem W_X7_wordNamed_2 {G : GT} {X : CX} {d : Nat} {h0 : AH} {Q : State → Prop} (ok : Ok G X RX7 cX7_wordNamed 4 d h0) (hr : (cxm X).sig.returnType = (Option.some Jvm.ClassFile.FieldType.int)) (hd : 1 ≤ d) {a0 : Nat} {x1 : Int32} {h : AH} {z : (Int32 × AH)} (hf : X7_wordNamed_2  a0 x1 h = some z) (hk : Q = QM G X h0 (some (vi z.1)) z.2) {lv : List (Nat × AV)} (hl : lle lv [(0, vr (some a0)), (1, vi x1)]) : V G X 4 h0 Q h 2 lv [] := by
  unfold X7_wordNamed_2 at hf
  exact loopC_walk (Wh := fun s : Int32 × AH => ∀ lv : List (Nat × AV), lle lv [(0, vr (some a0)), (1, vi s.1)] → V G X 4 h0 Q s.2 2 lv []) (PK := fun z => Q = QM G X h0 (some (vi z.1)) z.2) (fun s o hf hk lv hl => W_X7_wordNamed_2b ok hr hd hf (by cases o <;> exact hk) hl) _ z hf hk lv hl
theorem W_X7_wordNamed {G : GT} {X : CX} {d : Nat} {h0 : AH} {Q : State → Prop} (ok : Ok G X RX7 cX7_wordNamed 4 d h0) (hr : (cxm X).sig.returnType = (Option.some Jvm.ClassFile.FieldType.int)) (hd : 1 ≤ d) {a0 : Nat} {h : AH} {z : (Int32 × AH)} (hf : X7_wordNamed a0 h = some z) (hk : Q = QM G X h0 (some (vi z.1)) z.2) {lv : List (Nat × AV)} (hl : lle lv [(0, vr (some a0))]) : V G X 4 h0 Q h 0 lv [] := by
  refine V.sub hl ?_
  unfold X7_wordNamed at hf
  refine v_iconst ok 0 dX7_wordNamed_0 rfl ?_
  refine v_istore_n ok 1 dX7_wordNamed_1 rfl (by decide) ?_
  exact W_X7_wordNamed_2 ok hr hd hf hk ⟨rfl, rfl, trivial⟩
theorem M_X7_wordNamed {G : GT} {l : Launch} (hG : Glob G) {d : Nat} (hd : 1 ≤ d) {a0 : Nat} {h : AH} {v : Int32} {h' : AH} (hf : X7_wordNamed a0 h = some (v, h')) : MM G l yX7_wordNamed cX7_wordNamed 4 (Option.some Jvm.ClassFile.FieldType.int) d [vr (some a0)] h (some (vi v)) h' := by
  refine mm_of hG (plainFor_of_name (by decide)) (Nat.le_of_ble_eq_true rfl) (fun X hX ok hr hnm => ?_)
  subst hX
  exact W_X7_wordNamed ok hr hd hf rfl ⟨rfl, trivial⟩
