set_option maxRecDepth 100000
theorem cw_X7_otherAt : CW yX7_otherAt cX7_otherAt 4 (Option.some Jvm.ClassFile.FieldType.int) 3 := ⟨q2571, q185, ⟨by decide, by decide⟩, by decide +kernel, by decide⟩
theorem W_X7_otherAt {G : GT} {X : CX} {d : Nat} {h0 : AH} {Q : State → Prop} (ok : Ok G X RX7 cX7_otherAt 4 d h0) (hr : (cxm X).sig.returnType = (Option.some Jvm.ClassFile.FieldType.int)) (hd : 3 ≤ d) {a0 : Nat} {x1 : Int32} {x2 : Int32} {x3 : Int32} {h : AH} {z : (Int32 × AH)} (hf : X7_otherAt a0 x1 x2 x3 h = some z) (hk : Q = QM G X h0 (some (vi z.1)) z.2) {lv : List (Nat × AV)} (hl : lle lv [(0, vr (some a0)), (1, vi x1), (2, vi x2), (3, vi x3)]) : V G X 4 h0 Q h 0 lv [] := by
  refine V.sub hl ?_
  unfold X7_otherAt at hf
  refine v_iload_n ok 3 dX7_otherAt_0 rfl rfl ?_
  refine v_aload_n ok 0 dX7_otherAt_1 rfl rfl ?_
  refine v_iload_n ok 1 dX7_otherAt_2 rfl rfl ?_
  refine v_cVi ok (RX7, TX7, 117) cf_7.1 [vi x1] (F := fun a => X7_longOf a x1 h) (fun a v h1 _ hv => M_X7_longOf ok.2.2.2.2.2.2.1 (d := 1) (Nat.le_refl _) hv) (by exact Nat.le_trans (by decide) hd) cw_X7_longOf q2337 q2339 qs109 dX7_otherAt_3 [vi x3] rfl (Nat.le_of_ble_eq_true rfl) hf (fun v1 h2 hf => ?_)
  refine v_icmp_ge ok 31 dX7_otherAt_6 rfl hf (fun hf => ?_) (fun hf => ?_)
  ·
    refine v_iconst ok (-1) dX7_otherAt_31 rfl ?_
    exact v_iret ok hr (by cases hf; exact hk) dX7_otherAt_32
  ·
    refine v_aload_n ok 0 dX7_otherAt_9 rfl rfl ?_
    refine v_iload_n ok 2 dX7_otherAt_10 rfl rfl ?_
    refine v_aload_n ok 0 dX7_otherAt_11 rfl rfl ?_
    refine v_iload_n ok 1 dX7_otherAt_12 rfl rfl ?_
    refine v_aload_n ok 0 dX7_otherAt_13 rfl rfl ?_
    refine v_iload_n ok 1 dX7_otherAt_14 rfl rfl ?_
    refine v_cVi ok (RX7, TX7, 117) cf_7.1 [vi x1] (F := fun a => X7_longOf a x1 h2) (fun a v h1 _ hv => M_X7_longOf ok.2.2.2.2.2.2.1 (d := 1) (Nat.le_refl _) hv) (by exact Nat.le_trans (by decide) hd) cw_X7_longOf q2337 q2339 qs109 dX7_otherAt_15 [vi x1, vr (some a0), vi x2, vr (some a0)] rfl (Nat.le_of_ble_eq_true rfl) hf (fun v3 h4 hf => ?_)
    refine v_iconst ok 1 dX7_otherAt_18 rfl ?_
    refine v_isub ok dX7_otherAt_19 ?_
    refine v_iload_n ok 3 dX7_otherAt_20 rfl rfl ?_
    refine v_isub ok dX7_otherAt_21 ?_
    refine v_cVi ok (RX7, TX7, 117) cf_7.1 [vi x1, vi ((v3 - 1) - x3)] (F := fun a => X7_letterOf a x1 ((v3 - 1) - x3) h4) (fun a v h1 _ hv => M_X7_letterOf ok.2.2.2.2.2.2.1 (d := 1) (Nat.le_refl _) hv) (by exact Nat.le_trans (by decide) hd) cw_X7_letterOf q2341 q2343 qs110 dX7_otherAt_22 [vi x2, vr (some a0)] rfl (Nat.le_of_ble_eq_true rfl) hf (fun v5 h6 hf => ?_)
    refine v_cVi ok (RX7, TX7, 117) cf_7.1 [vi x2, vi v5] (F := fun a => X7_letterAt a x2 v5 h6) (fun a v h1 _ hv => M_X7_letterAt ok.2.2.2.2.2.2.1 (d := 2) (Nat.le_refl _) hv) (by exact Nat.le_trans (by decide) hd) cw_X7_letterAt q2345 q2347 qs111 dX7_otherAt_25 [] rfl (Nat.le_of_ble_eq_true rfl) hf (fun v7 h8 hf => ?_)
    refine v_goto ok 32 dX7_otherAt_28 rfl ?_
    exact v_iret ok hr (by cases hf; exact hk) dX7_otherAt_32
theorem M_X7_otherAt {G : GT} {l : Launch} (hG : Glob G) {d : Nat} (hd : 3 ≤ d) {a0 : Nat} {x1 : Int32} {x2 : Int32} {x3 : Int32} {h : AH} {v : Int32} {h' : AH} (hf : X7_otherAt a0 x1 x2 x3 h = some (v, h')) : MM G l yX7_otherAt cX7_otherAt 4 (Option.some Jvm.ClassFile.FieldType.int) d [vr (some a0), vi x1, vi x2, vi x3] h (some (vi v)) h' := by
  refine mm_of hG (plainFor_of_name (by decide)) (Nat.le_of_ble_eq_true rfl) (fun X hX ok hr hnm => ?_)
  subst hX
  exact W_X7_otherAt ok hr hd hf rfl ⟨rfl, rfl, rfl, rfl, trivial⟩
theorem cw_X7_linePuts : CW yX7_linePuts cX7_linePuts 17 none 5 := ⟨q2563, q185, ⟨by decide, by decide⟩, by decide +kernel, by decide⟩
def pkX7_linePuts_83 (G : GT) (X : CX) (h0 : AH) (Q : State → Prop) (a0 : Nat) (x3 : Int32) (x6 : Int32) (x7 : Int32) (x8 : Int32) (x9 : Int32) (x10 : Int32) (o : ((Int32 × AH) ⊕ (AH))) : Prop := match o with
  | .inl s => ∀ lv : List (Nat × AV), lle lv [(0, vr (some a0)), (3, vi x3), (6, vi x6), (7, vi x7), (8, vi x8), (9, vi x9), (10, vi x10), (11, vi s.1)] → V G X 17 h0 Q s.2 83 lv []
  | .inr z => Q = QM G X h0 none z
theorem W_X7_linePuts_276 {G : GT} {X : CX} {d : Nat} {h0 : AH} {Q : State → Prop} (ok : Ok G X RX7 cX7_linePuts 17 d h0) (hr : (cxm X).sig.returnType = none) (hd : 8 ≤ d) {a0 : Nat} {x3 : Int32} {x6 : Int32} {x7 : Int32} {x8 : Int32} {x9 : Int32} {x10 : Int32} {x11 : Int32} {x15 : Int32} {x16 : Int32} {h : AH} {z : ((Int32 × AH) ⊕ (AH))} (hf : X7_linePuts_276 a0 x3 x6 x7 x8 x9 x10 x11 x15 x16 h = some z) (hk : pkX7_linePuts_83 G X h0 Q a0 x3 x6 x7 x8 x9 x10 z) {lv : List (Nat × AV)} (hl : lle lv [(0, vr (some a0)), (3, vi x3), (6, vi x6), (7, vi x7), (8, vi x8), (9, vi x9), (10, vi x10), (11, vi x11), (15, vi x15), (16, vi x16)]) : V G X 17 h0 Q h 276 lv [] := by
  refine V.sub hl ?_
  unfold X7_linePuts_276 at hf
  refine v_aload_n ok 0 dX7_linePuts_276 rfl rfl ?_
  refine v_gR ok fl_X7_150 (by first | exact Or.inl ⟨_, rfl⟩ | exact Or.inr ⟨_, rfl⟩) dX7_linePuts_277 hf (fun v1 hf => ?_)
  refine v_iload ok dX7_linePuts_280 rfl ?_
  refine v_iload ok dX7_linePuts_282 rfl ?_
  refine v_iast ok rfl dX7_linePuts_284 hf (fun h2 hf => ?_)
  refine v_aload_n ok 0 dX7_linePuts_285 rfl rfl ?_
  refine v_gR ok fl_X7_144 (by first | exact Or.inl ⟨_, rfl⟩ | exact Or.inr ⟨_, rfl⟩) dX7_linePuts_286 hf (fun v3 hf => ?_)
  refine v_iload ok dX7_linePuts_289 rfl ?_
  refine v_iload ok dX7_linePuts_291 rfl ?_
  refine v_iast ok rfl dX7_linePuts_293 hf (fun h4 hf => ?_)
  refine v_aload_n ok 0 dX7_linePuts_294 rfl rfl ?_
  refine v_gR ok fl_X7_147 (by first | exact Or.inl ⟨_, rfl⟩ | exact Or.inr ⟨_, rfl⟩) dX7_linePuts_295 hf (fun v5 hf => ?_)
  refine v_iload ok dX7_linePuts_298 rfl ?_
  refine v_iload ok dX7_linePuts_300 rfl ?_
  refine v_iast ok rfl dX7_linePuts_302 hf (fun h6 hf => ?_)
  refine v_iinc ok x11 (x11 + 1) dX7_linePuts_303 rfl rfl (by decide) ?_
  refine v_goto ok 83 dX7_linePuts_306 rfl ?_
  cases hf; exact hk _ ⟨rfl, rfl, rfl, rfl, rfl, rfl, rfl, rfl, trivial⟩
theorem W_X7_linePuts_197 {G : GT} {X : CX} {d : Nat} {h0 : AH} {Q : State → Prop} (ok : Ok G X RX7 cX7_linePuts 17 d h0) (hr : (cxm X).sig.returnType = none) (hd : 8 ≤ d) {a0 : Nat} {x3 : Int32} {x6 : Int32} {x7 : Int32} {x8 : Int32} {x9 : Int32} {x10 : Int32} {x11 : Int32} {x12 : Int32} {x13 : Int32} {s0 : Int32} {h : AH} {z : ((Int32 × AH) ⊕ (AH))} (hf : X7_linePuts_197 a0 x3 x6 x7 x8 x9 x10 x11 x12 x13 s0 h = some z) (hk : pkX7_linePuts_83 G X h0 Q a0 x3 x6 x7 x8 x9 x10 z) {lv : List (Nat × AV)} (hl : lle lv [(0, vr (some a0)), (3, vi x3), (6, vi x6), (7, vi x7), (8, vi x8), (9, vi x9), (10, vi x10), (11, vi x11), (12, vi x12), (13, vi x13)]) : V G X 17 h0 Q h 197 lv [vi s0] := by
  refine V.sub hl ?_
  unfold X7_linePuts_197 at hf
  refine v_istore ok dX7_linePuts_197 (by decide) ?_
  refine v_iload ok dX7_linePuts_199 rfl ?_
  refine v_aload_n ok 0 dX7_linePuts_201 rfl rfl ?_
  refine v_gR ok fl_X7_144 (by first | exact Or.inl ⟨_, rfl⟩ | exact Or.inr ⟨_, rfl⟩) dX7_linePuts_202 hf (fun v7 hf => ?_)
  refine v_iload ok dX7_linePuts_205 rfl ?_
  refine v_iald ok rfl dX7_linePuts_207 hf (fun v8 hf => ?_)
  refine v_iadd ok dX7_linePuts_208 ?_
  refine v_istore ok dX7_linePuts_209 (by decide) ?_
  refine v_iload ok dX7_linePuts_211 rfl ?_
  refine v_cSi ok [vi x12] (F := X7_bits x12 h) (fun v h1 hv => M_X7_bits ok.2.2.2.2.2.2.1 (d := 1) (Nat.le_refl _) hv) (by exact Nat.le_trans (by decide) hd) cw_X7_bits q2381 q2382 dX7_linePuts_213 [] rfl (Nat.le_of_ble_eq_true rfl) hf (fun v9 h10 hf => ?_)
  refine v_aload_n ok 0 dX7_linePuts_216 rfl rfl ?_
  refine v_gR ok fl_X7_147 (by first | exact Or.inl ⟨_, rfl⟩ | exact Or.inr ⟨_, rfl⟩) dX7_linePuts_217 hf (fun v11 hf => ?_)
  refine v_iload ok dX7_linePuts_220 rfl ?_
  refine v_iald ok rfl dX7_linePuts_222 hf (fun v12 hf => ?_)
  refine v_iadd ok dX7_linePuts_223 ?_
  refine v_istore ok dX7_linePuts_224 (by decide) ?_
  refine v_aload_n ok 0 dX7_linePuts_226 rfl rfl ?_
  refine v_gR ok fl_X7_150 (by first | exact Or.inl ⟨_, rfl⟩ | exact Or.inr ⟨_, rfl⟩) dX7_linePuts_227 hf (fun v13 hf => ?_)
  refine v_iload ok dX7_linePuts_230 rfl ?_
  refine v_iald ok rfl dX7_linePuts_232 hf (fun v14 hf => ?_)
  refine v_iconst ok (-1) dX7_linePuts_233 rfl ?_
  refine v_icmp_eq ok 276 dX7_linePuts_234 rfl hf (fun hf => ?_) (fun hf => ?_)
  ·
    exact W_X7_linePuts_276 ok hr hd hf hk ⟨rfl, rfl, rfl, rfl, rfl, rfl, rfl, rfl, rfl, rfl, trivial⟩
  ·
    refine v_iload ok dX7_linePuts_237 rfl ?_
    refine v_aload_n ok 0 dX7_linePuts_239 rfl rfl ?_
    refine v_gR ok fl_X7_144 (by first | exact Or.inl ⟨_, rfl⟩ | exact Or.inr ⟨_, rfl⟩) dX7_linePuts_240 hf (fun v15 hf => ?_)
    refine v_iload ok dX7_linePuts_243 rfl ?_
    refine v_iald ok rfl dX7_linePuts_245 hf (fun v16 hf => ?_)
    refine v_icmp_gt ok 303 dX7_linePuts_246 rfl hf (fun hf => ?_) (fun hf => ?_)
    ·
      refine v_iinc ok x11 (x11 + 1) dX7_linePuts_303 rfl rfl (by decide) ?_
      refine v_goto ok 83 dX7_linePuts_306 rfl ?_
      cases hf; exact hk _ ⟨rfl, rfl, rfl, rfl, rfl, rfl, rfl, rfl, trivial⟩
    ·
      refine v_iload ok dX7_linePuts_249 rfl ?_
      refine v_aload_n ok 0 dX7_linePuts_251 rfl rfl ?_
      refine v_gR ok fl_X7_144 (by first | exact Or.inl ⟨_, rfl⟩ | exact Or.inr ⟨_, rfl⟩) dX7_linePuts_252 hf (fun v17 hf => ?_)
      refine v_iload ok dX7_linePuts_255 rfl ?_
      refine v_iald ok rfl dX7_linePuts_257 hf (fun v18 hf => ?_)
      refine v_icmp_ne ok 276 dX7_linePuts_258 rfl hf (fun hf => ?_) (fun hf => ?_)
      ·
        exact W_X7_linePuts_276 ok hr hd hf hk ⟨rfl, rfl, rfl, rfl, rfl, rfl, rfl, rfl, rfl, rfl, trivial⟩
      ·
        refine v_iload ok dX7_linePuts_261 rfl ?_
        refine v_aload_n ok 0 dX7_linePuts_263 rfl rfl ?_
        refine v_gR ok fl_X7_147 (by first | exact Or.inl ⟨_, rfl⟩ | exact Or.inr ⟨_, rfl⟩) dX7_linePuts_264 hf (fun v19 hf => ?_)
        refine v_iload ok dX7_linePuts_267 rfl ?_
        refine v_iald ok rfl dX7_linePuts_269 hf (fun v20 hf => ?_)
        refine v_icmp_lt ok 276 dX7_linePuts_270 rfl hf (fun hf => ?_) (fun hf => ?_)
        ·
          exact W_X7_linePuts_276 ok hr hd hf hk ⟨rfl, rfl, rfl, rfl, rfl, rfl, rfl, rfl, rfl, rfl, trivial⟩
        ·
          refine v_goto ok 303 dX7_linePuts_273 rfl ?_
          refine v_iinc ok x11 (x11 + 1) dX7_linePuts_303 rfl rfl (by decide) ?_
          refine v_goto ok 83 dX7_linePuts_306 rfl ?_
          cases hf; exact hk _ ⟨rfl, rfl, rfl, rfl, rfl, rfl, rfl, rfl, trivial⟩
theorem W_X7_linePuts_154 {G : GT} {X : CX} {d : Nat} {h0 : AH} {Q : State → Prop} (ok : Ok G X RX7 cX7_linePuts 17 d h0) (hr : (cxm X).sig.returnType = none) (hd : 8 ≤ d) {a0 : Nat} {x3 : Int32} {x6 : Int32} {x7 : Int32} {x8 : Int32} {x9 : Int32} {x10 : Int32} {x11 : Int32} {x12 : Int32} {s0 : Int32} {h : AH} {z : ((Int32 × AH) ⊕ (AH))} (hf : X7_linePuts_154 a0 x3 x6 x7 x8 x9 x10 x11 x12 s0 h = some z) (hk : pkX7_linePuts_83 G X h0 Q a0 x3 x6 x7 x8 x9 x10 z) {lv : List (Nat × AV)} (hl : lle lv [(0, vr (some a0)), (3, vi x3), (6, vi x6), (7, vi x7), (8, vi x8), (9, vi x9), (10, vi x10), (11, vi x11), (12, vi x12)]) : V G X 17 h0 Q h 154 lv [vi s0] := by
  refine V.sub hl ?_
  unfold X7_linePuts_154 at hf
  refine v_istore ok dX7_linePuts_154 (by decide) ?_
  refine v_iload ok dX7_linePuts_156 rfl ?_
  refine v_iconst ok (-1) dX7_linePuts_158 rfl ?_
  refine v_icmp_ne ok 165 dX7_linePuts_159 rfl hf (fun hf => ?_) (fun hf => ?_)
  ·
    refine v_iload ok dX7_linePuts_165 rfl ?_
    refine v_iconst ok 4 dX7_linePuts_167 rfl ?_
    refine v_icmp_ge ok 179 dX7_linePuts_168 rfl hf (fun hf => ?_) (fun hf => ?_)
    ·
      refine v_iload ok dX7_linePuts_179 rfl ?_
      refine v_iconst ok 4 dX7_linePuts_181 rfl ?_
      refine v_icmp_ne ok 193 dX7_linePuts_182 rfl hf (fun hf => ?_) (fun hf => ?_)
      ·
        refine v_iload ok dX7_linePuts_193 rfl ?_
        refine v_iconst ok 1 dX7_linePuts_195 rfl ?_
        refine v_iadd ok dX7_linePuts_196 ?_
        exact W_X7_linePuts_197 ok hr hd hf hk ⟨rfl, rfl, rfl, rfl, rfl, rfl, rfl, rfl, rfl, rfl, trivial⟩
      ·
        refine v_iload ok dX7_linePuts_185 rfl ?_
        refine v_bipush ok 7 dX7_linePuts_187 rfl ?_
        refine v_iadd ok dX7_linePuts_189 ?_
        refine v_goto ok 197 dX7_linePuts_190 rfl ?_
        exact W_X7_linePuts_197 ok hr hd hf hk ⟨rfl, rfl, rfl, rfl, rfl, rfl, rfl, rfl, rfl, rfl, trivial⟩
    ·
      refine v_iload ok dX7_linePuts_171 rfl ?_
      refine v_bipush ok 8 dX7_linePuts_173 rfl ?_
      refine v_iadd ok dX7_linePuts_175 ?_
      refine v_goto ok 197 dX7_linePuts_176 rfl ?_
      exact W_X7_linePuts_197 ok hr hd hf hk ⟨rfl, rfl, rfl, rfl, rfl, rfl, rfl, rfl, rfl, rfl, trivial⟩
  ·
    refine v_goto ok 303 dX7_linePuts_162 rfl ?_
    refine v_iinc ok x11 (x11 + 1) dX7_linePuts_303 rfl rfl (by decide) ?_
    refine v_goto ok 83 dX7_linePuts_306 rfl ?_
    cases hf; exact hk _ ⟨rfl, rfl, rfl, rfl, rfl, rfl, rfl, rfl, trivial⟩
theorem W_X7_linePuts_117 {G : GT} {X : CX} {d : Nat} {h0 : AH} {Q : State → Prop} (ok : Ok G X RX7 cX7_linePuts 17 d h0) (hr : (cxm X).sig.returnType = none) (hd : 8 ≤ d) {a0 : Nat} {x3 : Int32} {x6 : Int32} {x7 : Int32} {x8 : Int32} {x9 : Int32} {x10 : Int32} {x11 : Int32} {h : AH} {z : ((Int32 × AH) ⊕ (AH))} (hf : X7_linePuts_117 a0 x3 x6 x7 x8 x9 x10 x11 h = some z) (hk : pkX7_linePuts_83 G X h0 Q a0 x3 x6 x7 x8 x9 x10 z) {lv : List (Nat × AV)} (hl : lle lv [(0, vr (some a0)), (3, vi x3), (6, vi x6), (7, vi x7), (8, vi x8), (9, vi x9), (10, vi x10), (11, vi x11)]) : V G X 17 h0 Q h 117 lv [] := by
  refine V.sub hl ?_
  unfold X7_linePuts_117 at hf
  refine v_iload ok dX7_linePuts_117 rfl ?_
  refine v_iload ok dX7_linePuts_119 rfl ?_
  refine v_iload ok dX7_linePuts_121 rfl ?_
  refine v_cSi ok [vi x11, vi x9, vi x10] (F := X7_glyphBy x11 x9 x10 h) (fun v h1 hv => M_X7_glyphBy ok.2.2.2.2.2.2.1 (d := 1) (Nat.le_refl _) hv) (by exact Nat.le_trans (by decide) hd) cw_X7_glyphBy q2572 q2573 dX7_linePuts_123 [] rfl (Nat.le_of_ble_eq_true rfl) hf (fun v21 h22 hf => ?_)
  refine v_istore ok dX7_linePuts_126 (by decide) ?_
  refine v_iload ok dX7_linePuts_128 rfl ?_
  refine v_iconst ok 4 dX7_linePuts_130 rfl ?_
  refine v_icmp_ge ok 148 dX7_linePuts_131 rfl hf (fun hf => ?_) (fun hf => ?_)
  ·
    refine v_aload_n ok 0 dX7_linePuts_148 rfl rfl ?_
    refine v_gR ok fl_X7_120 (by first | exact Or.inl ⟨_, rfl⟩ | exact Or.inr ⟨_, rfl⟩) dX7_linePuts_149 hf (fun v23 hf => ?_)
    refine v_iconst ok 4 dX7_linePuts_152 rfl ?_
    refine v_iald ok rfl dX7_linePuts_153 hf (fun v24 hf => ?_)
    exact W_X7_linePuts_154 ok hr hd hf hk ⟨rfl, rfl, rfl, rfl, rfl, rfl, rfl, rfl, rfl, trivial⟩
  ·
    refine v_aload_n ok 0 dX7_linePuts_134 rfl rfl ?_
    refine v_iload_n ok 3 dX7_linePuts_135 rfl rfl ?_
    refine v_iload ok dX7_linePuts_136 rfl ?_
    refine v_iload ok dX7_linePuts_138 rfl ?_
    refine v_iload ok dX7_linePuts_140 rfl ?_
    refine v_cVi ok (RX7, TX7, 117) cf_7.1 [vi x3, vi x7, vi x8, vi v21] (F := fun a => X7_bothDoubt a x3 x7 x8 v21 h22) (fun a v h1 _ hv => M_X7_bothDoubt ok.2.2.2.2.2.2.1 (d := 7) (Nat.le_refl _) hv) (by exact Nat.le_trans (by decide) hd) cw_X7_bothDoubt q2575 q2577 qs150 dX7_linePuts_142 [] rfl (Nat.le_of_ble_eq_true rfl) hf (fun v25 h26 hf => ?_)
    refine v_goto ok 154 dX7_linePuts_145 rfl ?_
    exact W_X7_linePuts_154 ok hr hd hf hk ⟨rfl, rfl, rfl, rfl, rfl, rfl, rfl, rfl, rfl, trivial⟩
theorem W_X7_linePuts_102 {G : GT} {X : CX} {d : Nat} {h0 : AH} {Q : State → Prop} (ok : Ok G X RX7 cX7_linePuts 17 d h0) (hr : (cxm X).sig.returnType = none) (hd : 8 ≤ d) {a0 : Nat} {x3 : Int32} {x6 : Int32} {x7 : Int32} {x8 : Int32} {x9 : Int32} {x10 : Int32} {x11 : Int32} {h : AH} {z : ((Int32 × AH) ⊕ (AH))} (hf : X7_linePuts_102 a0 x3 x6 x7 x8 x9 x10 x11 h = some z) (hk : pkX7_linePuts_83 G X h0 Q a0 x3 x6 x7 x8 x9 x10 z) {lv : List (Nat × AV)} (hl : lle lv [(0, vr (some a0)), (3, vi x3), (6, vi x6), (7, vi x7), (8, vi x8), (9, vi x9), (10, vi x10), (11, vi x11)]) : V G X 17 h0 Q h 102 lv [] := by
  refine V.sub hl ?_
  unfold X7_linePuts_102 at hf
  refine v_iload ok dX7_linePuts_102 rfl ?_
  refine v_iconst ok 4 dX7_linePuts_104 rfl ?_
  refine v_icmp_eq ok 117 dX7_linePuts_105 rfl hf (fun hf => ?_) (fun hf => ?_)
  ·
    exact W_X7_linePuts_117 ok hr hd hf hk ⟨rfl, rfl, rfl, rfl, rfl, rfl, rfl, rfl, trivial⟩
  ·
    refine v_iload ok dX7_linePuts_108 rfl ?_
    refine v_iconst ok (-1) dX7_linePuts_110 rfl ?_
    refine v_icmp_ne ok 117 dX7_linePuts_111 rfl hf (fun hf => ?_) (fun hf => ?_)
    ·
      exact W_X7_linePuts_117 ok hr hd hf hk ⟨rfl, rfl, rfl, rfl, rfl, rfl, rfl, rfl, trivial⟩
    ·
      refine v_goto ok 303 dX7_linePuts_114 rfl ?_
      refine v_iinc ok x11 (x11 + 1) dX7_linePuts_303 rfl rfl (by decide) ?_
      refine v_goto ok 83 dX7_linePuts_306 rfl ?_
      cases hf; exact hk _ ⟨rfl, rfl, rfl, rfl, rfl, rfl, rfl, rfl, trivial⟩
theorem W_X7_linePuts_83b {G : GT} {X : CX} {d : Nat} {h0 : AH} {Q : State → Prop} (ok : Ok G X RX7 cX7_linePuts 17 d h0) (hr : (cxm X).sig.returnType = none) (hd : 8 ≤ d) {a0 : Nat} {x3 : Int32} {x6 : Int32} {x7 : Int32} {x8 : Int32} {x9 : Int32} {x10 : Int32} {x11 : Int32} {h : AH} {z : ((Int32 × AH) ⊕ (AH))} (hf : X7_linePuts_83b  a0 x3 x6 x7 x8 x9 x10 x11 h = some z) (hk : pkX7_linePuts_83 G X h0 Q a0 x3 x6 x7 x8 x9 x10 z) {lv : List (Nat × AV)} (hl : lle lv [(0, vr (some a0)), (3, vi x3), (6, vi x6), (7, vi x7), (8, vi x8), (9, vi x9), (10, vi x10), (11, vi x11)]) : V G X 17 h0 Q h 83 lv [] := by
  refine V.sub hl ?_
  unfold X7_linePuts_83b at hf
  refine v_iload ok dX7_linePuts_83 rfl ?_
  refine v_bipush ok 6 dX7_linePuts_85 rfl ?_
  refine v_icmp_ge ok 309 dX7_linePuts_87 rfl hf (fun hf => ?_) (fun hf => ?_)
  ·
    exact v_vret ok hr (by cases hf; exact hk) dX7_linePuts_309
  ·
    refine v_iload ok dX7_linePuts_90 rfl ?_
    refine v_iconst ok 5 dX7_linePuts_92 rfl ?_
    refine v_icmp_eq ok 102 dX7_linePuts_93 rfl hf (fun hf => ?_) (fun hf => ?_)
    ·
      exact W_X7_linePuts_102 ok hr hd hf hk ⟨rfl, rfl, rfl, rfl, rfl, rfl, rfl, rfl, trivial⟩
    ·
      refine v_iload ok dX7_linePuts_96 rfl ?_
      refine v_iconst ok (-1) dX7_linePuts_98 rfl ?_
      refine v_icmp_eq ok 303 dX7_linePuts_99 rfl hf (fun hf => ?_) (fun hf => ?_)
      ·
        refine v_iinc ok x11 (x11 + 1) dX7_linePuts_303 rfl rfl (by decide) ?_
        refine v_goto ok 83 dX7_linePuts_306 rfl ?_
        cases hf; exact hk _ ⟨rfl, rfl, rfl, rfl, rfl, rfl, rfl, rfl, trivial⟩
      ·
        exact W_X7_linePuts_102 ok hr hd hf hk ⟨rfl, rfl, rfl, rfl, rfl, rfl, rfl, rfl, trivial⟩
theorem W_X7_linePuts_83 {G : GT} {X : CX} {d : Nat} {h0 : AH} {Q : State → Prop} (ok : Ok G X RX7 cX7_linePuts 17 d h0) (hr : (cxm X).sig.returnType = none) (hd : 8 ≤ d) {a0 : Nat} {x3 : Int32} {x6 : Int32} {x7 : Int32} {x8 : Int32} {x9 : Int32} {x10 : Int32} {x11 : Int32} {h : AH} {z : (AH)} (hf : X7_linePuts_83  a0 x3 x6 x7 x8 x9 x10 x11 h = some z) (hk : Q = QM G X h0 none z) {lv : List (Nat × AV)} (hl : lle lv [(0, vr (some a0)), (3, vi x3), (6, vi x6), (7, vi x7), (8, vi x8), (9, vi x9), (10, vi x10), (11, vi x11)]) : V G X 17 h0 Q h 83 lv [] := by
  unfold X7_linePuts_83 at hf
  exact loopC_walk (Wh := fun s : Int32 × AH => ∀ lv : List (Nat × AV), lle lv [(0, vr (some a0)), (3, vi x3), (6, vi x6), (7, vi x7), (8, vi x8), (9, vi x9), (10, vi x10), (11, vi s.1)] → V G X 17 h0 Q s.2 83 lv []) (PK := fun z => Q = QM G X h0 none z) (fun s o hf hk lv hl => W_X7_linePuts_83b ok hr hd hf (by cases o <;> exact hk) hl) _ z hf hk lv hl
theorem W_X7_linePuts_70 {G : GT} {X : CX} {d : Nat} {h0 : AH} {Q : State → Prop} (ok : Ok G X RX7 cX7_linePuts 17 d h0) (hr : (cxm X).sig.returnType = none) (hd : 8 ≤ d) {a0 : Nat} {x3 : Int32} {x6 : Int32} {x7 : Int32} {x8 : Int32} {x9 : Int32} {s0 : Int32} {h : AH} {z : (AH)} (hf : X7_linePuts_70 a0 x3 x6 x7 x8 x9 s0 h = some z) (hk : Q = QM G X h0 none z) {lv : List (Nat × AV)} (hl : lle lv [(0, vr (some a0)), (3, vi x3), (6, vi x6), (7, vi x7), (8, vi x8), (9, vi x9)]) : V G X 17 h0 Q h 70 lv [vi s0] := by
  refine V.sub hl ?_
  unfold X7_linePuts_70 at hf
  refine v_istore ok dX7_linePuts_70 (by decide) ?_
  refine v_aload_n ok 0 dX7_linePuts_72 rfl rfl ?_
  refine v_gR ok fl_X7_150 (by first | exact Or.inl ⟨_, rfl⟩ | exact Or.inr ⟨_, rfl⟩) dX7_linePuts_73 hf (fun v27 hf => ?_)
  refine v_iload ok dX7_linePuts_76 rfl ?_
  refine v_iconst ok (-1) dX7_linePuts_78 rfl ?_
  refine v_iast ok rfl dX7_linePuts_79 hf (fun h28 hf => ?_)
  refine v_iconst ok 0 dX7_linePuts_80 rfl ?_
  refine v_istore ok dX7_linePuts_81 (by decide) ?_
  exact W_X7_linePuts_83 ok hr hd hf hk ⟨rfl, rfl, rfl, rfl, rfl, rfl, rfl, rfl, trivial⟩
theorem W_X7_linePuts_47 {G : GT} {X : CX} {d : Nat} {h0 : AH} {Q : State → Prop} (ok : Ok G X RX7 cX7_linePuts 17 d h0) (hr : (cxm X).sig.returnType = none) (hd : 8 ≤ d) {a0 : Nat} {x3 : Int32} {x6 : Int32} {x7 : Int32} {x8 : Int32} {s0 : Int32} {h : AH} {z : (AH)} (hf : X7_linePuts_47 a0 x3 x6 x7 x8 s0 h = some z) (hk : Q = QM G X h0 none z) {lv : List (Nat × AV)} (hl : lle lv [(0, vr (some a0)), (3, vi x3), (6, vi x6), (7, vi x7), (8, vi x8)]) : V G X 17 h0 Q h 47 lv [vi s0] := by
  refine V.sub hl ?_
  unfold X7_linePuts_47 at hf
  refine v_istore ok dX7_linePuts_47 (by decide) ?_
  refine v_iload ok dX7_linePuts_49 rfl ?_
  refine v_iconst ok (-1) dX7_linePuts_51 rfl ?_
  refine v_icmp_ne ok 59 dX7_linePuts_52 rfl hf (fun hf => ?_) (fun hf => ?_)
  ·
    refine v_aload_n ok 0 dX7_linePuts_59 rfl rfl ?_
    refine v_iload_n ok 3 dX7_linePuts_60 rfl rfl ?_
    refine v_iload ok dX7_linePuts_61 rfl ?_
    refine v_cVi ok (RX7, TX7, 117) cf_7.1 [vi x3, vi x8] (F := fun a => X7_glyphOf a x3 x8 h) (fun a v h1 _ hv => M_X7_glyphOf ok.2.2.2.2.2.2.1 (d := 1) (Nat.le_refl _) hv) (by exact Nat.le_trans (by decide) hd) cw_X7_glyphOf q2353 q2355 qs113 dX7_linePuts_63 [] rfl (Nat.le_of_ble_eq_true rfl) hf (fun v29 h30 hf => ?_)
    refine v_iconst ok 1 dX7_linePuts_66 rfl ?_
    refine v_cSi ok [vi v29, vi 1] (F := X7_seenBy v29 1 h30) (fun v h1 hv => M_X7_seenBy ok.2.2.2.2.2.2.1 (d := 1) (Nat.le_refl _) hv) (by exact Nat.le_trans (by decide) hd) cw_X7_seenBy q2444 q2445 dX7_linePuts_67 [] rfl (Nat.le_of_ble_eq_true rfl) hf (fun v31 h32 hf => ?_)
    exact W_X7_linePuts_70 ok hr hd hf hk ⟨rfl, rfl, rfl, rfl, rfl, rfl, trivial⟩
  ·
    refine v_iconst ok 0 dX7_linePuts_55 rfl ?_
    refine v_goto ok 70 dX7_linePuts_56 rfl ?_
    exact W_X7_linePuts_70 ok hr hd hf hk ⟨rfl, rfl, rfl, rfl, rfl, rfl, trivial⟩
theorem W_X7_linePuts {G : GT} {X : CX} {d : Nat} {h0 : AH} {Q : State → Prop} (ok : Ok G X RX7 cX7_linePuts 17 d h0) (hr : (cxm X).sig.returnType = none) (hd : 8 ≤ d) {a0 : Nat} {x1 : Int32} {x2 : Int32} {x3 : Int32} {x4 : Int32} {x5 : Int32} {h : AH} {z : (AH)} (hf : X7_linePuts a0 x1 x2 x3 x4 x5 h = some z) (hk : Q = QM G X h0 none z) {lv : List (Nat × AV)} (hl : lle lv [(0, vr (some a0)), (1, vi x1), (2, vi x2), (3, vi x3), (4, vi x4), (5, vi x5)]) : V G X 17 h0 Q h 0 lv [] := by
  refine V.sub hl ?_
  unfold X7_linePuts at hf
  refine v_bipush ok 7 dX7_linePuts_0 rfl ?_
  refine v_iload ok dX7_linePuts_2 rfl ?_
  refine v_imul ok dX7_linePuts_4 ?_
  refine v_iload ok dX7_linePuts_5 rfl ?_
  refine v_iadd ok dX7_linePuts_7 ?_
  refine v_istore ok dX7_linePuts_8 (by decide) ?_
  refine v_aload_n ok 0 dX7_linePuts_10 rfl rfl ?_
  refine v_iload_n ok 1 dX7_linePuts_11 rfl rfl ?_
  refine v_iload_n ok 3 dX7_linePuts_12 rfl rfl ?_
  refine v_iload ok dX7_linePuts_13 rfl ?_
  refine v_cVi ok (RX7, TX7, 117) cf_7.1 [vi x1, vi x3, vi x4] (F := fun a => X7_oneAt a x1 x3 x4 h) (fun a v h1 _ hv => M_X7_oneAt ok.2.2.2.2.2.2.1 (d := 3) (Nat.le_refl _) hv) (by exact Nat.le_trans (by decide) hd) cw_X7_oneAt q2564 q2566 qs148 dX7_linePuts_15 [] rfl (Nat.le_of_ble_eq_true rfl) hf (fun v33 h34 hf => ?_)
  refine v_istore ok dX7_linePuts_18 (by decide) ?_
  refine v_aload_n ok 0 dX7_linePuts_20 rfl rfl ?_
  refine v_iload_n ok 2 dX7_linePuts_21 rfl rfl ?_
  refine v_iload_n ok 3 dX7_linePuts_22 rfl rfl ?_
  refine v_iload ok dX7_linePuts_23 rfl ?_
  refine v_cVi ok (RX7, TX7, 117) cf_7.1 [vi x2, vi x3, vi x5] (F := fun a => X7_otherAt a x2 x3 x5 h34) (fun a v h1 _ hv => M_X7_otherAt ok.2.2.2.2.2.2.1 (d := 3) (Nat.le_refl _) hv) (by exact Nat.le_trans (by decide) hd) cw_X7_otherAt q2568 q2570 qs149 dX7_linePuts_25 [] rfl (Nat.le_of_ble_eq_true rfl) hf (fun v35 h36 hf => ?_)
  refine v_istore ok dX7_linePuts_28 (by decide) ?_
  refine v_iload ok dX7_linePuts_30 rfl ?_
  refine v_iconst ok (-1) dX7_linePuts_32 rfl ?_
  refine v_icmp_ne ok 40 dX7_linePuts_33 rfl hf (fun hf => ?_) (fun hf => ?_)
  ·
    refine v_aload_n ok 0 dX7_linePuts_40 rfl rfl ?_
    refine v_iload_n ok 3 dX7_linePuts_41 rfl rfl ?_
    refine v_iload ok dX7_linePuts_42 rfl ?_
    refine v_cVi ok (RX7, TX7, 117) cf_7.1 [vi x3, vi v33] (F := fun a => X7_glyphOf a x3 v33 h36) (fun a v h1 _ hv => M_X7_glyphOf ok.2.2.2.2.2.2.1 (d := 1) (Nat.le_refl _) hv) (by exact Nat.le_trans (by decide) hd) cw_X7_glyphOf q2353 q2355 qs113 dX7_linePuts_44 [] rfl (Nat.le_of_ble_eq_true rfl) hf (fun v37 h38 hf => ?_)
    exact W_X7_linePuts_47 ok hr hd hf hk ⟨rfl, rfl, rfl, rfl, rfl, trivial⟩
  ·
    refine v_iconst ok 0 dX7_linePuts_36 rfl ?_
    refine v_goto ok 47 dX7_linePuts_37 rfl ?_
    exact W_X7_linePuts_47 ok hr hd hf hk ⟨rfl, rfl, rfl, rfl, rfl, trivial⟩
theorem M_X7_linePuts {G : GT} {l : Launch} (hG : Glob G) {d : Nat} (hd : 8 ≤ d) {a0 : Nat} {x1 : Int32} {x2 : Int32} {x3 : Int32} {x4 : Int32} {x5 : Int32} {h : AH} {h' : AH} (hf : X7_linePuts a0 x1 x2 x3 x4 x5 h = some h') : MM G l yX7_linePuts cX7_linePuts 17 none d [vr (some a0), vi x1, vi x2, vi x3, vi x4, vi x5] h none h' := by
  refine mm_of hG (plainFor_of_name (by decide)) (Nat.le_of_ble_eq_true rfl) (fun X hX ok hr hnm => ?_)
  subst hX
  exact W_X7_linePuts ok hr hd hf rfl ⟨rfl, rfl, rfl, rfl, rfl, rfl, trivial⟩
theorem cw_X7_laysLine : CW yX7_laysLine cX7_laysLine 11 none 3 := ⟨q2559, q185, ⟨by decide, by decide⟩, by decide +kernel, by decide⟩
def pkX7_laysLine_151 (G : GT) (X : CX) (h0 : AH) (Q : State → Prop) (a0 : Nat) (x1 : Int32) (x2 : Int32) (x3 : Int32) (o : ((Int32 × Int32 × AH) ⊕ (AH))) : Prop := match o with
  | .inl s => ∀ lv : List (Nat × AV), lle lv [(0, vr (some a0)), (1, vi x1), (2, vi x2), (3, vi x3), (6, vi s.1), (7, vi s.2.1)] → V G X 11 h0 Q s.2.2 151 lv []
  | .inr z => Q = QM G X h0 none z
def pkX7_laysLine_49 (G : GT) (X : CX) (h0 : AH) (Q : State → Prop) (a0 : Nat) (x1 : Int32) (x2 : Int32) (x3 : Int32) (x4 : Int32) (x5 : Int32) (o : ((Int32 × AH) ⊕ (AH))) : Prop := match o with
  | .inl s => ∀ lv : List (Nat × AV), lle lv [(0, vr (some a0)), (1, vi x1), (2, vi x2), (3, vi x3), (4, vi x4), (5, vi x5), (6, vi s.1)] → V G X 11 h0 Q s.2 49 lv []
  | .inr z => Q = QM G X h0 none z
def pkX7_laysLine_58 (G : GT) (X : CX) (h0 : AH) (Q : State → Prop) (a0 : Nat) (x1 : Int32) (x2 : Int32) (x3 : Int32) (x4 : Int32) (x5 : Int32) (x6 : Int32) (o : ((Int32 × AH) ⊕ ((Int32 × AH) ⊕ (AH)))) : Prop := match o with
  | .inl s => ∀ lv : List (Nat × AV), lle lv [(0, vr (some a0)), (1, vi x1), (2, vi x2), (3, vi x3), (4, vi x4), (5, vi x5), (6, vi x6), (7, vi s.1)] → V G X 11 h0 Q s.2 58 lv []
  | .inr z => pkX7_laysLine_49 G X h0 Q a0 x1 x2 x3 x4 x5 z
theorem W_X7_laysLine_37 {G : GT} {X : CX} {d : Nat} {h0 : AH} {Q : State → Prop} (ok : Ok G X RX7 cX7_laysLine 11 d h0) (hr : (cxm X).sig.returnType = none) (hd : 9 ≤ d) {a0 : Nat} {h : AH} {z : (AH)} (hf : X7_laysLine_37 a0 h = some z) (hk : Q = QM G X h0 none z) {lv : List (Nat × AV)} (hl : lle lv [(0, vr (some a0))]) : V G X 11 h0 Q h 37 lv [] := by
  refine V.sub hl ?_
  unfold X7_laysLine_37 at hf
  refine v_aload_n ok 0 dX7_laysLine_37 rfl rfl ?_
  refine v_gR ok fl_X7_144 (by first | exact Or.inl ⟨_, rfl⟩ | exact Or.inr ⟨_, rfl⟩) dX7_laysLine_38 hf (fun v1 hf => ?_)
  refine v_iconst ok 0 dX7_laysLine_41 rfl ?_
  refine v_iconst ok (-1) dX7_laysLine_42 rfl ?_
  refine v_iast ok rfl dX7_laysLine_43 hf (fun h2 hf => ?_)
  exact v_vret ok hr (by cases hf; exact hk) dX7_laysLine_44
theorem W_X7_laysLine_77 {G : GT} {X : CX} {d : Nat} {h0 : AH} {Q : State → Prop} (ok : Ok G X RX7 cX7_laysLine 11 d h0) (hr : (cxm X).sig.returnType = none) (hd : 9 ≤ d) {a0 : Nat} {x1 : Int32} {x2 : Int32} {x3 : Int32} {x4 : Int32} {x5 : Int32} {x6 : Int32} {x7 : Int32} {h : AH} {z : ((Int32 × AH) ⊕ ((Int32 × AH) ⊕ (AH)))} (hf : X7_laysLine_77 a0 x1 x2 x3 x4 x5 x6 x7 h = some z) (hk : pkX7_laysLine_58 G X h0 Q a0 x1 x2 x3 x4 x5 x6 z) {lv : List (Nat × AV)} (hl : lle lv [(0, vr (some a0)), (1, vi x1), (2, vi x2), (3, vi x3), (4, vi x4), (5, vi x5), (6, vi x6), (7, vi x7)]) : V G X 11 h0 Q h 77 lv [] := by
  refine V.sub hl ?_
  unfold X7_laysLine_77 at hf
  refine v_aload_n ok 0 dX7_laysLine_77 rfl rfl ?_
  refine v_iload_n ok 1 dX7_laysLine_78 rfl rfl ?_
  refine v_iload_n ok 2 dX7_laysLine_79 rfl rfl ?_
  refine v_iload_n ok 3 dX7_laysLine_80 rfl rfl ?_
  refine v_iload ok dX7_laysLine_81 rfl ?_
  refine v_iload ok dX7_laysLine_83 rfl ?_
  refine v_cVv ok (RX7, TX7, 117) cf_7.1 [vi x1, vi x2, vi x3, vi x6, vi x7] (F := fun a => X7_linePuts a x1 x2 x3 x6 x7 h) (fun a h1 _ hv => M_X7_linePuts ok.2.2.2.2.2.2.1 (d := 8) (Nat.le_refl _) hv) (by exact Nat.le_trans (by decide) hd) cw_X7_linePuts q2560 q2562 qs147 dX7_laysLine_85 [] rfl (Nat.le_of_ble_eq_true rfl) hf (fun h3 hf => ?_)
  refine v_goto ok 133 dX7_laysLine_88 rfl ?_
  refine v_iinc ok x7 (x7 + (-1)) dX7_laysLine_133 rfl rfl (by decide) ?_
  refine v_goto ok 58 dX7_laysLine_136 rfl ?_
  cases hf; exact hk _ ⟨rfl, rfl, rfl, rfl, rfl, rfl, rfl, rfl, trivial⟩
theorem W_X7_laysLine_58b {G : GT} {X : CX} {d : Nat} {h0 : AH} {Q : State → Prop} (ok : Ok G X RX7 cX7_laysLine 11 d h0) (hr : (cxm X).sig.returnType = none) (hd : 9 ≤ d) {a0 : Nat} {x1 : Int32} {x2 : Int32} {x3 : Int32} {x4 : Int32} {x5 : Int32} {x6 : Int32} {x7 : Int32} {h : AH} {z : ((Int32 × AH) ⊕ ((Int32 × AH) ⊕ (AH)))} (hf : X7_laysLine_58b  a0 x1 x2 x3 x4 x5 x6 x7 h = some z) (hk : pkX7_laysLine_58 G X h0 Q a0 x1 x2 x3 x4 x5 x6 z) {lv : List (Nat × AV)} (hl : lle lv [(0, vr (some a0)), (1, vi x1), (2, vi x2), (3, vi x3), (4, vi x4), (5, vi x5), (6, vi x6), (7, vi x7)]) : V G X 11 h0 Q h 58 lv [] := by
  refine V.sub hl ?_
  unfold X7_laysLine_58b at hf
  refine v_iload ok dX7_laysLine_58 rfl ?_
  refine v_if_lt ok 139 dX7_laysLine_60 rfl hf (fun hf => ?_) (fun hf => ?_)
  ·
    refine v_iinc ok x6 (x6 + (-1)) dX7_laysLine_139 rfl rfl (by decide) ?_
    refine v_goto ok 49 dX7_laysLine_142 rfl ?_
    cases hf; exact hk _ ⟨rfl, rfl, rfl, rfl, rfl, rfl, rfl, trivial⟩
  ·
    refine v_iload ok dX7_laysLine_63 rfl ?_
    refine v_iload ok dX7_laysLine_65 rfl ?_
    refine v_icmp_lt ok 77 dX7_laysLine_67 rfl hf (fun hf => ?_) (fun hf => ?_)
    ·
      exact W_X7_laysLine_77 ok hr hd hf hk ⟨rfl, rfl, rfl, rfl, rfl, rfl, rfl, rfl, trivial⟩
    ·
      refine v_iload ok dX7_laysLine_70 rfl ?_
      refine v_iload ok dX7_laysLine_72 rfl ?_
      refine v_icmp_ge ok 91 dX7_laysLine_74 rfl hf (fun hf => ?_) (fun hf => ?_)
      ·
        refine v_aload_n ok 0 dX7_laysLine_91 rfl rfl ?_
        refine v_gR ok fl_X7_144 (by first | exact Or.inl ⟨_, rfl⟩ | exact Or.inr ⟨_, rfl⟩) dX7_laysLine_92 hf (fun v4 hf => ?_)
        refine v_bipush ok 7 dX7_laysLine_95 rfl ?_
        refine v_iload ok dX7_laysLine_97 rfl ?_
        refine v_imul ok dX7_laysLine_99 ?_
        refine v_iload ok dX7_laysLine_100 rfl ?_
        refine v_iadd ok dX7_laysLine_102 ?_
        refine v_iconst ok 0 dX7_laysLine_103 rfl ?_
        refine v_iast ok rfl dX7_laysLine_104 hf (fun h5 hf => ?_)
        refine v_aload_n ok 0 dX7_laysLine_105 rfl rfl ?_
        refine v_gR ok fl_X7_147 (by first | exact Or.inl ⟨_, rfl⟩ | exact Or.inr ⟨_, rfl⟩) dX7_laysLine_106 hf (fun v6 hf => ?_)
        refine v_bipush ok 7 dX7_laysLine_109 rfl ?_
        refine v_iload ok dX7_laysLine_111 rfl ?_
        refine v_imul ok dX7_laysLine_113 ?_
        refine v_iload ok dX7_laysLine_114 rfl ?_
        refine v_iadd ok dX7_laysLine_116 ?_
        refine v_iconst ok 0 dX7_laysLine_117 rfl ?_
        refine v_iast ok rfl dX7_laysLine_118 hf (fun h7 hf => ?_)
        refine v_aload_n ok 0 dX7_laysLine_119 rfl rfl ?_
        refine v_gR ok fl_X7_150 (by first | exact Or.inl ⟨_, rfl⟩ | exact Or.inr ⟨_, rfl⟩) dX7_laysLine_120 hf (fun v8 hf => ?_)
        refine v_bipush ok 7 dX7_laysLine_123 rfl ?_
        refine v_iload ok dX7_laysLine_125 rfl ?_
        refine v_imul ok dX7_laysLine_127 ?_
        refine v_iload ok dX7_laysLine_128 rfl ?_
        refine v_iadd ok dX7_laysLine_130 ?_
        refine v_iconst ok (-1) dX7_laysLine_131 rfl ?_
        refine v_iast ok rfl dX7_laysLine_132 hf (fun h9 hf => ?_)
        refine v_iinc ok x7 (x7 + (-1)) dX7_laysLine_133 rfl rfl (by decide) ?_
        refine v_goto ok 58 dX7_laysLine_136 rfl ?_
        cases hf; exact hk _ ⟨rfl, rfl, rfl, rfl, rfl, rfl, rfl, rfl, trivial⟩
      ·
        exact W_X7_laysLine_77 ok hr hd hf hk ⟨rfl, rfl, rfl, rfl, rfl, rfl, rfl, rfl, trivial⟩
theorem W_X7_laysLine_58 {G : GT} {X : CX} {d : Nat} {h0 : AH} {Q : State → Prop} (ok : Ok G X RX7 cX7_laysLine 11 d h0) (hr : (cxm X).sig.returnType = none) (hd : 9 ≤ d) {a0 : Nat} {x1 : Int32} {x2 : Int32} {x3 : Int32} {x4 : Int32} {x5 : Int32} {x6 : Int32} {x7 : Int32} {h : AH} {z : ((Int32 × AH) ⊕ (AH))} (hf : X7_laysLine_58  a0 x1 x2 x3 x4 x5 x6 x7 h = some z) (hk : pkX7_laysLine_49 G X h0 Q a0 x1 x2 x3 x4 x5 z) {lv : List (Nat × AV)} (hl : lle lv [(0, vr (some a0)), (1, vi x1), (2, vi x2), (3, vi x3), (4, vi x4), (5, vi x5), (6, vi x6), (7, vi x7)]) : V G X 11 h0 Q h 58 lv [] := by
  unfold X7_laysLine_58 at hf
  exact loopC_walk (Wh := fun s : Int32 × AH => ∀ lv : List (Nat × AV), lle lv [(0, vr (some a0)), (1, vi x1), (2, vi x2), (3, vi x3), (4, vi x4), (5, vi x5), (6, vi x6), (7, vi s.1)] → V G X 11 h0 Q s.2 58 lv []) (PK := fun z => pkX7_laysLine_49 G X h0 Q a0 x1 x2 x3 x4 x5 z) (fun s o hf hk lv hl => W_X7_laysLine_58b ok hr hd hf (by cases o <;> exact hk) hl) _ z hf hk lv hl
theorem W_X7_laysLine_297 {G : GT} {X : CX} {d : Nat} {h0 : AH} {Q : State → Prop} (ok : Ok G X RX7 cX7_laysLine 11 d h0) (hr : (cxm X).sig.returnType = none) (hd : 9 ≤ d) {a0 : Nat} {x1 : Int32} {x2 : Int32} {x3 : Int32} {x6 : Int32} {x7 : Int32} {x8 : Int32} {h : AH} {z : ((Int32 × Int32 × AH) ⊕ (AH))} (hf : X7_laysLine_297 a0 x1 x2 x3 x6 x7 x8 h = some z) (hk : pkX7_laysLine_151 G X h0 Q a0 x1 x2 x3 z) {lv : List (Nat × AV)} (hl : lle lv [(0, vr (some a0)), (1, vi x1), (2, vi x2), (3, vi x3), (6, vi x6), (7, vi x7), (8, vi x8)]) : V G X 11 h0 Q h 297 lv [] := by
  refine V.sub hl ?_
  unfold X7_laysLine_297 at hf
  refine v_iload ok dX7_laysLine_297 rfl ?_
  refine v_iconst ok 4 dX7_laysLine_299 rfl ?_
  refine v_icmp_eq ok 306 dX7_laysLine_300 rfl hf (fun hf => ?_) (fun hf => ?_)
  ·
    refine v_goto ok 151 dX7_laysLine_306 rfl ?_
    cases hf; exact hk _ ⟨rfl, rfl, rfl, rfl, rfl, rfl, trivial⟩
  ·
    refine v_iinc ok x7 (x7 + 1) dX7_laysLine_303 rfl rfl (by decide) ?_
    refine v_goto ok 151 dX7_laysLine_306 rfl ?_
    cases hf; exact hk _ ⟨rfl, rfl, rfl, rfl, rfl, rfl, trivial⟩
theorem W_X7_laysLine_274 {G : GT} {X : CX} {d : Nat} {h0 : AH} {Q : State → Prop} (ok : Ok G X RX7 cX7_laysLine 11 d h0) (hr : (cxm X).sig.returnType = none) (hd : 9 ≤ d) {a0 : Nat} {x1 : Int32} {x2 : Int32} {x3 : Int32} {x6 : Int32} {x7 : Int32} {x8 : Int32} {s0 : Option Nat} {s1 : Int32} {s2 : Int32} {s3 : Int32} {s4 : Int32} {h : AH} {z : ((Int32 × Int32 × AH) ⊕ (AH))} (hf : X7_laysLine_274 a0 x1 x2 x3 x6 x7 x8 s0 s1 s2 s3 s4 h = some z) (hk : pkX7_laysLine_151 G X h0 Q a0 x1 x2 x3 z) {lv : List (Nat × AV)} (hl : lle lv [(0, vr (some a0)), (1, vi x1), (2, vi x2), (3, vi x3), (6, vi x6), (7, vi x7), (8, vi x8)]) : V G X 11 h0 Q h 274 lv [vi s4, vi s3, vi s2, vi s1, vr s0] := by
  refine V.sub hl ?_
  unfold X7_laysLine_274 at hf
  refine v_cSi ok [vi s2, vi s3, vi s4] (F := X7_glyphBy s2 s3 s4 h) (fun v h1 hv => M_X7_glyphBy ok.2.2.2.2.2.2.1 (d := 1) (Nat.le_refl _) hv) (by exact Nat.le_trans (by decide) hd) cw_X7_glyphBy q2572 q2573 dX7_laysLine_274 [vi s1, vr s0] rfl (Nat.le_of_ble_eq_true rfl) hf (fun v10 h11 hf => ?_)
  refine v_iast ok rfl dX7_laysLine_277 hf (fun h12 hf => ?_)
  refine v_aload_n ok 0 dX7_laysLine_278 rfl rfl ?_
  refine v_dup ok dX7_laysLine_279 rfl ?_
  refine v_gI ok fl_X7_577 (fun _ _ _ => rfl) dX7_laysLine_280 hf (fun v13 hf => ?_)
  refine v_iconst ok 1 dX7_laysLine_283 rfl ?_
  refine v_iadd ok dX7_laysLine_284 ?_
  refine v_pI ok fl_X7_577 ⟨fun _ _ _ => rfl, rfl⟩ (FN.of cf_7.1 rfl) dX7_laysLine_285 hf (fun h14 hf => ?_)
  refine v_iload ok dX7_laysLine_288 rfl ?_
  refine v_iconst ok 5 dX7_laysLine_290 rfl ?_
  refine v_icmp_eq ok 297 dX7_laysLine_291 rfl hf (fun hf => ?_) (fun hf => ?_)
  ·
    exact W_X7_laysLine_297 ok hr hd hf hk ⟨rfl, rfl, rfl, rfl, rfl, rfl, rfl, trivial⟩
  ·
    refine v_iinc ok x6 (x6 + 1) dX7_laysLine_294 rfl rfl (by decide) ?_
    exact W_X7_laysLine_297 ok hr hd hf hk ⟨rfl, rfl, rfl, rfl, rfl, rfl, rfl, trivial⟩
theorem W_X7_laysLine_253 {G : GT} {X : CX} {d : Nat} {h0 : AH} {Q : State → Prop} (ok : Ok G X RX7 cX7_laysLine 11 d h0) (hr : (cxm X).sig.returnType = none) (hd : 9 ≤ d) {a0 : Nat} {x1 : Int32} {x2 : Int32} {x3 : Int32} {x6 : Int32} {x7 : Int32} {x8 : Int32} {x10 : Int32} {s0 : Option Nat} {s1 : Int32} {s2 : Int32} {s3 : Int32} {h : AH} {z : ((Int32 × Int32 × AH) ⊕ (AH))} (hf : X7_laysLine_253 a0 x1 x2 x3 x6 x7 x8 x10 s0 s1 s2 s3 h = some z) (hk : pkX7_laysLine_151 G X h0 Q a0 x1 x2 x3 z) {lv : List (Nat × AV)} (hl : lle lv [(0, vr (some a0)), (1, vi x1), (2, vi x2), (3, vi x3), (6, vi x6), (7, vi x7), (8, vi x8), (10, vi x10)]) : V G X 11 h0 Q h 253 lv [vi s3, vi s2, vi s1, vr s0] := by
  refine V.sub hl ?_
  unfold X7_laysLine_253 at hf
  refine v_iload ok dX7_laysLine_253 rfl ?_
  refine v_iconst ok (-1) dX7_laysLine_255 rfl ?_
  refine v_icmp_ne ok 263 dX7_laysLine_256 rfl hf (fun hf => ?_) (fun hf => ?_)
  ·
    refine v_aload_n ok 0 dX7_laysLine_263 rfl rfl ?_
    refine v_iload_n ok 3 dX7_laysLine_264 rfl rfl ?_
    refine v_iload ok dX7_laysLine_265 rfl ?_
    refine v_cVi ok (RX7, TX7, 117) cf_7.1 [vi x3, vi x10] (F := fun a => X7_glyphOf a x3 x10 h) (fun a v h1 _ hv => M_X7_glyphOf ok.2.2.2.2.2.2.1 (d := 1) (Nat.le_refl _) hv) (by exact Nat.le_trans (by decide) hd) cw_X7_glyphOf q2353 q2355 qs113 dX7_laysLine_267 [vi s3, vi s2, vi s1, vr s0] rfl (Nat.le_of_ble_eq_true rfl) hf (fun v15 h16 hf => ?_)
    refine v_iconst ok 1 dX7_laysLine_270 rfl ?_
    refine v_cSi ok [vi v15, vi 1] (F := X7_seenBy v15 1 h16) (fun v h1 hv => M_X7_seenBy ok.2.2.2.2.2.2.1 (d := 1) (Nat.le_refl _) hv) (by exact Nat.le_trans (by decide) hd) cw_X7_seenBy q2444 q2445 dX7_laysLine_271 [vi s3, vi s2, vi s1, vr s0] rfl (Nat.le_of_ble_eq_true rfl) hf (fun v17 h18 hf => ?_)
    exact W_X7_laysLine_274 ok hr hd hf hk ⟨rfl, rfl, rfl, rfl, rfl, rfl, rfl, trivial⟩
  ·
    refine v_iconst ok 0 dX7_laysLine_259 rfl ?_
    refine v_goto ok 274 dX7_laysLine_260 rfl ?_
    exact W_X7_laysLine_274 ok hr hd hf hk ⟨rfl, rfl, rfl, rfl, rfl, rfl, rfl, trivial⟩
theorem W_X7_laysLine_225 {G : GT} {X : CX} {d : Nat} {h0 : AH} {Q : State → Prop} (ok : Ok G X RX7 cX7_laysLine 11 d h0) (hr : (cxm X).sig.returnType = none) (hd : 9 ≤ d) {a0 : Nat} {x1 : Int32} {x2 : Int32} {x3 : Int32} {x6 : Int32} {x7 : Int32} {x8 : Int32} {x9 : Int32} {x10 : Int32} {s0 : Option Nat} {s1 : Int32} {s2 : Int32} {h : AH} {z : ((Int32 × Int32 × AH) ⊕ (AH))} (hf : X7_laysLine_225 a0 x1 x2 x3 x6 x7 x8 x9 x10 s0 s1 s2 h = some z) (hk : pkX7_laysLine_151 G X h0 Q a0 x1 x2 x3 z) {lv : List (Nat × AV)} (hl : lle lv [(0, vr (some a0)), (1, vi x1), (2, vi x2), (3, vi x3), (6, vi x6), (7, vi x7), (8, vi x8), (9, vi x9), (10, vi x10)]) : V G X 11 h0 Q h 225 lv [vi s2, vi s1, vr s0] := by
  refine V.sub hl ?_
  unfold X7_laysLine_225 at hf
  refine v_iast ok rfl dX7_laysLine_225 hf (fun h19 hf => ?_)
  refine v_aload_n ok 0 dX7_laysLine_226 rfl rfl ?_
  refine v_gR ok fl_X7_159 (by first | exact Or.inl ⟨_, rfl⟩ | exact Or.inr ⟨_, rfl⟩) dX7_laysLine_227 hf (fun v20 hf => ?_)
  refine v_aload_n ok 0 dX7_laysLine_230 rfl rfl ?_
  refine v_gI ok fl_X7_577 (fun _ _ _ => rfl) dX7_laysLine_231 hf (fun v21 hf => ?_)
  refine v_iload ok dX7_laysLine_234 rfl ?_
  refine v_iload ok dX7_laysLine_236 rfl ?_
  refine v_iconst ok (-1) dX7_laysLine_238 rfl ?_
  refine v_icmp_ne ok 246 dX7_laysLine_239 rfl hf (fun hf => ?_) (fun hf => ?_)
  ·
    refine v_aload_n ok 0 dX7_laysLine_246 rfl rfl ?_
    refine v_iload_n ok 3 dX7_laysLine_247 rfl rfl ?_
    refine v_iload ok dX7_laysLine_248 rfl ?_
    refine v_cVi ok (RX7, TX7, 117) cf_7.1 [vi x3, vi x9] (F := fun a => X7_glyphOf a x3 x9 h19) (fun a v h1 _ hv => M_X7_glyphOf ok.2.2.2.2.2.2.1 (d := 1) (Nat.le_refl _) hv) (by exact Nat.le_trans (by decide) hd) cw_X7_glyphOf q2353 q2355 qs113 dX7_laysLine_250 [vi x8, vi v21, vr v20] rfl (Nat.le_of_ble_eq_true rfl) hf (fun v22 h23 hf => ?_)
    exact W_X7_laysLine_253 ok hr hd hf hk ⟨rfl, rfl, rfl, rfl, rfl, rfl, rfl, rfl, trivial⟩
  ·
    refine v_iconst ok 0 dX7_laysLine_242 rfl ?_
    refine v_goto ok 253 dX7_laysLine_243 rfl ?_
    exact W_X7_laysLine_253 ok hr hd hf hk ⟨rfl, rfl, rfl, rfl, rfl, rfl, rfl, rfl, trivial⟩
theorem W_X7_laysLine_151b {G : GT} {X : CX} {d : Nat} {h0 : AH} {Q : State → Prop} (ok : Ok G X RX7 cX7_laysLine 11 d h0) (hr : (cxm X).sig.returnType = none) (hd : 9 ≤ d) {a0 : Nat} {x1 : Int32} {x2 : Int32} {x3 : Int32} {x6 : Int32} {x7 : Int32} {h : AH} {z : ((Int32 × Int32 × AH) ⊕ (AH))} (hf : X7_laysLine_151b  a0 x1 x2 x3 x6 x7 h = some z) (hk : pkX7_laysLine_151 G X h0 Q a0 x1 x2 x3 z) {lv : List (Nat × AV)} (hl : lle lv [(0, vr (some a0)), (1, vi x1), (2, vi x2), (3, vi x3), (6, vi x6), (7, vi x7)]) : V G X 11 h0 Q h 151 lv [] := by
  refine V.sub hl ?_
  unfold X7_laysLine_151b at hf
  refine v_aload_n ok 0 dX7_laysLine_151 rfl rfl ?_
  refine v_gR ok fl_X7_150 (by first | exact Or.inl ⟨_, rfl⟩ | exact Or.inr ⟨_, rfl⟩) dX7_laysLine_152 hf (fun v24 hf => ?_)
  refine v_bipush ok 7 dX7_laysLine_155 rfl ?_
  refine v_iload ok dX7_laysLine_157 rfl ?_
  refine v_imul ok dX7_laysLine_159 ?_
  refine v_iload ok dX7_laysLine_160 rfl ?_
  refine v_iadd ok dX7_laysLine_162 ?_
  refine v_iald ok rfl dX7_laysLine_163 hf (fun v25 hf => ?_)
  refine v_iconst ok (-1) dX7_laysLine_164 rfl ?_
  refine v_icmp_eq ok 309 dX7_laysLine_165 rfl hf (fun hf => ?_) (fun hf => ?_)
  ·
    exact v_vret ok hr (by cases hf; exact hk) dX7_laysLine_309
  ·
    refine v_aload_n ok 0 dX7_laysLine_168 rfl rfl ?_
    refine v_gR ok fl_X7_150 (by first | exact Or.inl ⟨_, rfl⟩ | exact Or.inr ⟨_, rfl⟩) dX7_laysLine_169 hf (fun v26 hf => ?_)
    refine v_bipush ok 7 dX7_laysLine_172 rfl ?_
    refine v_iload ok dX7_laysLine_174 rfl ?_
    refine v_imul ok dX7_laysLine_176 ?_
    refine v_iload ok dX7_laysLine_177 rfl ?_
    refine v_iadd ok dX7_laysLine_179 ?_
    refine v_iald ok rfl dX7_laysLine_180 hf (fun v27 hf => ?_)
    refine v_istore ok dX7_laysLine_181 (by decide) ?_
    refine v_aload_n ok 0 dX7_laysLine_183 rfl rfl ?_
    refine v_iload_n ok 1 dX7_laysLine_184 rfl rfl ?_
    refine v_iload_n ok 3 dX7_laysLine_185 rfl rfl ?_
    refine v_iload ok dX7_laysLine_186 rfl ?_
    refine v_cVi ok (RX7, TX7, 117) cf_7.1 [vi x1, vi x3, vi x6] (F := fun a => X7_oneAt a x1 x3 x6 h) (fun a v h1 _ hv => M_X7_oneAt ok.2.2.2.2.2.2.1 (d := 3) (Nat.le_refl _) hv) (by exact Nat.le_trans (by decide) hd) cw_X7_oneAt q2564 q2566 qs148 dX7_laysLine_188 [] rfl (Nat.le_of_ble_eq_true rfl) hf (fun v28 h29 hf => ?_)
    refine v_istore ok dX7_laysLine_191 (by decide) ?_
    refine v_aload_n ok 0 dX7_laysLine_193 rfl rfl ?_
    refine v_iload_n ok 2 dX7_laysLine_194 rfl rfl ?_
    refine v_iload_n ok 3 dX7_laysLine_195 rfl rfl ?_
    refine v_iload ok dX7_laysLine_196 rfl ?_
    refine v_cVi ok (RX7, TX7, 117) cf_7.1 [vi x2, vi x3, vi x7] (F := fun a => X7_otherAt a x2 x3 x7 h29) (fun a v h1 _ hv => M_X7_otherAt ok.2.2.2.2.2.2.1 (d := 3) (Nat.le_refl _) hv) (by exact Nat.le_trans (by decide) hd) cw_X7_otherAt q2568 q2570 qs149 dX7_laysLine_198 [] rfl (Nat.le_of_ble_eq_true rfl) hf (fun v30 h31 hf => ?_)
    refine v_istore ok dX7_laysLine_201 (by decide) ?_
    refine v_aload_n ok 0 dX7_laysLine_203 rfl rfl ?_
    refine v_gR ok fl_X7_156 (by first | exact Or.inl ⟨_, rfl⟩ | exact Or.inr ⟨_, rfl⟩) dX7_laysLine_204 hf (fun v32 hf => ?_)
    refine v_aload_n ok 0 dX7_laysLine_207 rfl rfl ?_
    refine v_gI ok fl_X7_577 (fun _ _ _ => rfl) dX7_laysLine_208 hf (fun v33 hf => ?_)
    refine v_iload ok dX7_laysLine_211 rfl ?_
    refine v_iconst ok 4 dX7_laysLine_213 rfl ?_
    refine v_icmp_ge ok 221 dX7_laysLine_214 rfl hf (fun hf => ?_) (fun hf => ?_)
    ·
      refine v_iload ok dX7_laysLine_221 rfl ?_
      refine v_iconst ok 3 dX7_laysLine_223 rfl ?_
      refine v_isub ok dX7_laysLine_224 ?_
      exact W_X7_laysLine_225 ok hr hd hf hk ⟨rfl, rfl, rfl, rfl, rfl, rfl, rfl, rfl, rfl, trivial⟩
    ·
      refine v_iconst ok 0 dX7_laysLine_217 rfl ?_
      refine v_goto ok 225 dX7_laysLine_218 rfl ?_
      exact W_X7_laysLine_225 ok hr hd hf hk ⟨rfl, rfl, rfl, rfl, rfl, rfl, rfl, rfl, rfl, trivial⟩
theorem W_X7_laysLine_151 {G : GT} {X : CX} {d : Nat} {h0 : AH} {Q : State → Prop} (ok : Ok G X RX7 cX7_laysLine 11 d h0) (hr : (cxm X).sig.returnType = none) (hd : 9 ≤ d) {a0 : Nat} {x1 : Int32} {x2 : Int32} {x3 : Int32} {x6 : Int32} {x7 : Int32} {h : AH} {z : (AH)} (hf : X7_laysLine_151  a0 x1 x2 x3 x6 x7 h = some z) (hk : Q = QM G X h0 none z) {lv : List (Nat × AV)} (hl : lle lv [(0, vr (some a0)), (1, vi x1), (2, vi x2), (3, vi x3), (6, vi x6), (7, vi x7)]) : V G X 11 h0 Q h 151 lv [] := by
  unfold X7_laysLine_151 at hf
  exact loopC_walk (Wh := fun s : Int32 × Int32 × AH => ∀ lv : List (Nat × AV), lle lv [(0, vr (some a0)), (1, vi x1), (2, vi x2), (3, vi x3), (6, vi s.1), (7, vi s.2.1)] → V G X 11 h0 Q s.2.2 151 lv []) (PK := fun z => Q = QM G X h0 none z) (fun s o hf hk lv hl => W_X7_laysLine_151b ok hr hd hf (by cases o <;> exact hk) hl) _ z hf hk lv hl
theorem W_X7_laysLine_49b {G : GT} {X : CX} {d : Nat} {h0 : AH} {Q : State → Prop} (ok : Ok G X RX7 cX7_laysLine 11 d h0) (hr : (cxm X).sig.returnType = none) (hd : 9 ≤ d) {a0 : Nat} {x1 : Int32} {x2 : Int32} {x3 : Int32} {x4 : Int32} {x5 : Int32} {x6 : Int32} {h : AH} {z : ((Int32 × AH) ⊕ (AH))} (hf : X7_laysLine_49b  a0 x1 x2 x3 x4 x5 x6 h = some z) (hk : pkX7_laysLine_49 G X h0 Q a0 x1 x2 x3 x4 x5 z) {lv : List (Nat × AV)} (hl : lle lv [(0, vr (some a0)), (1, vi x1), (2, vi x2), (3, vi x3), (4, vi x4), (5, vi x5), (6, vi x6)]) : V G X 11 h0 Q h 49 lv [] := by
  refine V.sub hl ?_
  unfold X7_laysLine_49b at hf
  refine v_iload ok dX7_laysLine_49 rfl ?_
  refine v_if_lt ok 145 dX7_laysLine_51 rfl hf (fun hf => ?_) (fun hf => ?_)
  ·
    refine v_iconst ok 0 dX7_laysLine_145 rfl ?_
    refine v_istore ok dX7_laysLine_146 (by decide) ?_
    refine v_iconst ok 0 dX7_laysLine_148 rfl ?_
    refine v_istore ok dX7_laysLine_149 (by decide) ?_
    obtain ⟨o, ho, hz⟩ := ob hf
    cases hz; exact W_X7_laysLine_151 ok hr hd ho hk ⟨rfl, rfl, rfl, rfl, rfl, rfl, trivial⟩
  ·
    refine v_iload ok dX7_laysLine_54 rfl ?_
    refine v_istore ok dX7_laysLine_56 (by decide) ?_
    exact W_X7_laysLine_58 ok hr hd hf hk ⟨rfl, rfl, rfl, rfl, rfl, rfl, rfl, rfl, trivial⟩
theorem W_X7_laysLine_49 {G : GT} {X : CX} {d : Nat} {h0 : AH} {Q : State → Prop} (ok : Ok G X RX7 cX7_laysLine 11 d h0) (hr : (cxm X).sig.returnType = none) (hd : 9 ≤ d) {a0 : Nat} {x1 : Int32} {x2 : Int32} {x3 : Int32} {x4 : Int32} {x5 : Int32} {x6 : Int32} {h : AH} {z : (AH)} (hf : X7_laysLine_49  a0 x1 x2 x3 x4 x5 x6 h = some z) (hk : Q = QM G X h0 none z) {lv : List (Nat × AV)} (hl : lle lv [(0, vr (some a0)), (1, vi x1), (2, vi x2), (3, vi x3), (4, vi x4), (5, vi x5), (6, vi x6)]) : V G X 11 h0 Q h 49 lv [] := by
  unfold X7_laysLine_49 at hf
  exact loopC_walk (Wh := fun s : Int32 × AH => ∀ lv : List (Nat × AV), lle lv [(0, vr (some a0)), (1, vi x1), (2, vi x2), (3, vi x3), (4, vi x4), (5, vi x5), (6, vi s.1)] → V G X 11 h0 Q s.2 49 lv []) (PK := fun z => Q = QM G X h0 none z) (fun s o hf hk lv hl => W_X7_laysLine_49b ok hr hd hf (by cases o <;> exact hk) hl) _ z hf hk lv hl
theorem W_X7_laysLine {G : GT} {X : CX} {d : Nat} {h0 : AH} {Q : State → Prop} (ok : Ok G X RX7 cX7_laysLine 11 d h0) (hr : (cxm X).sig.returnType = none) (hd : 9 ≤ d) {a0 : Nat} {x1 : Int32} {x2 : Int32} {x3 : Int32} {h : AH} {z : (AH)} (hf : X7_laysLine a0 x1 x2 x3 h = some z) (hk : Q = QM G X h0 none z) {lv : List (Nat × AV)} (hl : lle lv [(0, vr (some a0)), (1, vi x1), (2, vi x2), (3, vi x3)]) : V G X 11 h0 Q h 0 lv [] := by
  refine V.sub hl ?_
  unfold X7_laysLine at hf
  refine v_aload_n ok 0 dX7_laysLine_0 rfl rfl ?_
  refine v_iload_n ok 1 dX7_laysLine_1 rfl rfl ?_
  refine v_cVi ok (RX7, TX7, 117) cf_7.1 [vi x1] (F := fun a => X7_longOf a x1 h) (fun a v h1 _ hv => M_X7_longOf ok.2.2.2.2.2.2.1 (d := 1) (Nat.le_refl _) hv) (by exact Nat.le_trans (by decide) hd) cw_X7_longOf q2337 q2339 qs109 dX7_laysLine_2 [] rfl (Nat.le_of_ble_eq_true rfl) hf (fun v34 h35 hf => ?_)
  refine v_istore ok dX7_laysLine_5 (by decide) ?_
  refine v_aload_n ok 0 dX7_laysLine_7 rfl rfl ?_
  refine v_iload_n ok 2 dX7_laysLine_8 rfl rfl ?_
  refine v_cVi ok (RX7, TX7, 117) cf_7.1 [vi x2] (F := fun a => X7_longOf a x2 h35) (fun a v h1 _ hv => M_X7_longOf ok.2.2.2.2.2.2.1 (d := 1) (Nat.le_refl _) hv) (by exact Nat.le_trans (by decide) hd) cw_X7_longOf q2337 q2339 qs109 dX7_laysLine_9 [] rfl (Nat.le_of_ble_eq_true rfl) hf (fun v36 h37 hf => ?_)
  refine v_istore ok dX7_laysLine_12 (by decide) ?_
  refine v_aload_n ok 0 dX7_laysLine_14 rfl rfl ?_
  refine v_iconst ok 0 dX7_laysLine_15 rfl ?_
  refine v_pI ok fl_X7_577 ⟨fun _ _ _ => rfl, rfl⟩ (FN.of cf_7.1 rfl) dX7_laysLine_16 hf (fun h38 hf => ?_)
  refine v_aload_n ok 0 dX7_laysLine_19 rfl rfl ?_
  refine v_iload_n ok 1 dX7_laysLine_20 rfl rfl ?_
  refine v_iload_n ok 3 dX7_laysLine_21 rfl rfl ?_
  refine v_cVi ok (RX7, TX7, 117) cf_7.1 [vi x1, vi x3] (F := fun a => X7_canPaint a x1 x3 h38) (fun a v h1 _ hv => M_X7_canPaint ok.2.2.2.2.2.2.1 (d := 3) (Nat.le_refl _) hv) (by exact Nat.le_trans (by decide) hd) cw_X7_canPaint q2540 q2542 qs143 dX7_laysLine_22 [] rfl (Nat.le_of_ble_eq_true rfl) hf (fun v39 h40 hf => ?_)
  refine v_if_eq ok 37 dX7_laysLine_25 rfl hf (fun hf => ?_) (fun hf => ?_)
  ·
    exact W_X7_laysLine_37 ok hr hd hf hk ⟨rfl, trivial⟩
  ·
    refine v_aload_n ok 0 dX7_laysLine_28 rfl rfl ?_
    refine v_iload_n ok 2 dX7_laysLine_29 rfl rfl ?_
    refine v_iload_n ok 3 dX7_laysLine_30 rfl rfl ?_
    refine v_cVi ok (RX7, TX7, 117) cf_7.1 [vi x2, vi x3] (F := fun a => X7_canPaint a x2 x3 h40) (fun a v h1 _ hv => M_X7_canPaint ok.2.2.2.2.2.2.1 (d := 3) (Nat.le_refl _) hv) (by exact Nat.le_trans (by decide) hd) cw_X7_canPaint q2540 q2542 qs143 dX7_laysLine_31 [] rfl (Nat.le_of_ble_eq_true rfl) hf (fun v41 h42 hf => ?_)
    refine v_if_ne ok 45 dX7_laysLine_34 rfl hf (fun hf => ?_) (fun hf => ?_)
    ·
      refine v_iload ok dX7_laysLine_45 rfl ?_
      refine v_istore ok dX7_laysLine_47 (by decide) ?_
      exact W_X7_laysLine_49 ok hr hd hf hk ⟨rfl, rfl, rfl, rfl, rfl, rfl, rfl, trivial⟩
    ·
      exact W_X7_laysLine_37 ok hr hd hf hk ⟨rfl, trivial⟩
theorem M_X7_laysLine {G : GT} {l : Launch} (hG : Glob G) {d : Nat} (hd : 9 ≤ d) {a0 : Nat} {x1 : Int32} {x2 : Int32} {x3 : Int32} {h : AH} {h' : AH} (hf : X7_laysLine a0 x1 x2 x3 h = some h') : MM G l yX7_laysLine cX7_laysLine 11 none d [vr (some a0), vi x1, vi x2, vi x3] h none h' := by
  refine mm_of hG (plainFor_of_name (by decide)) (Nat.le_of_ble_eq_true rfl) (fun X hX ok hr hnm => ?_)
  subst hX
  exact W_X7_laysLine ok hr hd hf rfl ⟨rfl, rfl, rfl, rfl, trivial⟩
theorem cw_X7_line : CW yX7_line cX7_line 5 (Option.some Jvm.ClassFile.FieldType.int) 4 := ⟨q2551, q185, ⟨by decide, by decide⟩, by decide +kernel, by decide⟩
theorem W_X7_line {G : GT} {X : CX} {d : Nat} {h0 : AH} {Q : State → Prop} (ok : Ok G X RX7 cX7_line 5 d h0) (hr : (cxm X).sig.returnType = (Option.some Jvm.ClassFile.FieldType.int)) (hd : 10 ≤ d) {a0 : Nat} {x1 : Int32} {x2 : Int32} {x3 : Int32} {x4 : Int32} {h : AH} {z : (Int32 × AH)} (hf : X7_line a0 x1 x2 x3 x4 h = some z) (hk : Q = QM G X h0 (some (vi z.1)) z.2) {lv : List (Nat × AV)} (hl : lle lv [(0, vr (some a0)), (1, vi x1), (2, vi x2), (3, vi x3), (4, vi x4)]) : V G X 5 h0 Q h 0 lv [] := by
  refine V.sub hl ?_
  unfold X7_line at hf
  refine v_aload_n ok 0 dX7_line_0 rfl rfl ?_
  refine v_iload_n ok 1 dX7_line_1 rfl rfl ?_
  refine v_iload_n ok 2 dX7_line_2 rfl rfl ?_
  refine v_cVi ok (RX7, TX7, 117) cf_7.1 [vi x1, vi x2] (F := fun a => X7_areWords a x1 x2 h) (fun a v h1 _ hv => M_X7_areWords ok.2.2.2.2.2.2.1 (d := 3) (Nat.le_refl _) hv) (by exact Nat.le_trans (by decide) hd) cw_X7_areWords q2552 q2554 qs145 dX7_line_3 [] rfl (Nat.le_of_ble_eq_true rfl) hf (fun v1 h2 hf => ?_)
  refine v_if_eq ok 30 dX7_line_6 rfl hf (fun hf => ?_) (fun hf => ?_)
  ·
    refine v_iconst ok (-1) dX7_line_30 rfl ?_
    exact v_iret ok hr (by cases hf; exact hk) dX7_line_31
  ·
    refine v_aload_n ok 0 dX7_line_9 rfl rfl ?_
    refine v_iload_n ok 3 dX7_line_10 rfl rfl ?_
    refine v_cVi ok (RX7, TX7, 117) cf_7.1 [vi x3] (F := fun a => X7_isHand a x3 h2) (fun a v h1 _ hv => M_X7_isHand ok.2.2.2.2.2.2.1 (d := 2) (Nat.le_refl _) hv) (by exact Nat.le_trans (by decide) hd) cw_X7_isHand q2392 q2394 qs119 dX7_line_11 [] rfl (Nat.le_of_ble_eq_true rfl) hf (fun v3 h4 hf => ?_)
    refine v_if_eq ok 30 dX7_line_14 rfl hf (fun hf => ?_) (fun hf => ?_)
    ·
      refine v_iconst ok (-1) dX7_line_30 rfl ?_
      exact v_iret ok hr (by cases hf; exact hk) dX7_line_31
    ·
      refine v_iload ok dX7_line_17 rfl ?_
      refine v_i2l ok dX7_line_19 ?_
      refine v_lconst ok 0 dX7_line_20 rfl ?_
      refine v_ldc2 ok q2433 dX7_line_21 ?_
      refine v_cSi ok [vl (Int32.toInt64 x4), vl 0, vl 2] (F := X7_isIn (Int32.toInt64 x4) 0 2 h4) (fun v h1 hv => M_X7_isIn ok.2.2.2.2.2.2.1 (d := 1) (Nat.le_refl _) hv) (by exact Nat.le_trans (by decide) hd) cw_X7_isIn q2215 q2216 dX7_line_24 [] rfl (Nat.le_of_ble_eq_true rfl) hf (fun v5 h6 hf => ?_)
      refine v_if_ne ok 32 dX7_line_27 rfl hf (fun hf => ?_) (fun hf => ?_)
      ·
        refine v_aload_n ok 0 dX7_line_32 rfl rfl ?_
        refine v_iload_n ok 1 dX7_line_33 rfl rfl ?_
        refine v_iload_n ok 2 dX7_line_34 rfl rfl ?_
        refine v_iload_n ok 3 dX7_line_35 rfl rfl ?_
        refine v_cVv ok (RX7, TX7, 117) cf_7.1 [vi x1, vi x2, vi x3] (F := fun a => X7_laysLine a x1 x2 x3 h6) (fun a h1 _ hv => M_X7_laysLine ok.2.2.2.2.2.2.1 (d := 9) (Nat.le_refl _) hv) (by exact Nat.le_trans (by decide) hd) cw_X7_laysLine q2556 q2558 qs146 dX7_line_36 [] rfl (Nat.le_of_ble_eq_true rfl) hf (fun h7 hf => ?_)
        refine v_aload_n ok 0 dX7_line_39 rfl rfl ?_
        refine v_gR ok fl_X7_144 (by first | exact Or.inl ⟨_, rfl⟩ | exact Or.inr ⟨_, rfl⟩) dX7_line_40 hf (fun v8 hf => ?_)
        refine v_iconst ok 0 dX7_line_43 rfl ?_
        refine v_iald ok rfl dX7_line_44 hf (fun v9 hf => ?_)
        refine v_iconst ok (-1) dX7_line_45 rfl ?_
        refine v_icmp_ne ok 51 dX7_line_46 rfl hf (fun hf => ?_) (fun hf => ?_)
        ·
          refine v_iload ok dX7_line_51 rfl ?_
          refine v_if_ne ok 65 dX7_line_53 rfl hf (fun hf => ?_) (fun hf => ?_)
          ·
            refine v_iload ok dX7_line_65 rfl ?_
            refine v_iconst ok 1 dX7_line_67 rfl ?_
            refine v_icmp_ne ok 80 dX7_line_68 rfl hf (fun hf => ?_) (fun hf => ?_)
            ·
              refine v_aload_n ok 0 dX7_line_80 rfl rfl ?_
              refine v_gI ok fl_X7_577 (fun _ _ _ => rfl) dX7_line_81 hf (fun v10 hf => ?_)
              exact v_iret ok hr (by cases hf; exact hk) dX7_line_84
            ·
              refine v_aload_n ok 0 dX7_line_71 rfl rfl ?_
              refine v_gR ok fl_X7_147 (by first | exact Or.inl ⟨_, rfl⟩ | exact Or.inr ⟨_, rfl⟩) dX7_line_72 hf (fun v11 hf => ?_)
              refine v_iconst ok 0 dX7_line_75 rfl ?_
              refine v_iald ok rfl dX7_line_76 hf (fun v12 hf => ?_)
              refine v_goto ok 84 dX7_line_77 rfl ?_
              exact v_iret ok hr (by cases hf; exact hk) dX7_line_84
          ·
            refine v_aload_n ok 0 dX7_line_56 rfl rfl ?_
            refine v_gR ok fl_X7_144 (by first | exact Or.inl ⟨_, rfl⟩ | exact Or.inr ⟨_, rfl⟩) dX7_line_57 hf (fun v13 hf => ?_)
            refine v_iconst ok 0 dX7_line_60 rfl ?_
            refine v_iald ok rfl dX7_line_61 hf (fun v14 hf => ?_)
            refine v_goto ok 84 dX7_line_62 rfl ?_
            exact v_iret ok hr (by cases hf; exact hk) dX7_line_84
        ·
          refine v_iconst ok (-1) dX7_line_49 rfl ?_
          exact v_iret ok hr (by cases hf; exact hk) dX7_line_50
      ·
        refine v_iconst ok (-1) dX7_line_30 rfl ?_
        exact v_iret ok hr (by cases hf; exact hk) dX7_line_31
theorem M_X7_line {G : GT} {l : Launch} (hG : Glob G) {d : Nat} (hd : 10 ≤ d) {a0 : Nat} {x1 : Int32} {x2 : Int32} {x3 : Int32} {x4 : Int32} {h : AH} {v : Int32} {h' : AH} (hf : X7_line a0 x1 x2 x3 x4 h = some (v, h')) : MM G l yX7_line cX7_line 5 (Option.some Jvm.ClassFile.FieldType.int) d [vr (some a0), vi x1, vi x2, vi x3, vi x4] h (some (vi v)) h' := by
  refine mm_of hG (plainFor_of_name (by decide)) (Nat.le_of_ble_eq_true rfl) (fun X hX ok hr hnm => ?_)
  subst hX
  exact W_X7_line ok hr hd hf rfl ⟨rfl, rfl, rfl, rfl, rfl, trivial⟩
theorem cw_X7_piece : CW yX7_piece cX7_piece 6 (Option.some Jvm.ClassFile.FieldType.int) 5 := ⟨q2582, q185, ⟨by decide, by decide⟩, by decide +kernel, by decide⟩
theorem W_X7_piece {G : GT} {X : CX} {d : Nat} {h0 : AH} {Q : State → Prop} (ok : Ok G X RX7 cX7_piece 6 d h0) (hr : (cxm X).sig.returnType = (Option.some Jvm.ClassFile.FieldType.int)) (hd : 10 ≤ d) {a0 : Nat} {x1 : Int32} {x2 : Int32} {x3 : Int32} {x4 : Int32} {x5 : Int32} {h : AH} {z : (Int32 × AH)} (hf : X7_piece a0 x1 x2 x3 x4 x5 h = some z) (hk : Q = QM G X h0 (some (vi z.1)) z.2) {lv : List (Nat × AV)} (hl : lle lv [(0, vr (some a0)), (1, vi x1), (2, vi x2), (3, vi x3), (4, vi x4), (5, vi x5)]) : V G X 6 h0 Q h 0 lv [] := by
  refine V.sub hl ?_
  unfold X7_piece at hf
  refine v_aload_n ok 0 dX7_piece_0 rfl rfl ?_
  refine v_iload_n ok 1 dX7_piece_1 rfl rfl ?_
  refine v_iload_n ok 2 dX7_piece_2 rfl rfl ?_
  refine v_cVi ok (RX7, TX7, 117) cf_7.1 [vi x1, vi x2] (F := fun a => X7_areWords a x1 x2 h) (fun a v h1 _ hv => M_X7_areWords ok.2.2.2.2.2.2.1 (d := 3) (Nat.le_refl _) hv) (by exact Nat.le_trans (by decide) hd) cw_X7_areWords q2552 q2554 qs145 dX7_piece_3 [] rfl (Nat.le_of_ble_eq_true rfl) hf (fun v1 h2 hf => ?_)
  refine v_if_eq ok 28 dX7_piece_6 rfl hf (fun hf => ?_) (fun hf => ?_)
  ·
    refine v_iconst ok (-1) dX7_piece_28 rfl ?_
    exact v_iret ok hr (by cases hf; exact hk) dX7_piece_29
  ·
    refine v_aload_n ok 0 dX7_piece_9 rfl rfl ?_
    refine v_iload_n ok 3 dX7_piece_10 rfl rfl ?_
    refine v_cVi ok (RX7, TX7, 117) cf_7.1 [vi x3] (F := fun a => X7_isHand a x3 h2) (fun a v h1 _ hv => M_X7_isHand ok.2.2.2.2.2.2.1 (d := 2) (Nat.le_refl _) hv) (by exact Nat.le_trans (by decide) hd) cw_X7_isHand q2392 q2394 qs119 dX7_piece_11 [] rfl (Nat.le_of_ble_eq_true rfl) hf (fun v3 h4 hf => ?_)
    refine v_if_eq ok 28 dX7_piece_14 rfl hf (fun hf => ?_) (fun hf => ?_)
    ·
      refine v_iconst ok (-1) dX7_piece_28 rfl ?_
      exact v_iret ok hr (by cases hf; exact hk) dX7_piece_29
    ·
      refine v_iload ok dX7_piece_17 rfl ?_
      refine v_i2l ok dX7_piece_19 ?_
      refine v_lconst ok 0 dX7_piece_20 rfl ?_
      refine v_lconst ok 1 dX7_piece_21 rfl ?_
      refine v_cSi ok [vl (Int32.toInt64 x5), vl 0, vl 1] (F := X7_isIn (Int32.toInt64 x5) 0 1 h4) (fun v h1 hv => M_X7_isIn ok.2.2.2.2.2.2.1 (d := 1) (Nat.le_refl _) hv) (by exact Nat.le_trans (by decide) hd) cw_X7_isIn q2215 q2216 dX7_piece_22 [] rfl (Nat.le_of_ble_eq_true rfl) hf (fun v5 h6 hf => ?_)
      refine v_if_ne ok 30 dX7_piece_25 rfl hf (fun hf => ?_) (fun hf => ?_)
      ·
        refine v_aload_n ok 0 dX7_piece_30 rfl rfl ?_
        refine v_iload_n ok 1 dX7_piece_31 rfl rfl ?_
        refine v_iload_n ok 2 dX7_piece_32 rfl rfl ?_
        refine v_iload_n ok 3 dX7_piece_33 rfl rfl ?_
        refine v_cVv ok (RX7, TX7, 117) cf_7.1 [vi x1, vi x2, vi x3] (F := fun a => X7_laysLine a x1 x2 x3 h6) (fun a h1 _ hv => M_X7_laysLine ok.2.2.2.2.2.2.1 (d := 9) (Nat.le_refl _) hv) (by exact Nat.le_trans (by decide) hd) cw_X7_laysLine q2556 q2558 qs146 dX7_piece_34 [] rfl (Nat.le_of_ble_eq_true rfl) hf (fun h7 hf => ?_)
        refine v_iload ok dX7_piece_37 rfl ?_
        refine v_i2l ok dX7_piece_39 ?_
        refine v_lconst ok 0 dX7_piece_40 rfl ?_
        refine v_aload_n ok 0 dX7_piece_41 rfl rfl ?_
        refine v_gI ok fl_X7_577 (fun _ _ _ => rfl) dX7_piece_42 hf (fun v8 hf => ?_)
        refine v_iconst ok 1 dX7_piece_45 rfl ?_
        refine v_isub ok dX7_piece_46 ?_
        refine v_i2l ok dX7_piece_47 ?_
        refine v_cSi ok [vl (Int32.toInt64 x4), vl 0, vl (Int32.toInt64 (v8 - 1))] (F := X7_isIn (Int32.toInt64 x4) 0 (Int32.toInt64 (v8 - 1)) h7) (fun v h1 hv => M_X7_isIn ok.2.2.2.2.2.2.1 (d := 1) (Nat.le_refl _) hv) (by exact Nat.le_trans (by decide) hd) cw_X7_isIn q2215 q2216 dX7_piece_48 [] rfl (Nat.le_of_ble_eq_true rfl) hf (fun v9 h10 hf => ?_)
        refine v_if_ne ok 56 dX7_piece_51 rfl hf (fun hf => ?_) (fun hf => ?_)
        ·
          refine v_iload ok dX7_piece_56 rfl ?_
          refine v_if_ne ok 71 dX7_piece_58 rfl hf (fun hf => ?_) (fun hf => ?_)
          ·
            refine v_aload_n ok 0 dX7_piece_71 rfl rfl ?_
            refine v_gR ok fl_X7_159 (by first | exact Or.inl ⟨_, rfl⟩ | exact Or.inr ⟨_, rfl⟩) dX7_piece_72 hf (fun v11 hf => ?_)
            refine v_iload ok dX7_piece_75 rfl ?_
            refine v_iald ok rfl dX7_piece_77 hf (fun v12 hf => ?_)
            exact v_iret ok hr (by cases hf; exact hk) dX7_piece_78
          ·
            refine v_aload_n ok 0 dX7_piece_61 rfl rfl ?_
            refine v_gR ok fl_X7_156 (by first | exact Or.inl ⟨_, rfl⟩ | exact Or.inr ⟨_, rfl⟩) dX7_piece_62 hf (fun v13 hf => ?_)
            refine v_iload ok dX7_piece_65 rfl ?_
            refine v_iald ok rfl dX7_piece_67 hf (fun v14 hf => ?_)
            refine v_goto ok 78 dX7_piece_68 rfl ?_
            exact v_iret ok hr (by cases hf; exact hk) dX7_piece_78
        ·
          refine v_iconst ok (-1) dX7_piece_54 rfl ?_
          exact v_iret ok hr (by cases hf; exact hk) dX7_piece_55
      ·
        refine v_iconst ok (-1) dX7_piece_28 rfl ?_
        exact v_iret ok hr (by cases hf; exact hk) dX7_piece_29
theorem M_X7_piece {G : GT} {l : Launch} (hG : Glob G) {d : Nat} (hd : 10 ≤ d) {a0 : Nat} {x1 : Int32} {x2 : Int32} {x3 : Int32} {x4 : Int32} {x5 : Int32} {h : AH} {v : Int32} {h' : AH} (hf : X7_piece a0 x1 x2 x3 x4 x5 h = some (v, h')) : MM G l yX7_piece cX7_piece 6 (Option.some Jvm.ClassFile.FieldType.int) d [vr (some a0), vi x1, vi x2, vi x3, vi x4, vi x5] h (some (vi v)) h' := by
  refine mm_of hG (plainFor_of_name (by decide)) (Nat.le_of_ble_eq_true rfl) (fun X hX ok hr hnm => ?_)
  subst hX
  exact W_X7_piece ok hr hd hf rfl ⟨rfl, rfl, rfl, rfl, rfl, rfl, trivial⟩
theorem cw_X7_best : CW yX7_best cX7_best 5 (Option.some Jvm.ClassFile.FieldType.int) 1 := ⟨q2586, q185, ⟨by decide, by decide⟩, by decide +kernel, by decide⟩
def pkX7_best_18 (G : GT) (X : CX) (h0 : AH) (Q : State → Prop) (a0 : Nat) (x1 : Int32) (o : ((Int32 × Int32 × Int32 × AH) ⊕ (Int32 × AH))) : Prop := match o with
  | .inl s => ∀ lv : List (Nat × AV), lle lv [(0, vr (some a0)), (1, vi x1), (2, vi s.1), (3, vi s.2.1), (4, vi s.2.2.1)] → V G X 5 h0 Q s.2.2.2 18 lv []
  | .inr z => Q = QM G X h0 (some (vi z.1)) z.2
theorem W_X7_best_53 {G : GT} {X : CX} {d : Nat} {h0 : AH} {Q : State → Prop} (ok : Ok G X RX7 cX7_best 5 d h0) (hr : (cxm X).sig.returnType = (Option.some Jvm.ClassFile.FieldType.int)) (hd : 10 ≤ d) {a0 : Nat} {x1 : Int32} {x4 : Int32} {h : AH} {z : ((Int32 × Int32 × Int32 × AH) ⊕ (Int32 × AH))} (hf : X7_best_53 a0 x1 x4 h = some z) (hk : pkX7_best_18 G X h0 Q a0 x1 z) {lv : List (Nat × AV)} (hl : lle lv [(0, vr (some a0)), (1, vi x1), (4, vi x4)]) : V G X 5 h0 Q h 53 lv [] := by
  refine V.sub hl ?_
  unfold X7_best_53 at hf
  refine v_iload ok dX7_best_53 rfl ?_
  refine v_istore_n ok 2 dX7_best_55 rfl (by decide) ?_
  refine v_aload_n ok 0 dX7_best_56 rfl rfl ?_
  refine v_gR ok fl_X7_144 (by first | exact Or.inl ⟨_, rfl⟩ | exact Or.inr ⟨_, rfl⟩) dX7_best_57 hf (fun v1 hf => ?_)
  refine v_iconst ok 0 dX7_best_60 rfl ?_
  refine v_iald ok rfl dX7_best_61 hf (fun v2 hf => ?_)
  refine v_istore_n ok 3 dX7_best_62 rfl (by decide) ?_
  refine v_iinc ok x4 (x4 + 1) dX7_best_63 rfl rfl (by decide) ?_
  refine v_goto ok 18 dX7_best_66 rfl ?_
  cases hf; exact hk _ ⟨rfl, rfl, rfl, rfl, rfl, trivial⟩
theorem W_X7_best_18b {G : GT} {X : CX} {d : Nat} {h0 : AH} {Q : State → Prop} (ok : Ok G X RX7 cX7_best 5 d h0) (hr : (cxm X).sig.returnType = (Option.some Jvm.ClassFile.FieldType.int)) (hd : 10 ≤ d) {a0 : Nat} {x1 : Int32} {x2 : Int32} {x3 : Int32} {x4 : Int32} {h : AH} {z : ((Int32 × Int32 × Int32 × AH) ⊕ (Int32 × AH))} (hf : X7_best_18b  a0 x1 x2 x3 x4 h = some z) (hk : pkX7_best_18 G X h0 Q a0 x1 z) {lv : List (Nat × AV)} (hl : lle lv [(0, vr (some a0)), (1, vi x1), (2, vi x2), (3, vi x3), (4, vi x4)]) : V G X 5 h0 Q h 18 lv [] := by
  refine V.sub hl ?_
  unfold X7_best_18b at hf
  refine v_iload ok dX7_best_18 rfl ?_
  refine v_aload_n ok 0 dX7_best_20 rfl rfl ?_
  refine v_cVi ok (RX7, TX7, 117) cf_7.1 [] (F := fun a => X7_wordMany a h) (fun a v h1 _ hv => M_X7_wordMany ok.2.2.2.2.2.2.1 (d := 1) (Nat.le_refl _) hv) (by exact Nat.le_trans (by decide) hd) cw_X7_wordMany q2365 q2367 qs114 dX7_best_21 [vi x4] rfl (Nat.le_of_ble_eq_true rfl) hf (fun v3 h4 hf => ?_)
  refine v_icmp_ge ok 69 dX7_best_24 rfl hf (fun hf => ?_) (fun hf => ?_)
  ·
    refine v_iload_n ok 2 dX7_best_69 rfl rfl ?_
    exact v_iret ok hr (by cases hf; exact hk) dX7_best_70
  ·
    refine v_aload_n ok 0 dX7_best_27 rfl rfl ?_
    refine v_iload_n ok 1 dX7_best_28 rfl rfl ?_
    refine v_iload ok dX7_best_29 rfl ?_
    refine v_iconst ok 0 dX7_best_31 rfl ?_
    refine v_cVv ok (RX7, TX7, 117) cf_7.1 [vi x1, vi x4, vi 0] (F := fun a => X7_laysLine a x1 x4 0 h4) (fun a h1 _ hv => M_X7_laysLine ok.2.2.2.2.2.2.1 (d := 9) (Nat.le_refl _) hv) (by exact Nat.le_trans (by decide) hd) cw_X7_laysLine q2556 q2558 qs146 dX7_best_32 [] rfl (Nat.le_of_ble_eq_true rfl) hf (fun h5 hf => ?_)
    refine v_iload_n ok 2 dX7_best_35 rfl rfl ?_
    refine v_iconst ok (-1) dX7_best_36 rfl ?_
    refine v_icmp_eq ok 53 dX7_best_37 rfl hf (fun hf => ?_) (fun hf => ?_)
    ·
      exact W_X7_best_53 ok hr hd hf hk ⟨rfl, rfl, rfl, trivial⟩
    ·
      refine v_aload_n ok 0 dX7_best_40 rfl rfl ?_
      refine v_gR ok fl_X7_144 (by first | exact Or.inl ⟨_, rfl⟩ | exact Or.inr ⟨_, rfl⟩) dX7_best_41 hf (fun v6 hf => ?_)
      refine v_iconst ok 0 dX7_best_44 rfl ?_
      refine v_iald ok rfl dX7_best_45 hf (fun v7 hf => ?_)
      refine v_iload_n ok 3 dX7_best_46 rfl rfl ?_
      refine v_icmp_lt ok 53 dX7_best_47 rfl hf (fun hf => ?_) (fun hf => ?_)
      ·
        exact W_X7_best_53 ok hr hd hf hk ⟨rfl, rfl, rfl, trivial⟩
      ·
        refine v_goto ok 63 dX7_best_50 rfl ?_
        refine v_iinc ok x4 (x4 + 1) dX7_best_63 rfl rfl (by decide) ?_
        refine v_goto ok 18 dX7_best_66 rfl ?_
        cases hf; exact hk _ ⟨rfl, rfl, rfl, rfl, rfl, trivial⟩
theorem W_X7_best_18 {G : GT} {X : CX} {d : Nat} {h0 : AH} {Q : State → Prop} (ok : Ok G X RX7 cX7_best 5 d h0) (hr : (cxm X).sig.returnType = (Option.some Jvm.ClassFile.FieldType.int)) (hd : 10 ≤ d) {a0 : Nat} {x1 : Int32} {x2 : Int32} {x3 : Int32} {x4 : Int32} {h : AH} {z : (Int32 × AH)} (hf : X7_best_18  a0 x1 x2 x3 x4 h = some z) (hk : Q = QM G X h0 (some (vi z.1)) z.2) {lv : List (Nat × AV)} (hl : lle lv [(0, vr (some a0)), (1, vi x1), (2, vi x2), (3, vi x3), (4, vi x4)]) : V G X 5 h0 Q h 18 lv [] := by
  unfold X7_best_18 at hf
  exact loopC_walk (Wh := fun s : Int32 × Int32 × Int32 × AH => ∀ lv : List (Nat × AV), lle lv [(0, vr (some a0)), (1, vi x1), (2, vi s.1), (3, vi s.2.1), (4, vi s.2.2.1)] → V G X 5 h0 Q s.2.2.2 18 lv []) (PK := fun z => Q = QM G X h0 (some (vi z.1)) z.2) (fun s o hf hk lv hl => W_X7_best_18b ok hr hd hf (by cases o <;> exact hk) hl) _ z hf hk lv hl
theorem W_X7_best {G : GT} {X : CX} {d : Nat} {h0 : AH} {Q : State → Prop} (ok : Ok G X RX7 cX7_best 5 d h0) (hr : (cxm X).sig.returnType = (Option.some Jvm.ClassFile.FieldType.int)) (hd : 10 ≤ d) {a0 : Nat} {x1 : Int32} {h : AH} {z : (Int32 × AH)} (hf : X7_best a0 x1 h = some z) (hk : Q = QM G X h0 (some (vi z.1)) z.2) {lv : List (Nat × AV)} (hl : lle lv [(0, vr (some a0)), (1, vi x1)]) : V G X 5 h0 Q h 0 lv [] := by
  refine V.sub hl ?_
  unfold X7_best at hf
  refine v_aload_n ok 0 dX7_best_0 rfl rfl ?_
  refine v_iload_n ok 1 dX7_best_1 rfl rfl ?_
  refine v_i2l ok dX7_best_2 ?_
  refine v_cVi ok (RX7, TX7, 117) cf_7.1 [vl (Int32.toInt64 x1)] (F := fun a => X7_isWord a (Int32.toInt64 x1) h) (fun a v h1 _ hv => M_X7_isWord ok.2.2.2.2.2.2.1 (d := 2) (Nat.le_refl _) hv) (by exact Nat.le_trans (by decide) hd) cw_X7_isWord q2400 q2402 qs120 dX7_best_3 [] rfl (Nat.le_of_ble_eq_true rfl) hf (fun v8 h9 hf => ?_)
  refine v_if_ne ok 11 dX7_best_6 rfl hf (fun hf => ?_) (fun hf => ?_)
  ·
    refine v_iconst ok (-1) dX7_best_11 rfl ?_
    refine v_istore_n ok 2 dX7_best_12 rfl (by decide) ?_
    refine v_iconst ok 0 dX7_best_13 rfl ?_
    refine v_istore_n ok 3 dX7_best_14 rfl (by decide) ?_
    refine v_iconst ok 0 dX7_best_15 rfl ?_
    refine v_istore ok dX7_best_16 (by decide) ?_
    exact W_X7_best_18 ok hr hd hf hk ⟨rfl, rfl, rfl, rfl, rfl, trivial⟩
  ·
    refine v_iconst ok (-1) dX7_best_9 rfl ?_
    exact v_iret ok hr (by cases hf; exact hk) dX7_best_10
theorem M_X7_best {G : GT} {l : Launch} (hG : Glob G) {d : Nat} (hd : 10 ≤ d) {a0 : Nat} {x1 : Int32} {h : AH} {v : Int32} {h' : AH} (hf : X7_best a0 x1 h = some (v, h')) : MM G l yX7_best cX7_best 5 (Option.some Jvm.ClassFile.FieldType.int) d [vr (some a0), vi x1] h (some (vi v)) h' := by
  refine mm_of hG (plainFor_of_name (by decide)) (Nat.le_of_ble_eq_true rfl) (fun X hX ok hr hnm => ?_)
  subst hX
  exact W_X7_best ok hr hd hf rfl ⟨rfl, rfl, trivial⟩
theorem cw_X7_hand : CW yX7_hand cX7_hand 4 (Option.some Jvm.ClassFile.FieldType.int) 2 := ⟨q2590, q185, ⟨by decide, by decide⟩, by decide +kernel, by decide⟩
theorem W_X7_hand {G : GT} {X : CX} {d : Nat} {h0 : AH} {Q : State → Prop} (ok : Ok G X RX7 cX7_hand 4 d h0) (hr : (cxm X).sig.returnType = (Option.some Jvm.ClassFile.FieldType.int)) (hd : 10 ≤ d) {a0 : Nat} {x1 : Int32} {x2 : Int32} {h : AH} {z : (Int32 × AH)} (hf : X7_hand a0 x1 x2 h = some z) (hk : Q = QM G X h0 (some (vi z.1)) z.2) {lv : List (Nat × AV)} (hl : lle lv [(0, vr (some a0)), (1, vi x1), (2, vi x2)]) : V G X 4 h0 Q h 0 lv [] := by
  refine V.sub hl ?_
  unfold X7_hand at hf
  refine v_aload_n ok 0 dX7_hand_0 rfl rfl ?_
  refine v_iload_n ok 1 dX7_hand_1 rfl rfl ?_
  refine v_iload_n ok 2 dX7_hand_2 rfl rfl ?_
  refine v_cVi ok (RX7, TX7, 117) cf_7.1 [vi x1, vi x2] (F := fun a => X7_areWords a x1 x2 h) (fun a v h1 _ hv => M_X7_areWords ok.2.2.2.2.2.2.1 (d := 3) (Nat.le_refl _) hv) (by exact Nat.le_trans (by decide) hd) cw_X7_areWords q2552 q2554 qs145 dX7_hand_3 [] rfl (Nat.le_of_ble_eq_true rfl) hf (fun v1 h2 hf => ?_)
  refine v_if_ne ok 11 dX7_hand_6 rfl hf (fun hf => ?_) (fun hf => ?_)
  ·
    refine v_aload_n ok 0 dX7_hand_11 rfl rfl ?_
    refine v_iload_n ok 1 dX7_hand_12 rfl rfl ?_
    refine v_iload_n ok 2 dX7_hand_13 rfl rfl ?_
    refine v_iconst ok 0 dX7_hand_14 rfl ?_
    refine v_cVv ok (RX7, TX7, 117) cf_7.1 [vi x1, vi x2, vi 0] (F := fun a => X7_laysLine a x1 x2 0 h2) (fun a h1 _ hv => M_X7_laysLine ok.2.2.2.2.2.2.1 (d := 9) (Nat.le_refl _) hv) (by exact Nat.le_trans (by decide) hd) cw_X7_laysLine q2556 q2558 qs146 dX7_hand_15 [] rfl (Nat.le_of_ble_eq_true rfl) hf (fun h3 hf => ?_)
    refine v_aload_n ok 0 dX7_hand_18 rfl rfl ?_
    refine v_gR ok fl_X7_144 (by first | exact Or.inl ⟨_, rfl⟩ | exact Or.inr ⟨_, rfl⟩) dX7_hand_19 hf (fun v4 hf => ?_)
    refine v_iconst ok 0 dX7_hand_22 rfl ?_
    refine v_iald ok rfl dX7_hand_23 hf (fun v5 hf => ?_)
    refine v_istore_n ok 3 dX7_hand_24 rfl (by decide) ?_
    refine v_aload_n ok 0 dX7_hand_25 rfl rfl ?_
    refine v_iload_n ok 1 dX7_hand_26 rfl rfl ?_
    refine v_iload_n ok 2 dX7_hand_27 rfl rfl ?_
    refine v_iconst ok 1 dX7_hand_28 rfl ?_
    refine v_cVv ok (RX7, TX7, 117) cf_7.1 [vi x1, vi x2, vi 1] (F := fun a => X7_laysLine a x1 x2 1 h3) (fun a h1 _ hv => M_X7_laysLine ok.2.2.2.2.2.2.1 (d := 9) (Nat.le_refl _) hv) (by exact Nat.le_trans (by decide) hd) cw_X7_laysLine q2556 q2558 qs146 dX7_hand_29 [] rfl (Nat.le_of_ble_eq_true rfl) hf (fun h6 hf => ?_)
    refine v_aload_n ok 0 dX7_hand_32 rfl rfl ?_
    refine v_gR ok fl_X7_144 (by first | exact Or.inl ⟨_, rfl⟩ | exact Or.inr ⟨_, rfl⟩) dX7_hand_33 hf (fun v7 hf => ?_)
    refine v_iconst ok 0 dX7_hand_36 rfl ?_
    refine v_iald ok rfl dX7_hand_37 hf (fun v8 hf => ?_)
    refine v_iconst ok (-1) dX7_hand_38 rfl ?_
    refine v_icmp_eq ok 56 dX7_hand_39 rfl hf (fun hf => ?_) (fun hf => ?_)
    ·
      refine v_iconst ok 0 dX7_hand_56 rfl ?_
      exact v_iret ok hr (by cases hf; exact hk) dX7_hand_57
    ·
      refine v_aload_n ok 0 dX7_hand_42 rfl rfl ?_
      refine v_gR ok fl_X7_144 (by first | exact Or.inl ⟨_, rfl⟩ | exact Or.inr ⟨_, rfl⟩) dX7_hand_43 hf (fun v9 hf => ?_)
      refine v_iconst ok 0 dX7_hand_46 rfl ?_
      refine v_iald ok rfl dX7_hand_47 hf (fun v10 hf => ?_)
      refine v_iload_n ok 3 dX7_hand_48 rfl rfl ?_
      refine v_icmp_ge ok 56 dX7_hand_49 rfl hf (fun hf => ?_) (fun hf => ?_)
      ·
        refine v_iconst ok 0 dX7_hand_56 rfl ?_
        exact v_iret ok hr (by cases hf; exact hk) dX7_hand_57
      ·
        refine v_iconst ok 1 dX7_hand_52 rfl ?_
        refine v_goto ok 57 dX7_hand_53 rfl ?_
        exact v_iret ok hr (by cases hf; exact hk) dX7_hand_57
  ·
    refine v_iconst ok (-1) dX7_hand_9 rfl ?_
    exact v_iret ok hr (by cases hf; exact hk) dX7_hand_10
theorem M_X7_hand {G : GT} {l : Launch} (hG : Glob G) {d : Nat} (hd : 10 ≤ d) {a0 : Nat} {x1 : Int32} {x2 : Int32} {h : AH} {v : Int32} {h' : AH} (hf : X7_hand a0 x1 x2 h = some (v, h')) : MM G l yX7_hand cX7_hand 4 (Option.some Jvm.ClassFile.FieldType.int) d [vr (some a0), vi x1, vi x2] h (some (vi v)) h' := by
  refine mm_of hG (plainFor_of_name (by decide)) (Nat.le_of_ble_eq_true rfl) (fun X hX ok hr hnm => ?_)
  subst hX
  exact W_X7_hand ok hr hd hf rfl ⟨rfl, rfl, rfl, trivial⟩
theorem cw_X7_canHaveBeen : CW yX7_canHaveBeen cX7_canHaveBeen 5 (Option.some Jvm.ClassFile.FieldType.boolean) 2 := ⟨q2598, q185, ⟨by decide, by decide⟩, by decide +kernel, by decide⟩
def pkX7_canHaveBeen_37 (G : GT) (X : CX) (h0 : AH) (Q : State → Prop) (a0 : Nat) (x1 : Int32) (x2 : Int32) (x3 : Int32) (o : ((Int32 × AH) ⊕ (Int32 × AH))) : Prop := match o with
  | .inl s => ∀ lv : List (Nat × AV), lle lv [(0, vr (some a0)), (1, vi x1), (2, vi x2), (3, vi x3), (4, vi s.1)] → V G X 5 h0 Q s.2 37 lv []
  | .inr z => Q = QM G X h0 (some (vi z.1)) z.2
theorem W_X7_canHaveBeen_37b {G : GT} {X : CX} {d : Nat} {h0 : AH} {Q : State → Prop} (ok : Ok G X RX7 cX7_canHaveBeen 5 d h0) (hr : (cxm X).sig.returnType = (Option.some Jvm.ClassFile.FieldType.boolean)) (hd : 4 ≤ d) {a0 : Nat} {x1 : Int32} {x2 : Int32} {x3 : Int32} {x4 : Int32} {h : AH} {z : ((Int32 × AH) ⊕ (Int32 × AH))} (hf : X7_canHaveBeen_37b  a0 x1 x2 x3 x4 h = some z) (hk : pkX7_canHaveBeen_37 G X h0 Q a0 x1 x2 x3 z) {lv : List (Nat × AV)} (hl : lle lv [(0, vr (some a0)), (1, vi x1), (2, vi x2), (3, vi x3), (4, vi x4)]) : V G X 5 h0 Q h 37 lv [] := by
  refine V.sub hl ?_
  unfold X7_canHaveBeen_37b at hf
  refine v_iload ok dX7_canHaveBeen_37 rfl ?_
  refine v_aload_n ok 0 dX7_canHaveBeen_39 rfl rfl ?_
  refine v_iload_n ok 2 dX7_canHaveBeen_40 rfl rfl ?_
  refine v_cVi ok (RX7, TX7, 117) cf_7.1 [vi x2] (F := fun a => X7_longOf a x2 h) (fun a v h1 _ hv => M_X7_longOf ok.2.2.2.2.2.2.1 (d := 1) (Nat.le_refl _) hv) (by exact Nat.le_trans (by decide) hd) cw_X7_longOf q2337 q2339 qs109 dX7_canHaveBeen_41 [vi x4] rfl (Nat.le_of_ble_eq_true rfl) hf (fun v1 h2 hf => ?_)
  refine v_icmp_ge ok 85 dX7_canHaveBeen_44 rfl hf (fun hf => ?_) (fun hf => ?_)
  ·
    refine v_iconst ok 1 dX7_canHaveBeen_85 rfl ?_
    exact v_zretL ok hr (by decide) (by decide) (by cases hf; exact hk) dX7_canHaveBeen_86
  ·
    refine v_aload_n ok 0 dX7_canHaveBeen_47 rfl rfl ?_
    refine v_iload_n ok 1 dX7_canHaveBeen_48 rfl rfl ?_
    refine v_iload ok dX7_canHaveBeen_49 rfl ?_
    refine v_cVi ok (RX7, TX7, 117) cf_7.1 [vi x1, vi x4] (F := fun a => X7_glyphAt a x1 x4 h2) (fun a v h1 _ hv => M_X7_glyphAt ok.2.2.2.2.2.2.1 (d := 1) (Nat.le_refl _) hv) (by exact Nat.le_trans (by decide) hd) cw_X7_glyphAt q2377 q2379 qs117 dX7_canHaveBeen_51 [] rfl (Nat.le_of_ble_eq_true rfl) hf (fun v3 h4 hf => ?_)
    refine v_aload_n ok 0 dX7_canHaveBeen_54 rfl rfl ?_
    refine v_iload_n ok 3 dX7_canHaveBeen_55 rfl rfl ?_
    refine v_aload_n ok 0 dX7_canHaveBeen_56 rfl rfl ?_
    refine v_iload_n ok 3 dX7_canHaveBeen_57 rfl rfl ?_
    refine v_aload_n ok 0 dX7_canHaveBeen_58 rfl rfl ?_
    refine v_iload_n ok 2 dX7_canHaveBeen_59 rfl rfl ?_
    refine v_iload ok dX7_canHaveBeen_60 rfl ?_
    refine v_cVi ok (RX7, TX7, 117) cf_7.1 [vi x2, vi x4] (F := fun a => X7_letterOf a x2 x4 h4) (fun a v h1 _ hv => M_X7_letterOf ok.2.2.2.2.2.2.1 (d := 1) (Nat.le_refl _) hv) (by exact Nat.le_trans (by decide) hd) cw_X7_letterOf q2341 q2343 qs110 dX7_canHaveBeen_62 [vi x3, vr (some a0), vi x3, vr (some a0), vi v3] rfl (Nat.le_of_ble_eq_true rfl) hf (fun v5 h6 hf => ?_)
    refine v_cVi ok (RX7, TX7, 117) cf_7.1 [vi x3, vi v5] (F := fun a => X7_letterAt a x3 v5 h6) (fun a v h1 _ hv => M_X7_letterAt ok.2.2.2.2.2.2.1 (d := 2) (Nat.le_refl _) hv) (by exact Nat.le_trans (by decide) hd) cw_X7_letterAt q2345 q2347 qs111 dX7_canHaveBeen_65 [vi x3, vr (some a0), vi v3] rfl (Nat.le_of_ble_eq_true rfl) hf (fun v7 h8 hf => ?_)
    refine v_cVi ok (RX7, TX7, 117) cf_7.1 [vi x3, vi v7] (F := fun a => X7_glyphOf a x3 v7 h8) (fun a v h1 _ hv => M_X7_glyphOf ok.2.2.2.2.2.2.1 (d := 1) (Nat.le_refl _) hv) (by exact Nat.le_trans (by decide) hd) cw_X7_glyphOf q2353 q2355 qs113 dX7_canHaveBeen_68 [vi v3] rfl (Nat.le_of_ble_eq_true rfl) hf (fun v9 h10 hf => ?_)
    refine v_iconst ok (-1) dX7_canHaveBeen_71 rfl ?_
    refine v_ixor ok dX7_canHaveBeen_72 ?_
    refine v_iand ok dX7_canHaveBeen_73 ?_
    refine v_if_eq ok 79 dX7_canHaveBeen_74 rfl hf (fun hf => ?_) (fun hf => ?_)
    ·
      refine v_iinc ok x4 (x4 + 1) dX7_canHaveBeen_79 rfl rfl (by decide) ?_
      refine v_goto ok 37 dX7_canHaveBeen_82 rfl ?_
      cases hf; exact hk _ ⟨rfl, rfl, rfl, rfl, rfl, trivial⟩
    ·
      refine v_iconst ok 0 dX7_canHaveBeen_77 rfl ?_
      exact v_zretL ok hr (by decide) (by decide) (by cases hf; exact hk) dX7_canHaveBeen_78
theorem W_X7_canHaveBeen_37 {G : GT} {X : CX} {d : Nat} {h0 : AH} {Q : State → Prop} (ok : Ok G X RX7 cX7_canHaveBeen 5 d h0) (hr : (cxm X).sig.returnType = (Option.some Jvm.ClassFile.FieldType.boolean)) (hd : 4 ≤ d) {a0 : Nat} {x1 : Int32} {x2 : Int32} {x3 : Int32} {x4 : Int32} {h : AH} {z : (Int32 × AH)} (hf : X7_canHaveBeen_37  a0 x1 x2 x3 x4 h = some z) (hk : Q = QM G X h0 (some (vi z.1)) z.2) {lv : List (Nat × AV)} (hl : lle lv [(0, vr (some a0)), (1, vi x1), (2, vi x2), (3, vi x3), (4, vi x4)]) : V G X 5 h0 Q h 37 lv [] := by
  unfold X7_canHaveBeen_37 at hf
  exact loopC_walk (Wh := fun s : Int32 × AH => ∀ lv : List (Nat × AV), lle lv [(0, vr (some a0)), (1, vi x1), (2, vi x2), (3, vi x3), (4, vi s.1)] → V G X 5 h0 Q s.2 37 lv []) (PK := fun z => Q = QM G X h0 (some (vi z.1)) z.2) (fun s o hf hk lv hl => W_X7_canHaveBeen_37b ok hr hd hf (by cases o <;> exact hk) hl) _ z hf hk lv hl
theorem W_X7_canHaveBeen {G : GT} {X : CX} {d : Nat} {h0 : AH} {Q : State → Prop} (ok : Ok G X RX7 cX7_canHaveBeen 5 d h0) (hr : (cxm X).sig.returnType = (Option.some Jvm.ClassFile.FieldType.boolean)) (hd : 4 ≤ d) {a0 : Nat} {x1 : Int32} {x2 : Int32} {h : AH} {z : (Int32 × AH)} (hf : X7_canHaveBeen a0 x1 x2 h = some z) (hk : Q = QM G X h0 (some (vi z.1)) z.2) {lv : List (Nat × AV)} (hl : lle lv [(0, vr (some a0)), (1, vi x1), (2, vi x2)]) : V G X 5 h0 Q h 0 lv [] := by
  refine V.sub hl ?_
  unfold X7_canHaveBeen at hf
  refine v_aload_n ok 0 dX7_canHaveBeen_0 rfl rfl ?_
  refine v_iload_n ok 1 dX7_canHaveBeen_1 rfl rfl ?_
  refine v_cVi ok (RX7, TX7, 117) cf_7.1 [vi x1] (F := fun a => X7_handOf a x1 h) (fun a v h1 _ hv => M_X7_handOf ok.2.2.2.2.2.2.1 (d := 1) (Nat.le_refl _) hv) (by exact Nat.le_trans (by decide) hd) cw_X7_handOf q2417 q2419 qs123 dX7_canHaveBeen_2 [] rfl (Nat.le_of_ble_eq_true rfl) hf (fun v11 h12 hf => ?_)
  refine v_istore_n ok 3 dX7_canHaveBeen_5 rfl (by decide) ?_
  refine v_aload_n ok 0 dX7_canHaveBeen_6 rfl rfl ?_
  refine v_iload_n ok 2 dX7_canHaveBeen_7 rfl rfl ?_
  refine v_cVi ok (RX7, TX7, 117) cf_7.1 [vi x2] (F := fun a => X7_longOf a x2 h12) (fun a v h1 _ hv => M_X7_longOf ok.2.2.2.2.2.2.1 (d := 1) (Nat.le_refl _) hv) (by exact Nat.le_trans (by decide) hd) cw_X7_longOf q2337 q2339 qs109 dX7_canHaveBeen_8 [] rfl (Nat.le_of_ble_eq_true rfl) hf (fun v13 h14 hf => ?_)
  refine v_aload_n ok 0 dX7_canHaveBeen_11 rfl rfl ?_
  refine v_aload_n ok 0 dX7_canHaveBeen_12 rfl rfl ?_
  refine v_iload_n ok 1 dX7_canHaveBeen_13 rfl rfl ?_
  refine v_cVi ok (RX7, TX7, 117) cf_7.1 [vi x1] (F := fun a => X7_wordOf a x1 h14) (fun a v h1 _ hv => M_X7_wordOf ok.2.2.2.2.2.2.1 (d := 1) (Nat.le_refl _) hv) (by exact Nat.le_trans (by decide) hd) cw_X7_wordOf q2413 q2415 qs122 dX7_canHaveBeen_14 [vr (some a0), vi v13] rfl (Nat.le_of_ble_eq_true rfl) hf (fun v15 h16 hf => ?_)
  refine v_cVi ok (RX7, TX7, 117) cf_7.1 [vi v15] (F := fun a => X7_longOf a v15 h16) (fun a v h1 _ hv => M_X7_longOf ok.2.2.2.2.2.2.1 (d := 1) (Nat.le_refl _) hv) (by exact Nat.le_trans (by decide) hd) cw_X7_longOf q2337 q2339 qs109 dX7_canHaveBeen_17 [vi v13] rfl (Nat.le_of_ble_eq_true rfl) hf (fun v17 h18 hf => ?_)
  refine v_icmp_ne ok 32 dX7_canHaveBeen_20 rfl hf (fun hf => ?_) (fun hf => ?_)
  ·
    refine v_iconst ok 0 dX7_canHaveBeen_32 rfl ?_
    exact v_zretL ok hr (by decide) (by decide) (by cases hf; exact hk) dX7_canHaveBeen_33
  ·
    refine v_aload_n ok 0 dX7_canHaveBeen_23 rfl rfl ?_
    refine v_iload_n ok 2 dX7_canHaveBeen_24 rfl rfl ?_
    refine v_iload_n ok 3 dX7_canHaveBeen_25 rfl rfl ?_
    refine v_cVi ok (RX7, TX7, 117) cf_7.1 [vi x2, vi v11] (F := fun a => X7_canPaint a x2 v11 h18) (fun a v h1 _ hv => M_X7_canPaint ok.2.2.2.2.2.2.1 (d := 3) (Nat.le_refl _) hv) (by exact Nat.le_trans (by decide) hd) cw_X7_canPaint q2540 q2542 qs143 dX7_canHaveBeen_26 [] rfl (Nat.le_of_ble_eq_true rfl) hf (fun v19 h20 hf => ?_)
    refine v_if_ne ok 34 dX7_canHaveBeen_29 rfl hf (fun hf => ?_) (fun hf => ?_)
    ·
      refine v_iconst ok 0 dX7_canHaveBeen_34 rfl ?_
      refine v_istore ok dX7_canHaveBeen_35 (by decide) ?_
      exact W_X7_canHaveBeen_37 ok hr hd hf hk ⟨rfl, rfl, rfl, rfl, rfl, trivial⟩
    ·
      refine v_iconst ok 0 dX7_canHaveBeen_32 rfl ?_
      exact v_zretL ok hr (by decide) (by decide) (by cases hf; exact hk) dX7_canHaveBeen_33
theorem M_X7_canHaveBeen {G : GT} {l : Launch} (hG : Glob G) {d : Nat} (hd : 4 ≤ d) {a0 : Nat} {x1 : Int32} {x2 : Int32} {h : AH} {v : Int32} {h' : AH} (hf : X7_canHaveBeen a0 x1 x2 h = some (v, h')) : MM G l yX7_canHaveBeen cX7_canHaveBeen 5 (Option.some Jvm.ClassFile.FieldType.boolean) d [vr (some a0), vi x1, vi x2] h (some (vi v)) h' := by
  refine mm_of hG (plainFor_of_name (by decide)) (Nat.le_of_ble_eq_true rfl) (fun X hX ok hr hnm => ?_)
  subst hX
  exact W_X7_canHaveBeen ok hr hd hf rfl ⟨rfl, rfl, rfl, trivial⟩
theorem cw_X7_been : CW yX7_been cX7_been 4 (Option.some Jvm.ClassFile.FieldType.int) 1 := ⟨q2594, q185, ⟨by decide, by decide⟩, by decide +kernel, by decide⟩
def pkX7_been_14 (G : GT) (X : CX) (h0 : AH) (Q : State → Prop) (a0 : Nat) (x1 : Int32) (o : ((Int32 × Int32 × AH) ⊕ (Int32 × AH))) : Prop := match o with
  | .inl s => ∀ lv : List (Nat × AV), lle lv [(0, vr (some a0)), (1, vi x1), (2, vi s.1), (3, vi s.2.1)] → V G X 4 h0 Q s.2.2 14 lv []
  | .inr z => Q = QM G X h0 (some (vi z.1)) z.2
theorem W_X7_been_14b {G : GT} {X : CX} {d : Nat} {h0 : AH} {Q : State → Prop} (ok : Ok G X RX7 cX7_been 4 d h0) (hr : (cxm X).sig.returnType = (Option.some Jvm.ClassFile.FieldType.int)) (hd : 5 ≤ d) {a0 : Nat} {x1 : Int32} {x2 : Int32} {x3 : Int32} {h : AH} {z : ((Int32 × Int32 × AH) ⊕ (Int32 × AH))} (hf : X7_been_14b  a0 x1 x2 x3 h = some z) (hk : pkX7_been_14 G X h0 Q a0 x1 z) {lv : List (Nat × AV)} (hl : lle lv [(0, vr (some a0)), (1, vi x1), (2, vi x2), (3, vi x3)]) : V G X 4 h0 Q h 14 lv [] := by
  refine V.sub hl ?_
  unfold X7_been_14b at hf
  refine v_iload_n ok 3 dX7_been_14 rfl rfl ?_
  refine v_aload_n ok 0 dX7_been_15 rfl rfl ?_
  refine v_cVi ok (RX7, TX7, 117) cf_7.1 [] (F := fun a => X7_wordMany a h) (fun a v h1 _ hv => M_X7_wordMany ok.2.2.2.2.2.2.1 (d := 1) (Nat.le_refl _) hv) (by exact Nat.le_trans (by decide) hd) cw_X7_wordMany q2365 q2367 qs114 dX7_been_16 [vi x3] rfl (Nat.le_of_ble_eq_true rfl) hf (fun v1 h2 hf => ?_)
  refine v_icmp_ge ok 43 dX7_been_19 rfl hf (fun hf => ?_) (fun hf => ?_)
  ·
    refine v_iload_n ok 2 dX7_been_43 rfl rfl ?_
    exact v_iret ok hr (by cases hf; exact hk) dX7_been_44
  ·
    refine v_aload_n ok 0 dX7_been_22 rfl rfl ?_
    refine v_iload_n ok 1 dX7_been_23 rfl rfl ?_
    refine v_iload_n ok 3 dX7_been_24 rfl rfl ?_
    refine v_cVi ok (RX7, TX7, 117) cf_7.1 [vi x1, vi x3] (F := fun a => X7_canHaveBeen a x1 x3 h2) (fun a v h1 _ hv => M_X7_canHaveBeen ok.2.2.2.2.2.2.1 (d := 4) (Nat.le_refl _) hv) (by exact Nat.le_trans (by decide) hd) cw_X7_canHaveBeen q2595 q2597 qs151 dX7_been_25 [] rfl (Nat.le_of_ble_eq_true rfl) hf (fun v3 h4 hf => ?_)
    refine v_if_eq ok 37 dX7_been_28 rfl hf (fun hf => ?_) (fun hf => ?_)
    ·
      refine v_iinc ok x3 (x3 + 1) dX7_been_37 rfl rfl (by decide) ?_
      refine v_goto ok 14 dX7_been_40 rfl ?_
      cases hf; exact hk _ ⟨rfl, rfl, rfl, rfl, trivial⟩
    ·
      refine v_iload_n ok 2 dX7_been_31 rfl rfl ?_
      refine v_iconst ok 1 dX7_been_32 rfl ?_
      refine v_iload_n ok 3 dX7_been_33 rfl rfl ?_
      refine v_ishl ok dX7_been_34 ?_
      refine v_ior ok dX7_been_35 ?_
      refine v_istore_n ok 2 dX7_been_36 rfl (by decide) ?_
      refine v_iinc ok x3 (x3 + 1) dX7_been_37 rfl rfl (by decide) ?_
      refine v_goto ok 14 dX7_been_40 rfl ?_
      cases hf; exact hk _ ⟨rfl, rfl, rfl, rfl, trivial⟩
theorem W_X7_been_14 {G : GT} {X : CX} {d : Nat} {h0 : AH} {Q : State → Prop} (ok : Ok G X RX7 cX7_been 4 d h0) (hr : (cxm X).sig.returnType = (Option.some Jvm.ClassFile.FieldType.int)) (hd : 5 ≤ d) {a0 : Nat} {x1 : Int32} {x2 : Int32} {x3 : Int32} {h : AH} {z : (Int32 × AH)} (hf : X7_been_14  a0 x1 x2 x3 h = some z) (hk : Q = QM G X h0 (some (vi z.1)) z.2) {lv : List (Nat × AV)} (hl : lle lv [(0, vr (some a0)), (1, vi x1), (2, vi x2), (3, vi x3)]) : V G X 4 h0 Q h 14 lv [] := by
  unfold X7_been_14 at hf
  exact loopC_walk (Wh := fun s : Int32 × Int32 × AH => ∀ lv : List (Nat × AV), lle lv [(0, vr (some a0)), (1, vi x1), (2, vi s.1), (3, vi s.2.1)] → V G X 4 h0 Q s.2.2 14 lv []) (PK := fun z => Q = QM G X h0 (some (vi z.1)) z.2) (fun s o hf hk lv hl => W_X7_been_14b ok hr hd hf (by cases o <;> exact hk) hl) _ z hf hk lv hl
theorem W_X7_been {G : GT} {X : CX} {d : Nat} {h0 : AH} {Q : State → Prop} (ok : Ok G X RX7 cX7_been 4 d h0) (hr : (cxm X).sig.returnType = (Option.some Jvm.ClassFile.FieldType.int)) (hd : 5 ≤ d) {a0 : Nat} {x1 : Int32} {h : AH} {z : (Int32 × AH)} (hf : X7_been a0 x1 h = some z) (hk : Q = QM G X h0 (some (vi z.1)) z.2) {lv : List (Nat × AV)} (hl : lle lv [(0, vr (some a0)), (1, vi x1)]) : V G X 4 h0 Q h 0 lv [] := by
  refine V.sub hl ?_
  unfold X7_been at hf
  refine v_aload_n ok 0 dX7_been_0 rfl rfl ?_
  refine v_iload_n ok 1 dX7_been_1 rfl rfl ?_
  refine v_cVi ok (RX7, TX7, 117) cf_7.1 [vi x1] (F := fun a => X7_isBoard a x1 h) (fun a v h1 _ hv => M_X7_isBoard ok.2.2.2.2.2.2.1 (d := 2) (Nat.le_refl _) hv) (by exact Nat.le_trans (by decide) hd) cw_X7_isBoard q2409 q2411 qs121 dX7_been_2 [] rfl (Nat.le_of_ble_eq_true rfl) hf (fun v5 h6 hf => ?_)
  refine v_if_ne ok 10 dX7_been_5 rfl hf (fun hf => ?_) (fun hf => ?_)
  ·
    refine v_iconst ok 0 dX7_been_10 rfl ?_
    refine v_istore_n ok 2 dX7_been_11 rfl (by decide) ?_
    refine v_iconst ok 0 dX7_been_12 rfl ?_
    refine v_istore_n ok 3 dX7_been_13 rfl (by decide) ?_
    exact W_X7_been_14 ok hr hd hf hk ⟨rfl, rfl, rfl, rfl, trivial⟩
  ·
    refine v_iconst ok (-1) dX7_been_8 rfl ?_
    exact v_iret ok hr (by cases hf; exact hk) dX7_been_9
theorem M_X7_been {G : GT} {l : Launch} (hG : Glob G) {d : Nat} (hd : 5 ≤ d) {a0 : Nat} {x1 : Int32} {h : AH} {v : Int32} {h' : AH} (hf : X7_been a0 x1 h = some (v, h')) : MM G l yX7_been cX7_been 4 (Option.some Jvm.ClassFile.FieldType.int) d [vr (some a0), vi x1] h (some (vi v)) h' := by
  refine mm_of hG (plainFor_of_name (by decide)) (Nat.le_of_ble_eq_true rfl) (fun X hX ok hr hnm => ?_)
  subst hX
  exact W_X7_been ok hr hd hf rfl ⟨rfl, rfl, trivial⟩
theorem cw_X7_doesSay : CW yX7_doesSay cX7_doesSay 3 (Option.some Jvm.ClassFile.FieldType.boolean) 1 := ⟨q2606, q185, ⟨by decide, by decide⟩, by decide +kernel, by decide⟩
def pkX7_doesSay_2 (G : GT) (X : CX) (h0 : AH) (Q : State → Prop) (a0 : Nat) (x1 : Int32) (o : ((Int32 × AH) ⊕ (Int32 × AH))) : Prop := match o with
  | .inl s => ∀ lv : List (Nat × AV), lle lv [(0, vr (some a0)), (1, vi x1), (2, vi s.1)] → V G X 3 h0 Q s.2 2 lv []
  | .inr z => Q = QM G X h0 (some (vi z.1)) z.2
theorem W_X7_doesSay_2b {G : GT} {X : CX} {d : Nat} {h0 : AH} {Q : State → Prop} (ok : Ok G X RX7 cX7_doesSay 3 d h0) (hr : (cxm X).sig.returnType = (Option.some Jvm.ClassFile.FieldType.boolean)) (hd : 8 ≤ d) {a0 : Nat} {x1 : Int32} {x2 : Int32} {h : AH} {z : ((Int32 × AH) ⊕ (Int32 × AH))} (hf : X7_doesSay_2b  a0 x1 x2 h = some z) (hk : pkX7_doesSay_2 G X h0 Q a0 x1 z) {lv : List (Nat × AV)} (hl : lle lv [(0, vr (some a0)), (1, vi x1), (2, vi x2)]) : V G X 3 h0 Q h 2 lv [] := by
  refine V.sub hl ?_
  unfold X7_doesSay_2b at hf
  refine v_iload_n ok 2 dX7_doesSay_2 rfl rfl ?_
  refine v_aload_n ok 0 dX7_doesSay_3 rfl rfl ?_
  refine v_aload_n ok 0 dX7_doesSay_4 rfl rfl ?_
  refine v_iload_n ok 1 dX7_doesSay_5 rfl rfl ?_
  refine v_cVi ok (RX7, TX7, 117) cf_7.1 [vi x1] (F := fun a => X7_wordOf a x1 h) (fun a v h1 _ hv => M_X7_wordOf ok.2.2.2.2.2.2.1 (d := 1) (Nat.le_refl _) hv) (by exact Nat.le_trans (by decide) hd) cw_X7_wordOf q2413 q2415 qs122 dX7_doesSay_6 [vr (some a0), vi x2] rfl (Nat.le_of_ble_eq_true rfl) hf (fun v1 h2 hf => ?_)
  refine v_cVi ok (RX7, TX7, 117) cf_7.1 [vi v1] (F := fun a => X7_longOf a v1 h2) (fun a v h1 _ hv => M_X7_longOf ok.2.2.2.2.2.2.1 (d := 1) (Nat.le_refl _) hv) (by exact Nat.le_trans (by decide) hd) cw_X7_longOf q2337 q2339 qs109 dX7_doesSay_9 [vi x2] rfl (Nat.le_of_ble_eq_true rfl) hf (fun v3 h4 hf => ?_)
  refine v_icmp_ge ok 51 dX7_doesSay_12 rfl hf (fun hf => ?_) (fun hf => ?_)
  ·
    refine v_iconst ok 1 dX7_doesSay_51 rfl ?_
    exact v_zretL ok hr (by decide) (by decide) (by cases hf; exact hk) dX7_doesSay_52
  ·
    refine v_aload_n ok 0 dX7_doesSay_15 rfl rfl ?_
    refine v_aload_n ok 0 dX7_doesSay_16 rfl rfl ?_
    refine v_iload_n ok 1 dX7_doesSay_17 rfl rfl ?_
    refine v_cVi ok (RX7, TX7, 117) cf_7.1 [vi x1] (F := fun a => X7_handOf a x1 h4) (fun a v h1 _ hv => M_X7_handOf ok.2.2.2.2.2.2.1 (d := 1) (Nat.le_refl _) hv) (by exact Nat.le_trans (by decide) hd) cw_X7_handOf q2417 q2419 qs123 dX7_doesSay_18 [vr (some a0)] rfl (Nat.le_of_ble_eq_true rfl) hf (fun v5 h6 hf => ?_)
    refine v_aload_n ok 0 dX7_doesSay_21 rfl rfl ?_
    refine v_iload_n ok 1 dX7_doesSay_22 rfl rfl ?_
    refine v_iload_n ok 2 dX7_doesSay_23 rfl rfl ?_
    refine v_cVi ok (RX7, TX7, 117) cf_7.1 [vi x1, vi x2] (F := fun a => X7_glyphAt a x1 x2 h6) (fun a v h1 _ hv => M_X7_glyphAt ok.2.2.2.2.2.2.1 (d := 1) (Nat.le_refl _) hv) (by exact Nat.le_trans (by decide) hd) cw_X7_glyphAt q2377 q2379 qs117 dX7_doesSay_24 [vi v5, vr (some a0)] rfl (Nat.le_of_ble_eq_true rfl) hf (fun v7 h8 hf => ?_)
    refine v_cVi ok (RX7, TX7, 117) cf_7.1 [vi v5, vi v7] (F := fun a => X7_readAs a v5 v7 h8) (fun a v h1 _ hv => M_X7_readAs ok.2.2.2.2.2.2.1 (d := 7) (Nat.le_refl _) hv) (by exact Nat.le_trans (by decide) hd) cw_X7_readAs q2488 q2490 qs132 dX7_doesSay_27 [] rfl (Nat.le_of_ble_eq_true rfl) hf (fun v9 h10 hf => ?_)
    refine v_aload_n ok 0 dX7_doesSay_30 rfl rfl ?_
    refine v_aload_n ok 0 dX7_doesSay_31 rfl rfl ?_
    refine v_iload_n ok 1 dX7_doesSay_32 rfl rfl ?_
    refine v_cVi ok (RX7, TX7, 117) cf_7.1 [vi x1] (F := fun a => X7_wordOf a x1 h10) (fun a v h1 _ hv => M_X7_wordOf ok.2.2.2.2.2.2.1 (d := 1) (Nat.le_refl _) hv) (by exact Nat.le_trans (by decide) hd) cw_X7_wordOf q2413 q2415 qs122 dX7_doesSay_33 [vr (some a0), vi v9] rfl (Nat.le_of_ble_eq_true rfl) hf (fun v11 h12 hf => ?_)
    refine v_iload_n ok 2 dX7_doesSay_36 rfl rfl ?_
    refine v_cVi ok (RX7, TX7, 117) cf_7.1 [vi v11, vi x2] (F := fun a => X7_letterOf a v11 x2 h12) (fun a v h1 _ hv => M_X7_letterOf ok.2.2.2.2.2.2.1 (d := 1) (Nat.le_refl _) hv) (by exact Nat.le_trans (by decide) hd) cw_X7_letterOf q2341 q2343 qs110 dX7_doesSay_37 [vi v9] rfl (Nat.le_of_ble_eq_true rfl) hf (fun v13 h14 hf => ?_)
    refine v_icmp_eq ok 45 dX7_doesSay_40 rfl hf (fun hf => ?_) (fun hf => ?_)
    ·
      refine v_iinc ok x2 (x2 + 1) dX7_doesSay_45 rfl rfl (by decide) ?_
      refine v_goto ok 2 dX7_doesSay_48 rfl ?_
      cases hf; exact hk _ ⟨rfl, rfl, rfl, trivial⟩
    ·
      refine v_iconst ok 0 dX7_doesSay_43 rfl ?_
      exact v_zretL ok hr (by decide) (by decide) (by cases hf; exact hk) dX7_doesSay_44
theorem W_X7_doesSay_2 {G : GT} {X : CX} {d : Nat} {h0 : AH} {Q : State → Prop} (ok : Ok G X RX7 cX7_doesSay 3 d h0) (hr : (cxm X).sig.returnType = (Option.some Jvm.ClassFile.FieldType.boolean)) (hd : 8 ≤ d) {a0 : Nat} {x1 : Int32} {x2 : Int32} {h : AH} {z : (Int32 × AH)} (hf : X7_doesSay_2  a0 x1 x2 h = some z) (hk : Q = QM G X h0 (some (vi z.1)) z.2) {lv : List (Nat × AV)} (hl : lle lv [(0, vr (some a0)), (1, vi x1), (2, vi x2)]) : V G X 3 h0 Q h 2 lv [] := by
  unfold X7_doesSay_2 at hf
  exact loopC_walk (Wh := fun s : Int32 × AH => ∀ lv : List (Nat × AV), lle lv [(0, vr (some a0)), (1, vi x1), (2, vi s.1)] → V G X 3 h0 Q s.2 2 lv []) (PK := fun z => Q = QM G X h0 (some (vi z.1)) z.2) (fun s o hf hk lv hl => W_X7_doesSay_2b ok hr hd hf (by cases o <;> exact hk) hl) _ z hf hk lv hl
theorem W_X7_doesSay {G : GT} {X : CX} {d : Nat} {h0 : AH} {Q : State → Prop} (ok : Ok G X RX7 cX7_doesSay 3 d h0) (hr : (cxm X).sig.returnType = (Option.some Jvm.ClassFile.FieldType.boolean)) (hd : 8 ≤ d) {a0 : Nat} {x1 : Int32} {h : AH} {z : (Int32 × AH)} (hf : X7_doesSay a0 x1 h = some z) (hk : Q = QM G X h0 (some (vi z.1)) z.2) {lv : List (Nat × AV)} (hl : lle lv [(0, vr (some a0)), (1, vi x1)]) : V G X 3 h0 Q h 0 lv [] := by
  refine V.sub hl ?_
  unfold X7_doesSay at hf
  refine v_iconst ok 0 dX7_doesSay_0 rfl ?_
  refine v_istore_n ok 2 dX7_doesSay_1 rfl (by decide) ?_
  exact W_X7_doesSay_2 ok hr hd hf hk ⟨rfl, rfl, rfl, trivial⟩
theorem M_X7_doesSay {G : GT} {l : Launch} (hG : Glob G) {d : Nat} (hd : 8 ≤ d) {a0 : Nat} {x1 : Int32} {h : AH} {v : Int32} {h' : AH} (hf : X7_doesSay a0 x1 h = some (v, h')) : MM G l yX7_doesSay cX7_doesSay 3 (Option.some Jvm.ClassFile.FieldType.boolean) d [vr (some a0), vi x1] h (some (vi v)) h' := by
  refine mm_of hG (plainFor_of_name (by decide)) (Nat.le_of_ble_eq_true rfl) (fun X hX ok hr hnm => ?_)
  subst hX
  exact W_X7_doesSay ok hr hd hf rfl ⟨rfl, rfl, trivial⟩
theorem cw_X7_lasts : CW yX7_lasts cX7_lasts 3 (Option.some Jvm.ClassFile.FieldType.int) 1 := ⟨q2602, q185, ⟨by decide, by decide⟩, by decide +kernel, by decide⟩
def pkX7_lasts_24 (G : GT) (X : CX) (h0 : AH) (Q : State → Prop) (a0 : Nat) (x1 : Int32) (o : ((Int32 × AH) ⊕ (Int32 × AH))) : Prop := match o with
  | .inl s => ∀ lv : List (Nat × AV), lle lv [(0, vr (some a0)), (1, vi x1), (2, vi s.1)] → V G X 3 h0 Q s.2 24 lv []
  | .inr z => Q = QM G X h0 (some (vi z.1)) z.2
theorem W_X7_lasts_63 {G : GT} {X : CX} {d : Nat} {h0 : AH} {Q : State → Prop} (ok : Ok G X RX7 cX7_lasts 3 d h0) (hr : (cxm X).sig.returnType = (Option.some Jvm.ClassFile.FieldType.int)) (hd : 10 ≤ d) {a0 : Nat} {x2 : Int32} {h : AH} {z : (Int32 × AH)} (hf : X7_lasts_63 a0 x2 h = some z) (hk : Q = QM G X h0 (some (vi z.1)) z.2) {lv : List (Nat × AV)} (hl : lle lv [(0, vr (some a0)), (2, vi x2)]) : V G X 3 h0 Q h 63 lv [] := by
  refine V.sub hl ?_
  unfold X7_lasts_63 at hf
  refine v_aload_n ok 0 dX7_lasts_63 rfl rfl ?_
  refine v_cVv ok (RX7, TX7, 117) cf_7.1 [] (F := fun a => X7_takesBack a h) (fun a h1 _ hv => M_X7_takesBack ok.2.2.2.2.2.2.1 (d := 1) (Nat.le_refl _) hv) (by exact Nat.le_trans (by decide) hd) cw_X7_takesBack q2532 q2534 qs142 dX7_lasts_64 [] rfl (Nat.le_of_ble_eq_true rfl) hf (fun h1 hf => ?_)
  refine v_iload_n ok 2 dX7_lasts_67 rfl rfl ?_
  exact v_iret ok hr (by cases hf; exact hk) dX7_lasts_68
theorem W_X7_lasts_54 {G : GT} {X : CX} {d : Nat} {h0 : AH} {Q : State → Prop} (ok : Ok G X RX7 cX7_lasts 3 d h0) (hr : (cxm X).sig.returnType = (Option.some Jvm.ClassFile.FieldType.int)) (hd : 10 ≤ d) {a0 : Nat} {x2 : Int32} {h : AH} {z : (Int32 × AH)} (hf : X7_lasts_54 a0 x2 h = some z) (hk : Q = QM G X h0 (some (vi z.1)) z.2) {lv : List (Nat × AV)} (hl : lle lv [(0, vr (some a0)), (2, vi x2)]) : V G X 3 h0 Q h 54 lv [] := by
  refine V.sub hl ?_
  unfold X7_lasts_54 at hf
  refine v_goto ok 63 dX7_lasts_54 rfl ?_
  exact W_X7_lasts_63 ok hr hd hf hk ⟨rfl, rfl, trivial⟩
theorem W_X7_lasts_24b {G : GT} {X : CX} {d : Nat} {h0 : AH} {Q : State → Prop} (ok : Ok G X RX7 cX7_lasts 3 d h0) (hr : (cxm X).sig.returnType = (Option.some Jvm.ClassFile.FieldType.int)) (hd : 10 ≤ d) {a0 : Nat} {x1 : Int32} {x2 : Int32} {h : AH} {z : ((Int32 × AH) ⊕ (Int32 × AH))} (hf : X7_lasts_24b  a0 x1 x2 h = some z) (hk : pkX7_lasts_24 G X h0 Q a0 x1 z) {lv : List (Nat × AV)} (hl : lle lv [(0, vr (some a0)), (1, vi x1), (2, vi x2)]) : V G X 3 h0 Q h 24 lv [] := by
  refine V.sub hl ?_
  unfold X7_lasts_24b at hf
  refine v_iload_n ok 2 dX7_lasts_24 rfl rfl ?_
  refine v_bipush ok 60 dX7_lasts_25 rfl ?_
  refine v_icmp_ge ok 63 dX7_lasts_27 rfl hf (fun hf => ?_) (fun hf => ?_)
  ·
    obtain ⟨o, ho, hz⟩ := ob hf
    cases hz; exact W_X7_lasts_63 ok hr hd ho hk ⟨rfl, rfl, trivial⟩
  ·
    refine v_aload_n ok 0 dX7_lasts_30 rfl rfl ?_
    refine v_gR ok fl_X7_132 (by first | exact Or.inl ⟨_, rfl⟩ | exact Or.inr ⟨_, rfl⟩) dX7_lasts_31 hf (fun v2 hf => ?_)
    refine v_iconst ok 0 dX7_lasts_34 rfl ?_
    refine v_iald ok rfl dX7_lasts_35 hf (fun v3 hf => ?_)
    refine v_sipush ok 999 dX7_lasts_36 rfl ?_
    refine v_icmp_ge ok 63 dX7_lasts_39 rfl hf (fun hf => ?_) (fun hf => ?_)
    ·
      obtain ⟨o, ho, hz⟩ := ob hf
      cases hz; exact W_X7_lasts_63 ok hr hd ho hk ⟨rfl, rfl, trivial⟩
    ·
      refine v_aload_n ok 0 dX7_lasts_42 rfl rfl ?_
      refine v_cVv ok (RX7, TX7, 117) cf_7.1 [] (F := fun a => X7_yearGoes a h) (fun a h1 _ hv => M_X7_yearGoes ok.2.2.2.2.2.2.1 (d := 9) (Nat.le_refl _) hv) (by exact Nat.le_trans (by decide) hd) cw_X7_yearGoes q2512 q2514 qs137 dX7_lasts_43 [] rfl (Nat.le_of_ble_eq_true rfl) hf (fun h4 hf => ?_)
      refine v_aload_n ok 0 dX7_lasts_46 rfl rfl ?_
      refine v_iload_n ok 1 dX7_lasts_47 rfl rfl ?_
      refine v_cVi ok (RX7, TX7, 117) cf_7.1 [vi x1] (F := fun a => X7_doesSay a x1 h4) (fun a v h1 _ hv => M_X7_doesSay ok.2.2.2.2.2.2.1 (d := 8) (Nat.le_refl _) hv) (by exact Nat.le_trans (by decide) hd) cw_X7_doesSay q2603 q2605 qs152 dX7_lasts_48 [] rfl (Nat.le_of_ble_eq_true rfl) hf (fun v5 h6 hf => ?_)
      refine v_if_ne ok 57 dX7_lasts_51 rfl hf (fun hf => ?_) (fun hf => ?_)
      ·
        refine v_iinc ok x2 (x2 + 1) dX7_lasts_57 rfl rfl (by decide) ?_
        refine v_goto ok 24 dX7_lasts_60 rfl ?_
        cases hf; exact hk _ ⟨rfl, rfl, rfl, trivial⟩
      ·
        obtain ⟨o, ho, hz⟩ := ob hf
        cases hz; exact W_X7_lasts_54 ok hr hd ho hk ⟨rfl, rfl, trivial⟩
theorem W_X7_lasts_24 {G : GT} {X : CX} {d : Nat} {h0 : AH} {Q : State → Prop} (ok : Ok G X RX7 cX7_lasts 3 d h0) (hr : (cxm X).sig.returnType = (Option.some Jvm.ClassFile.FieldType.int)) (hd : 10 ≤ d) {a0 : Nat} {x1 : Int32} {x2 : Int32} {h : AH} {z : (Int32 × AH)} (hf : X7_lasts_24  a0 x1 x2 h = some z) (hk : Q = QM G X h0 (some (vi z.1)) z.2) {lv : List (Nat × AV)} (hl : lle lv [(0, vr (some a0)), (1, vi x1), (2, vi x2)]) : V G X 3 h0 Q h 24 lv [] := by
  unfold X7_lasts_24 at hf
  exact loopC_walk (Wh := fun s : Int32 × AH => ∀ lv : List (Nat × AV), lle lv [(0, vr (some a0)), (1, vi x1), (2, vi s.1)] → V G X 3 h0 Q s.2 24 lv []) (PK := fun z => Q = QM G X h0 (some (vi z.1)) z.2) (fun s o hf hk lv hl => W_X7_lasts_24b ok hr hd hf (by cases o <;> exact hk) hl) _ z hf hk lv hl
theorem W_X7_lasts {G : GT} {X : CX} {d : Nat} {h0 : AH} {Q : State → Prop} (ok : Ok G X RX7 cX7_lasts 3 d h0) (hr : (cxm X).sig.returnType = (Option.some Jvm.ClassFile.FieldType.int)) (hd : 10 ≤ d) {a0 : Nat} {x1 : Int32} {h : AH} {z : (Int32 × AH)} (hf : X7_lasts a0 x1 h = some z) (hk : Q = QM G X h0 (some (vi z.1)) z.2) {lv : List (Nat × AV)} (hl : lle lv [(0, vr (some a0)), (1, vi x1)]) : V G X 3 h0 Q h 0 lv [] := by
  refine V.sub hl ?_
  unfold X7_lasts at hf
  refine v_aload_n ok 0 dX7_lasts_0 rfl rfl ?_
  refine v_iload_n ok 1 dX7_lasts_1 rfl rfl ?_
  refine v_cVi ok (RX7, TX7, 117) cf_7.1 [vi x1] (F := fun a => X7_isBoard a x1 h) (fun a v h1 _ hv => M_X7_isBoard ok.2.2.2.2.2.2.1 (d := 2) (Nat.le_refl _) hv) (by exact Nat.le_trans (by decide) hd) cw_X7_isBoard q2409 q2411 qs121 dX7_lasts_2 [] rfl (Nat.le_of_ble_eq_true rfl) hf (fun v7 h8 hf => ?_)
  refine v_if_eq ok 16 dX7_lasts_5 rfl hf (fun hf => ?_) (fun hf => ?_)
  ·
    refine v_iconst ok (-1) dX7_lasts_16 rfl ?_
    exact v_iret ok hr (by cases hf; exact hk) dX7_lasts_17
  ·
    refine v_aload_n ok 0 dX7_lasts_8 rfl rfl ?_
    refine v_iload_n ok 1 dX7_lasts_9 rfl rfl ?_
    refine v_cVi ok (RX7, TX7, 117) cf_7.1 [vi x1] (F := fun a => X7_doesSay a x1 h8) (fun a v h1 _ hv => M_X7_doesSay ok.2.2.2.2.2.2.1 (d := 8) (Nat.le_refl _) hv) (by exact Nat.le_trans (by decide) hd) cw_X7_doesSay q2603 q2605 qs152 dX7_lasts_10 [] rfl (Nat.le_of_ble_eq_true rfl) hf (fun v9 h10 hf => ?_)
    refine v_if_ne ok 18 dX7_lasts_13 rfl hf (fun hf => ?_) (fun hf => ?_)
    ·
      refine v_iconst ok 0 dX7_lasts_18 rfl ?_
      refine v_istore_n ok 2 dX7_lasts_19 rfl (by decide) ?_
      refine v_aload_n ok 0 dX7_lasts_20 rfl rfl ?_
      refine v_cVv ok (RX7, TX7, 117) cf_7.1 [] (F := fun a => X7_putsAside a h10) (fun a h1 _ hv => M_X7_putsAside ok.2.2.2.2.2.2.1 (d := 1) (Nat.le_refl _) hv) (by exact Nat.le_trans (by decide) hd) cw_X7_putsAside q2500 q2502 qs134 dX7_lasts_21 [] rfl (Nat.le_of_ble_eq_true rfl) hf (fun h11 hf => ?_)
      exact W_X7_lasts_24 ok hr hd hf hk ⟨rfl, rfl, rfl, trivial⟩
    ·
      refine v_iconst ok (-1) dX7_lasts_16 rfl ?_
      exact v_iret ok hr (by cases hf; exact hk) dX7_lasts_17
theorem M_X7_lasts {G : GT} {l : Launch} (hG : Glob G) {d : Nat} (hd : 10 ≤ d) {a0 : Nat} {x1 : Int32} {h : AH} {v : Int32} {h' : AH} (hf : X7_lasts a0 x1 h = some (v, h')) : MM G l yX7_lasts cX7_lasts 3 (Option.some Jvm.ClassFile.FieldType.int) d [vr (some a0), vi x1] h (some (vi v)) h' := by
  refine mm_of hG (plainFor_of_name (by decide)) (Nat.le_of_ble_eq_true rfl) (fun X hX ok hr hnm => ?_)
  subst hX
  exact W_X7_lasts ok hr hd hf rfl ⟨rfl, rfl, trivial⟩
theorem cw_X7_mend : CW yX7_mend cX7_mend 8 (Option.some Jvm.ClassFile.FieldType.int) 3 := ⟨q2610, q185, ⟨by decide, by decide⟩, by decide +kernel, by decide⟩
def pkX7_mend_65 (G : GT) (X : CX) (h0 : AH) (Q : State → Prop) (a0 : Nat) (x3 : Int32) (x4 : Int32) (o : ((Int32 × Int32 × Int32 × AH) ⊕ (Int32 × AH))) : Prop := match o with
  | .inl s => ∀ lv : List (Nat × AV), lle lv [(0, vr (some a0)), (3, vi x3), (4, vi x4), (5, vi s.1), (6, vi s.2.1), (7, vi s.2.2.1)] → V G X 8 h0 Q s.2.2.2 65 lv []
  | .inr z => Q = QM G X h0 (some (vi z.1)) z.2
theorem W_X7_mend_65b {G : GT} {X : CX} {d : Nat} {h0 : AH} {Q : State → Prop} (ok : Ok G X RX7 cX7_mend 8 d h0) (hr : (cxm X).sig.returnType = (Option.some Jvm.ClassFile.FieldType.int)) (hd : 8 ≤ d) {a0 : Nat} {x3 : Int32} {x4 : Int32} {x5 : Int32} {x6 : Int32} {x7 : Int32} {h : AH} {z : ((Int32 × Int32 × Int32 × AH) ⊕ (Int32 × AH))} (hf : X7_mend_65b  a0 x3 x4 x5 x6 x7 h = some z) (hk : pkX7_mend_65 G X h0 Q a0 x3 x4 z) {lv : List (Nat × AV)} (hl : lle lv [(0, vr (some a0)), (3, vi x3), (4, vi x4), (5, vi x5), (6, vi x6), (7, vi x7)]) : V G X 8 h0 Q h 65 lv [] := by
  refine V.sub hl ?_
  unfold X7_mend_65b at hf
  refine v_iload ok dX7_mend_65 rfl ?_
  refine v_bipush ok 15 dX7_mend_67 rfl ?_
  refine v_icmp_ge ok 140 dX7_mend_69 rfl hf (fun hf => ?_) (fun hf => ?_)
  ·
    refine v_iconst ok (-1) dX7_mend_140 rfl ?_
    exact v_iret ok hr (by cases hf; exact hk) dX7_mend_141
  ·
    refine v_iload ok dX7_mend_72 rfl ?_
    refine v_iload ok dX7_mend_74 rfl ?_
    refine v_ishr ok dX7_mend_76 ?_
    refine v_iconst ok 1 dX7_mend_77 rfl ?_
    refine v_iand ok dX7_mend_78 ?_
    refine v_iconst ok 1 dX7_mend_79 rfl ?_
    refine v_icmp_eq ok 134 dX7_mend_80 rfl hf (fun hf => ?_) (fun hf => ?_)
    ·
      refine v_iinc ok x7 (x7 + 1) dX7_mend_134 rfl rfl (by decide) ?_
      refine v_goto ok 65 dX7_mend_137 rfl ?_
      cases hf; exact hk _ ⟨rfl, rfl, rfl, rfl, rfl, rfl, trivial⟩
    ·
      refine v_aload_n ok 0 dX7_mend_83 rfl rfl ?_
      refine v_iload ok dX7_mend_84 rfl ?_
      refine v_iload_n ok 3 dX7_mend_86 rfl rfl ?_
      refine v_cVi ok (RX7, TX7, 117) cf_7.1 [vi x4, vi x3] (F := fun a => X7_glyphOf a x4 x3 h) (fun a v h1 _ hv => M_X7_glyphOf ok.2.2.2.2.2.2.1 (d := 1) (Nat.le_refl _) hv) (by exact Nat.le_trans (by decide) hd) cw_X7_glyphOf q2353 q2355 qs113 dX7_mend_87 [] rfl (Nat.le_of_ble_eq_true rfl) hf (fun v1 h2 hf => ?_)
      refine v_iload ok dX7_mend_90 rfl ?_
      refine v_ishr ok dX7_mend_92 ?_
      refine v_iconst ok 1 dX7_mend_93 rfl ?_
      refine v_iand ok dX7_mend_94 ?_
      refine v_if_ne ok 101 dX7_mend_95 rfl hf (fun hf => ?_) (fun hf => ?_)
      ·
        refine v_iload ok dX7_mend_101 rfl ?_
        refine v_iconst ok 1 dX7_mend_103 rfl ?_
        refine v_iload ok dX7_mend_104 rfl ?_
        refine v_ishl ok dX7_mend_106 ?_
        refine v_ior ok dX7_mend_107 ?_
        refine v_istore ok dX7_mend_108 (by decide) ?_
        refine v_iinc ok x6 (x6 + 1) dX7_mend_110 rfl rfl (by decide) ?_
        refine v_aload_n ok 0 dX7_mend_113 rfl rfl ?_
        refine v_iload ok dX7_mend_114 rfl ?_
        refine v_iload ok dX7_mend_116 rfl ?_
        refine v_cVi ok (RX7, TX7, 117) cf_7.1 [vi x4, vi (x5 ||| (jshl 1 x7))] (F := fun a => X7_readAs a x4 (x5 ||| (jshl 1 x7)) h2) (fun a v h1 _ hv => M_X7_readAs ok.2.2.2.2.2.2.1 (d := 7) (Nat.le_refl _) hv) (by exact Nat.le_trans (by decide) hd) cw_X7_readAs q2488 q2490 qs132 dX7_mend_118 [] rfl (Nat.le_of_ble_eq_true rfl) hf (fun v3 h4 hf => ?_)
        refine v_aload_n ok 0 dX7_mend_121 rfl rfl ?_
        refine v_iload ok dX7_mend_122 rfl ?_
        refine v_iload_n ok 3 dX7_mend_124 rfl rfl ?_
        refine v_cVi ok (RX7, TX7, 117) cf_7.1 [vi x4, vi x3] (F := fun a => X7_nameOf a x4 x3 h4) (fun a v h1 _ hv => M_X7_nameOf ok.2.2.2.2.2.2.1 (d := 1) (Nat.le_refl _) hv) (by exact Nat.le_trans (by decide) hd) cw_X7_nameOf q2349 q2351 qs112 dX7_mend_125 [vi v3] rfl (Nat.le_of_ble_eq_true rfl) hf (fun v5 h6 hf => ?_)
        refine v_icmp_ne ok 134 dX7_mend_128 rfl hf (fun hf => ?_) (fun hf => ?_)
        ·
          refine v_iinc ok x7 (x7 + 1) dX7_mend_134 rfl rfl (by decide) ?_
          refine v_goto ok 65 dX7_mend_137 rfl ?_
          cases hf; exact hk _ ⟨rfl, rfl, rfl, rfl, rfl, rfl, trivial⟩
        ·
          refine v_iload ok dX7_mend_131 rfl ?_
          exact v_iret ok hr (by cases hf; exact hk) dX7_mend_133
      ·
        refine v_goto ok 134 dX7_mend_98 rfl ?_
        refine v_iinc ok x7 (x7 + 1) dX7_mend_134 rfl rfl (by decide) ?_
        refine v_goto ok 65 dX7_mend_137 rfl ?_
        cases hf; exact hk _ ⟨rfl, rfl, rfl, rfl, rfl, rfl, trivial⟩
theorem W_X7_mend_65 {G : GT} {X : CX} {d : Nat} {h0 : AH} {Q : State → Prop} (ok : Ok G X RX7 cX7_mend 8 d h0) (hr : (cxm X).sig.returnType = (Option.some Jvm.ClassFile.FieldType.int)) (hd : 8 ≤ d) {a0 : Nat} {x3 : Int32} {x4 : Int32} {x5 : Int32} {x6 : Int32} {x7 : Int32} {h : AH} {z : (Int32 × AH)} (hf : X7_mend_65  a0 x3 x4 x5 x6 x7 h = some z) (hk : Q = QM G X h0 (some (vi z.1)) z.2) {lv : List (Nat × AV)} (hl : lle lv [(0, vr (some a0)), (3, vi x3), (4, vi x4), (5, vi x5), (6, vi x6), (7, vi x7)]) : V G X 8 h0 Q h 65 lv [] := by
  unfold X7_mend_65 at hf
  exact loopC_walk (Wh := fun s : Int32 × Int32 × Int32 × AH => ∀ lv : List (Nat × AV), lle lv [(0, vr (some a0)), (3, vi x3), (4, vi x4), (5, vi s.1), (6, vi s.2.1), (7, vi s.2.2.1)] → V G X 8 h0 Q s.2.2.2 65 lv []) (PK := fun z => Q = QM G X h0 (some (vi z.1)) z.2) (fun s o hf hk lv hl => W_X7_mend_65b ok hr hd hf (by cases o <;> exact hk) hl) _ z hf hk lv hl
theorem W_X7_mend {G : GT} {X : CX} {d : Nat} {h0 : AH} {Q : State → Prop} (ok : Ok G X RX7 cX7_mend 8 d h0) (hr : (cxm X).sig.returnType = (Option.some Jvm.ClassFile.FieldType.int)) (hd : 8 ≤ d) {a0 : Nat} {x1 : Int32} {x2 : Int32} {x3 : Int32} {h : AH} {z : (Int32 × AH)} (hf : X7_mend a0 x1 x2 x3 h = some z) (hk : Q = QM G X h0 (some (vi z.1)) z.2) {lv : List (Nat × AV)} (hl : lle lv [(0, vr (some a0)), (1, vi x1), (2, vi x2), (3, vi x3)]) : V G X 8 h0 Q h 0 lv [] := by
  refine V.sub hl ?_
  unfold X7_mend at hf
  refine v_aload_n ok 0 dX7_mend_0 rfl rfl ?_
  refine v_iload_n ok 1 dX7_mend_1 rfl rfl ?_
  refine v_iload_n ok 2 dX7_mend_2 rfl rfl ?_
  refine v_cVi ok (RX7, TX7, 117) cf_7.1 [vi x1, vi x2] (F := fun a => X7_isPlace a x1 x2 h) (fun a v h1 _ hv => M_X7_isPlace ok.2.2.2.2.2.2.1 (d := 3) (Nat.le_refl _) hv) (by exact Nat.le_trans (by decide) hd) cw_X7_isPlace q2425 q2427 qs124 dX7_mend_3 [] rfl (Nat.le_of_ble_eq_true rfl) hf (fun v7 h8 hf => ?_)
  refine v_if_eq ok 22 dX7_mend_6 rfl hf (fun hf => ?_) (fun hf => ?_)
  ·
    refine v_iconst ok (-1) dX7_mend_22 rfl ?_
    exact v_iret ok hr (by cases hf; exact hk) dX7_mend_23
  ·
    refine v_aload_n ok 0 dX7_mend_9 rfl rfl ?_
    refine v_aload_n ok 0 dX7_mend_10 rfl rfl ?_
    refine v_iload_n ok 1 dX7_mend_11 rfl rfl ?_
    refine v_cVi ok (RX7, TX7, 117) cf_7.1 [vi x1] (F := fun a => X7_handOf a x1 h8) (fun a v h1 _ hv => M_X7_handOf ok.2.2.2.2.2.2.1 (d := 1) (Nat.le_refl _) hv) (by exact Nat.le_trans (by decide) hd) cw_X7_handOf q2417 q2419 qs123 dX7_mend_12 [vr (some a0)] rfl (Nat.le_of_ble_eq_true rfl) hf (fun v9 h10 hf => ?_)
    refine v_iload_n ok 3 dX7_mend_15 rfl rfl ?_
    refine v_cVi ok (RX7, TX7, 117) cf_7.1 [vi v9, vi x3] (F := fun a => X7_isLetterOf a v9 x3 h10) (fun a v h1 _ hv => M_X7_isLetterOf ok.2.2.2.2.2.2.1 (d := 3) (Nat.le_refl _) hv) (by exact Nat.le_trans (by decide) hd) cw_X7_isLetterOf q2388 q2390 qs118 dX7_mend_16 [] rfl (Nat.le_of_ble_eq_true rfl) hf (fun v11 h12 hf => ?_)
    refine v_if_ne ok 24 dX7_mend_19 rfl hf (fun hf => ?_) (fun hf => ?_)
    ·
      refine v_aload_n ok 0 dX7_mend_24 rfl rfl ?_
      refine v_iload_n ok 1 dX7_mend_25 rfl rfl ?_
      refine v_cVi ok (RX7, TX7, 117) cf_7.1 [vi x1] (F := fun a => X7_handOf a x1 h12) (fun a v h1 _ hv => M_X7_handOf ok.2.2.2.2.2.2.1 (d := 1) (Nat.le_refl _) hv) (by exact Nat.le_trans (by decide) hd) cw_X7_handOf q2417 q2419 qs123 dX7_mend_26 [] rfl (Nat.le_of_ble_eq_true rfl) hf (fun v13 h14 hf => ?_)
      refine v_istore ok dX7_mend_29 (by decide) ?_
      refine v_aload_n ok 0 dX7_mend_31 rfl rfl ?_
      refine v_iload_n ok 1 dX7_mend_32 rfl rfl ?_
      refine v_iload_n ok 2 dX7_mend_33 rfl rfl ?_
      refine v_cVi ok (RX7, TX7, 117) cf_7.1 [vi x1, vi x2] (F := fun a => X7_glyphAt a x1 x2 h14) (fun a v h1 _ hv => M_X7_glyphAt ok.2.2.2.2.2.2.1 (d := 1) (Nat.le_refl _) hv) (by exact Nat.le_trans (by decide) hd) cw_X7_glyphAt q2377 q2379 qs117 dX7_mend_34 [] rfl (Nat.le_of_ble_eq_true rfl) hf (fun v15 h16 hf => ?_)
      refine v_istore ok dX7_mend_37 (by decide) ?_
      refine v_iconst ok 0 dX7_mend_39 rfl ?_
      refine v_istore ok dX7_mend_40 (by decide) ?_
      refine v_aload_n ok 0 dX7_mend_42 rfl rfl ?_
      refine v_iload ok dX7_mend_43 rfl ?_
      refine v_iload ok dX7_mend_45 rfl ?_
      refine v_cVi ok (RX7, TX7, 117) cf_7.1 [vi v13, vi v15] (F := fun a => X7_readAs a v13 v15 h16) (fun a v h1 _ hv => M_X7_readAs ok.2.2.2.2.2.2.1 (d := 7) (Nat.le_refl _) hv) (by exact Nat.le_trans (by decide) hd) cw_X7_readAs q2488 q2490 qs132 dX7_mend_47 [] rfl (Nat.le_of_ble_eq_true rfl) hf (fun v17 h18 hf => ?_)
      refine v_aload_n ok 0 dX7_mend_50 rfl rfl ?_
      refine v_iload ok dX7_mend_51 rfl ?_
      refine v_iload_n ok 3 dX7_mend_53 rfl rfl ?_
      refine v_cVi ok (RX7, TX7, 117) cf_7.1 [vi v13, vi x3] (F := fun a => X7_nameOf a v13 x3 h18) (fun a v h1 _ hv => M_X7_nameOf ok.2.2.2.2.2.2.1 (d := 1) (Nat.le_refl _) hv) (by exact Nat.le_trans (by decide) hd) cw_X7_nameOf q2349 q2351 qs112 dX7_mend_54 [vi v17] rfl (Nat.le_of_ble_eq_true rfl) hf (fun v19 h20 hf => ?_)
      refine v_icmp_ne ok 62 dX7_mend_57 rfl hf (fun hf => ?_) (fun hf => ?_)
      ·
        refine v_iconst ok 0 dX7_mend_62 rfl ?_
        refine v_istore ok dX7_mend_63 (by decide) ?_
        exact W_X7_mend_65 ok hr hd hf hk ⟨rfl, rfl, rfl, rfl, rfl, rfl, trivial⟩
      ·
        refine v_iconst ok 0 dX7_mend_60 rfl ?_
        exact v_iret ok hr (by cases hf; exact hk) dX7_mend_61
    ·
      refine v_iconst ok (-1) dX7_mend_22 rfl ?_
      exact v_iret ok hr (by cases hf; exact hk) dX7_mend_23
theorem M_X7_mend {G : GT} {l : Launch} (hG : Glob G) {d : Nat} (hd : 8 ≤ d) {a0 : Nat} {x1 : Int32} {x2 : Int32} {x3 : Int32} {h : AH} {v : Int32} {h' : AH} (hf : X7_mend a0 x1 x2 x3 h = some (v, h')) : MM G l yX7_mend cX7_mend 8 (Option.some Jvm.ClassFile.FieldType.int) d [vr (some a0), vi x1, vi x2, vi x3] h (some (vi v)) h' := by
  refine mm_of hG (plainFor_of_name (by decide)) (Nat.le_of_ble_eq_true rfl) (fun X hX ok hr hnm => ?_)
  subst hX
  exact W_X7_mend ok hr hd hf rfl ⟨rfl, rfl, rfl, rfl, trivial⟩
theorem cw_X7_undo : CW yX7_undo cX7_undo 2 (Option.some Jvm.ClassFile.FieldType.boolean) 0 := ⟨q2614, q185, ⟨by decide, by decide⟩, by decide +kernel, by decide⟩
def pkX7_undo_21 (G : GT) (X : CX) (h0 : AH) (Q : State → Prop) (a0 : Nat) (o : ((Int32 × AH) ⊕ (Int32 × AH))) : Prop := match o with
  | .inl s => ∀ lv : List (Nat × AV), lle lv [(0, vr (some a0)), (1, vi s.1)] → V G X 2 h0 Q s.2 21 lv []
  | .inr z => Q = QM G X h0 (some (vi z.1)) z.2
theorem W_X7_undo_55 {G : GT} {X : CX} {d : Nat} {h0 : AH} {Q : State → Prop} (ok : Ok G X RX7 cX7_undo 2 d h0) (hr : (cxm X).sig.returnType = (Option.some Jvm.ClassFile.FieldType.boolean)) (hd : 1 ≤ d) {a0 : Nat} {h : AH} {z : (Int32 × AH)} (hf : X7_undo_55 a0 h = some z) (hk : Q = QM G X h0 (some (vi z.1)) z.2) {lv : List (Nat × AV)} (hl : lle lv [(0, vr (some a0))]) : V G X 2 h0 Q h 55 lv [] := by
  refine V.sub hl ?_
  unfold X7_undo_55 at hf
  refine v_aload_n ok 0 dX7_undo_55 rfl rfl ?_
  refine v_aload_n ok 0 dX7_undo_56 rfl rfl ?_
  refine v_gI ok fl_X7_596 (fun _ _ _ => rfl) dX7_undo_57 hf (fun v1 hf => ?_)
  refine v_bipush ok 20 dX7_undo_60 rfl ?_
  refine v_iadd ok dX7_undo_62 ?_
  refine v_iconst ok 1 dX7_undo_63 rfl ?_
  refine v_isub ok dX7_undo_64 ?_
  refine v_bipush ok 20 dX7_undo_65 rfl ?_
  refine v_irem ok dX7_undo_67 hf (fun hf => ?_)
  refine v_pI ok fl_X7_596 ⟨fun _ _ _ => rfl, rfl⟩ (FN.of cf_7.1 rfl) dX7_undo_68 hf (fun h2 hf => ?_)
  refine v_aload_n ok 0 dX7_undo_71 rfl rfl ?_
  refine v_dup ok dX7_undo_72 rfl ?_
  refine v_gI ok fl_X7_402 (fun _ _ _ => rfl) dX7_undo_73 hf (fun v3 hf => ?_)
  refine v_iconst ok 1 dX7_undo_76 rfl ?_
  refine v_isub ok dX7_undo_77 ?_
  refine v_pI ok fl_X7_402 ⟨fun _ _ _ => rfl, rfl⟩ (FN.of cf_7.1 rfl) dX7_undo_78 hf (fun h4 hf => ?_)
  refine v_iconst ok 1 dX7_undo_81 rfl ?_
  exact v_zretL ok hr (by decide) (by decide) (by cases hf; exact hk) dX7_undo_82
theorem W_X7_undo_21b {G : GT} {X : CX} {d : Nat} {h0 : AH} {Q : State → Prop} (ok : Ok G X RX7 cX7_undo 2 d h0) (hr : (cxm X).sig.returnType = (Option.some Jvm.ClassFile.FieldType.boolean)) (hd : 1 ≤ d) {a0 : Nat} {x1 : Int32} {h : AH} {z : ((Int32 × AH) ⊕ (Int32 × AH))} (hf : X7_undo_21b  a0 x1 h = some z) (hk : pkX7_undo_21 G X h0 Q a0 z) {lv : List (Nat × AV)} (hl : lle lv [(0, vr (some a0)), (1, vi x1)]) : V G X 2 h0 Q h 21 lv [] := by
  refine V.sub hl ?_
  unfold X7_undo_21b at hf
  refine v_iload_n ok 1 dX7_undo_21 rfl rfl ?_
  refine v_sipush ok 154 dX7_undo_22 rfl ?_
  refine v_icmp_ge ok 55 dX7_undo_25 rfl hf (fun hf => ?_) (fun hf => ?_)
  ·
    obtain ⟨o, ho, hz⟩ := ob hf
    cases hz; exact W_X7_undo_55 ok hr hd ho hk ⟨rfl, trivial⟩
  ·
    refine v_aload_n ok 0 dX7_undo_28 rfl rfl ?_
    refine v_gR ok fl_X7_132 (by first | exact Or.inl ⟨_, rfl⟩ | exact Or.inr ⟨_, rfl⟩) dX7_undo_29 hf (fun v5 hf => ?_)
    refine v_iload_n ok 1 dX7_undo_32 rfl rfl ?_
    refine v_aload_n ok 0 dX7_undo_33 rfl rfl ?_
    refine v_gR ok fl_X7_162 (by first | exact Or.inl ⟨_, rfl⟩ | exact Or.inr ⟨_, rfl⟩) dX7_undo_34 hf (fun v6 hf => ?_)
    refine v_sipush ok 154 dX7_undo_37 rfl ?_
    refine v_aload_n ok 0 dX7_undo_40 rfl rfl ?_
    refine v_gI ok fl_X7_596 (fun _ _ _ => rfl) dX7_undo_41 hf (fun v7 hf => ?_)
    refine v_imul ok dX7_undo_44 ?_
    refine v_iload_n ok 1 dX7_undo_45 rfl rfl ?_
    refine v_iadd ok dX7_undo_46 ?_
    refine v_iald ok rfl dX7_undo_47 hf (fun v8 hf => ?_)
    refine v_iast ok rfl dX7_undo_48 hf (fun h9 hf => ?_)
    refine v_iinc ok x1 (x1 + 1) dX7_undo_49 rfl rfl (by decide) ?_
    refine v_goto ok 21 dX7_undo_52 rfl ?_
    cases hf; exact hk _ ⟨rfl, rfl, trivial⟩
theorem W_X7_undo_21 {G : GT} {X : CX} {d : Nat} {h0 : AH} {Q : State → Prop} (ok : Ok G X RX7 cX7_undo 2 d h0) (hr : (cxm X).sig.returnType = (Option.some Jvm.ClassFile.FieldType.boolean)) (hd : 1 ≤ d) {a0 : Nat} {x1 : Int32} {h : AH} {z : (Int32 × AH)} (hf : X7_undo_21  a0 x1 h = some z) (hk : Q = QM G X h0 (some (vi z.1)) z.2) {lv : List (Nat × AV)} (hl : lle lv [(0, vr (some a0)), (1, vi x1)]) : V G X 2 h0 Q h 21 lv [] := by
  unfold X7_undo_21 at hf
  exact loopC_walk (Wh := fun s : Int32 × AH => ∀ lv : List (Nat × AV), lle lv [(0, vr (some a0)), (1, vi s.1)] → V G X 2 h0 Q s.2 21 lv []) (PK := fun z => Q = QM G X h0 (some (vi z.1)) z.2) (fun s o hf hk lv hl => W_X7_undo_21b ok hr hd hf (by cases o <;> exact hk) hl) _ z hf hk lv hl
theorem W_X7_undo {G : GT} {X : CX} {d : Nat} {h0 : AH} {Q : State → Prop} (ok : Ok G X RX7 cX7_undo 2 d h0) (hr : (cxm X).sig.returnType = (Option.some Jvm.ClassFile.FieldType.boolean)) (hd : 1 ≤ d) {a0 : Nat} {h : AH} {z : (Int32 × AH)} (hf : X7_undo a0 h = some z) (hk : Q = QM G X h0 (some (vi z.1)) z.2) {lv : List (Nat × AV)} (hl : lle lv [(0, vr (some a0))]) : V G X 2 h0 Q h 0 lv [] := by
  refine V.sub hl ?_
  unfold X7_undo at hf
  refine v_aload_n ok 0 dX7_undo_0 rfl rfl ?_
  refine v_gI ok fl_X7_402 (fun _ _ _ => rfl) dX7_undo_1 hf (fun v10 hf => ?_)
  refine v_if_ne ok 19 dX7_undo_4 rfl hf (fun hf => ?_) (fun hf => ?_)
  ·
    refine v_iconst ok 0 dX7_undo_19 rfl ?_
    refine v_istore_n ok 1 dX7_undo_20 rfl (by decide) ?_
    exact W_X7_undo_21 ok hr hd hf hk ⟨rfl, rfl, trivial⟩
  ·
    refine v_aload_n ok 0 dX7_undo_7 rfl rfl ?_
    refine v_gR ok fl_X7_17 (by first | exact Or.inl ⟨_, rfl⟩ | exact Or.inr ⟨_, rfl⟩) dX7_undo_8 hf (fun v11 hf => ?_)
    refine v_iconst ok 4 dX7_undo_11 rfl ?_
    refine v_dup2 ok dX7_undo_12 rfl rfl ?_
    refine v_iald ok rfl dX7_undo_13 hf (fun v12 hf => ?_)
    refine v_iconst ok 1 dX7_undo_14 rfl ?_
    refine v_iadd ok dX7_undo_15 ?_
    refine v_iast ok rfl dX7_undo_16 hf (fun h13 hf => ?_)
    refine v_iconst ok 0 dX7_undo_17 rfl ?_
    exact v_zretL ok hr (by decide) (by decide) (by cases hf; exact hk) dX7_undo_18
theorem M_X7_undo {G : GT} {l : Launch} (hG : Glob G) {d : Nat} (hd : 1 ≤ d) {a0 : Nat} {h : AH} {v : Int32} {h' : AH} (hf : X7_undo a0 h = some (v, h')) : MM G l yX7_undo cX7_undo 2 (Option.some Jvm.ClassFile.FieldType.boolean) d [vr (some a0)] h (some (vi v)) h' := by
  refine mm_of hG (plainFor_of_name (by decide)) (Nat.le_of_ble_eq_true rfl) (fun X hX ok hr hnm => ?_)
  subst hX
  exact W_X7_undo ok hr hd hf rfl ⟨rfl, trivial⟩
theorem cw_X7_keeps : CW yX7_keeps cX7_keeps 2 none 0 := ⟨q2626, q185, ⟨by decide, by decide⟩, by decide +kernel, by decide⟩
def pkX7_keeps_15 (G : GT) (X : CX) (h0 : AH) (Q : State → Prop) (a0 : Nat) (o : ((Int32 × AH) ⊕ (AH))) : Prop := match o with
  | .inl s => ∀ lv : List (Nat × AV), lle lv [(0, vr (some a0)), (1, vi s.1)] → V G X 2 h0 Q s.2 15 lv []
  | .inr z => Q = QM G X h0 none z
theorem W_X7_keeps_49 {G : GT} {X : CX} {d : Nat} {h0 : AH} {Q : State → Prop} (ok : Ok G X RX7 cX7_keeps 2 d h0) (hr : (cxm X).sig.returnType = none) (hd : 1 ≤ d) {a0 : Nat} {h : AH} {z : (AH)} (hf : X7_keeps_49 a0 h = some z) (hk : Q = QM G X h0 none z) {lv : List (Nat × AV)} (hl : lle lv [(0, vr (some a0))]) : V G X 2 h0 Q h 49 lv [] := by
  refine V.sub hl ?_
  unfold X7_keeps_49 at hf
  refine v_aload_n ok 0 dX7_keeps_49 rfl rfl ?_
  refine v_gI ok fl_X7_402 (fun _ _ _ => rfl) dX7_keeps_50 hf (fun v1 hf => ?_)
  refine v_bipush ok 20 dX7_keeps_53 rfl ?_
  refine v_icmp_ge ok 68 dX7_keeps_55 rfl hf (fun hf => ?_) (fun hf => ?_)
  ·
    exact v_vret ok hr (by cases hf; exact hk) dX7_keeps_68
  ·
    refine v_aload_n ok 0 dX7_keeps_58 rfl rfl ?_
    refine v_dup ok dX7_keeps_59 rfl ?_
    refine v_gI ok fl_X7_402 (fun _ _ _ => rfl) dX7_keeps_60 hf (fun v2 hf => ?_)
    refine v_iconst ok 1 dX7_keeps_63 rfl ?_
    refine v_iadd ok dX7_keeps_64 ?_
    refine v_pI ok fl_X7_402 ⟨fun _ _ _ => rfl, rfl⟩ (FN.of cf_7.1 rfl) dX7_keeps_65 hf (fun h3 hf => ?_)
    exact v_vret ok hr (by cases hf; exact hk) dX7_keeps_68
theorem W_X7_keeps_15b {G : GT} {X : CX} {d : Nat} {h0 : AH} {Q : State → Prop} (ok : Ok G X RX7 cX7_keeps 2 d h0) (hr : (cxm X).sig.returnType = none) (hd : 1 ≤ d) {a0 : Nat} {x1 : Int32} {h : AH} {z : ((Int32 × AH) ⊕ (AH))} (hf : X7_keeps_15b  a0 x1 h = some z) (hk : pkX7_keeps_15 G X h0 Q a0 z) {lv : List (Nat × AV)} (hl : lle lv [(0, vr (some a0)), (1, vi x1)]) : V G X 2 h0 Q h 15 lv [] := by
  refine V.sub hl ?_
  unfold X7_keeps_15b at hf
  refine v_iload_n ok 1 dX7_keeps_15 rfl rfl ?_
  refine v_sipush ok 154 dX7_keeps_16 rfl ?_
  refine v_icmp_ge ok 49 dX7_keeps_19 rfl hf (fun hf => ?_) (fun hf => ?_)
  ·
    obtain ⟨o, ho, hz⟩ := ob hf
    cases hz; exact W_X7_keeps_49 ok hr hd ho hk ⟨rfl, trivial⟩
  ·
    refine v_aload_n ok 0 dX7_keeps_22 rfl rfl ?_
    refine v_gR ok fl_X7_162 (by first | exact Or.inl ⟨_, rfl⟩ | exact Or.inr ⟨_, rfl⟩) dX7_keeps_23 hf (fun v4 hf => ?_)
    refine v_sipush ok 154 dX7_keeps_26 rfl ?_
    refine v_aload_n ok 0 dX7_keeps_29 rfl rfl ?_
    refine v_gI ok fl_X7_596 (fun _ _ _ => rfl) dX7_keeps_30 hf (fun v5 hf => ?_)
    refine v_imul ok dX7_keeps_33 ?_
    refine v_iload_n ok 1 dX7_keeps_34 rfl rfl ?_
    refine v_iadd ok dX7_keeps_35 ?_
    refine v_aload_n ok 0 dX7_keeps_36 rfl rfl ?_
    refine v_gR ok fl_X7_132 (by first | exact Or.inl ⟨_, rfl⟩ | exact Or.inr ⟨_, rfl⟩) dX7_keeps_37 hf (fun v6 hf => ?_)
    refine v_iload_n ok 1 dX7_keeps_40 rfl rfl ?_
    refine v_iald ok rfl dX7_keeps_41 hf (fun v7 hf => ?_)
    refine v_iast ok rfl dX7_keeps_42 hf (fun h8 hf => ?_)
    refine v_iinc ok x1 (x1 + 1) dX7_keeps_43 rfl rfl (by decide) ?_
    refine v_goto ok 15 dX7_keeps_46 rfl ?_
    cases hf; exact hk _ ⟨rfl, rfl, trivial⟩
theorem W_X7_keeps_15 {G : GT} {X : CX} {d : Nat} {h0 : AH} {Q : State → Prop} (ok : Ok G X RX7 cX7_keeps 2 d h0) (hr : (cxm X).sig.returnType = none) (hd : 1 ≤ d) {a0 : Nat} {x1 : Int32} {h : AH} {z : (AH)} (hf : X7_keeps_15  a0 x1 h = some z) (hk : Q = QM G X h0 none z) {lv : List (Nat × AV)} (hl : lle lv [(0, vr (some a0)), (1, vi x1)]) : V G X 2 h0 Q h 15 lv [] := by
  unfold X7_keeps_15 at hf
  exact loopC_walk (Wh := fun s : Int32 × AH => ∀ lv : List (Nat × AV), lle lv [(0, vr (some a0)), (1, vi s.1)] → V G X 2 h0 Q s.2 15 lv []) (PK := fun z => Q = QM G X h0 none z) (fun s o hf hk lv hl => W_X7_keeps_15b ok hr hd hf (by cases o <;> exact hk) hl) _ z hf hk lv hl
theorem W_X7_keeps {G : GT} {X : CX} {d : Nat} {h0 : AH} {Q : State → Prop} (ok : Ok G X RX7 cX7_keeps 2 d h0) (hr : (cxm X).sig.returnType = none) (hd : 1 ≤ d) {a0 : Nat} {h : AH} {z : (AH)} (hf : X7_keeps a0 h = some z) (hk : Q = QM G X h0 none z) {lv : List (Nat × AV)} (hl : lle lv [(0, vr (some a0))]) : V G X 2 h0 Q h 0 lv [] := by
  refine V.sub hl ?_
  unfold X7_keeps at hf
  refine v_aload_n ok 0 dX7_keeps_0 rfl rfl ?_
  refine v_aload_n ok 0 dX7_keeps_1 rfl rfl ?_
  refine v_gI ok fl_X7_596 (fun _ _ _ => rfl) dX7_keeps_2 hf (fun v9 hf => ?_)
  refine v_iconst ok 1 dX7_keeps_5 rfl ?_
  refine v_iadd ok dX7_keeps_6 ?_
  refine v_bipush ok 20 dX7_keeps_7 rfl ?_
  refine v_irem ok dX7_keeps_9 hf (fun hf => ?_)
  refine v_pI ok fl_X7_596 ⟨fun _ _ _ => rfl, rfl⟩ (FN.of cf_7.1 rfl) dX7_keeps_10 hf (fun h10 hf => ?_)
  refine v_iconst ok 0 dX7_keeps_13 rfl ?_
  refine v_istore_n ok 1 dX7_keeps_14 rfl (by decide) ?_
  exact W_X7_keeps_15 ok hr hd hf hk ⟨rfl, rfl, trivial⟩
theorem M_X7_keeps {G : GT} {l : Launch} (hG : Glob G) {d : Nat} (hd : 1 ≤ d) {a0 : Nat} {h : AH} {h' : AH} (hf : X7_keeps a0 h = some h') : MM G l yX7_keeps cX7_keeps 2 none d [vr (some a0)] h none h' := by
  refine mm_of hG (plainFor_of_name (by decide)) (Nat.le_of_ble_eq_true rfl) (fun X hX ok hr hnm => ?_)
  subst hX
  exact W_X7_keeps ok hr hd hf rfl ⟨rfl, trivial⟩
theorem cw_X7_refuses : CW yX7_refuses cX7_refuses 2 (Option.some Jvm.ClassFile.FieldType.int) 1 := ⟨q2622, q185, ⟨by decide, by decide⟩, by decide +kernel, by decide⟩
theorem W_X7_refuses {G : GT} {X : CX} {d : Nat} {h0 : AH} {Q : State → Prop} (ok : Ok G X RX7 cX7_refuses 2 d h0) (hr : (cxm X).sig.returnType = (Option.some Jvm.ClassFile.FieldType.int)) (hd : 1 ≤ d) {a0 : Nat} {x1 : Int32} {h : AH} {z : (Int32 × AH)} (hf : X7_refuses a0 x1 h = some z) (hk : Q = QM G X h0 (some (vi z.1)) z.2) {lv : List (Nat × AV)} (hl : lle lv [(0, vr (some a0)), (1, vi x1)]) : V G X 2 h0 Q h 0 lv [] := by
  refine V.sub hl ?_
  unfold X7_refuses at hf
  refine v_aload_n ok 0 dX7_refuses_0 rfl rfl ?_
  refine v_gR ok fl_X7_17 (by first | exact Or.inl ⟨_, rfl⟩ | exact Or.inr ⟨_, rfl⟩) dX7_refuses_1 hf (fun v1 hf => ?_)
  refine v_iload_n ok 1 dX7_refuses_4 rfl rfl ?_
  refine v_dup2 ok dX7_refuses_5 rfl rfl ?_
  refine v_iald ok rfl dX7_refuses_6 hf (fun v2 hf => ?_)
  refine v_iconst ok 1 dX7_refuses_7 rfl ?_
  refine v_iadd ok dX7_refuses_8 ?_
  refine v_iast ok rfl dX7_refuses_9 hf (fun h3 hf => ?_)
  refine v_iconst ok (-1) dX7_refuses_10 rfl ?_
  exact v_iret ok hr (by cases hf; exact hk) dX7_refuses_11
theorem M_X7_refuses {G : GT} {l : Launch} (hG : Glob G) {d : Nat} (hd : 1 ≤ d) {a0 : Nat} {x1 : Int32} {h : AH} {v : Int32} {h' : AH} (hf : X7_refuses a0 x1 h = some (v, h')) : MM G l yX7_refuses cX7_refuses 2 (Option.some Jvm.ClassFile.FieldType.int) d [vr (some a0), vi x1] h (some (vi v)) h' := by
  refine mm_of hG (plainFor_of_name (by decide)) (Nat.le_of_ble_eq_true rfl) (fun X hX ok hr hnm => ?_)
  subst hX
  exact W_X7_refuses ok hr hd hf rfl ⟨rfl, rfl, trivial⟩
