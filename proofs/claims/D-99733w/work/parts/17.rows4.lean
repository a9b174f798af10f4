set_option maxRecDepth 100000
def FLN (own : String) (index ci k : Nat) : Prop := ∃ (q : vw_C) (host : String), CF ci q ∧ k < q.2.2 ∧ Cond.fieldLinkNest own index (q.2.1 k).1 (q.2.1 k).2.1 (q.2.1 k).2.2.1 host ∈ lw_tbl
section VRows4
variable {G : GT} {X : CX} {nL d : Nat} {h0 h : AH} {Q : State → Prop} {pc : Nat} {lv : List (Nat × AV)} {st stk : List AV} {own : String} {cc : ByteArray} {τ : Type} {z : τ}
/-- any word of the tables at the start -/
theorem gt0 {G : GT} (hG : Glob G) {w : Cond} (hw : w ∈ lw_tbl) (ho : w.onTables = true) : va_Nw w (g_s G) := by
  obtain ⟨A, ht⟩ := hG.1
  exact va_Nw.of ho (ht w hw)
theorem v_ldcw (ok : Ok G X own cc nL d h0) {index : Nat} {v : Int32} (hq : Cond.constant own index v ∈ lw_all) (hd : decode cc pc = .ok (.ldc_w index, 3)) (k : V G X nL h0 Q h (pc + 3) lv (vi v :: st)) : V G X nL h0 Q h pc lv st := fun H locs ls a b c e => lv_ldcw ok.1 ok.2.1 ok.2.2.2.1 (gw ok hq) hd (k H locs ls a b c e)
theorem v_ldcS (ok : Ok G X own cc nL d h0) {index a0 : Nat} {tx : String} (hs : (own, index, tx, a0) ∈ srT) (ha : a0 < NC) (hd : decode cc pc = .ok (.ldc index, 2)) (k : V G X nL h0 Q h (pc + 2) lv (vr (some a0) :: st)) : V G X nL h0 Q h pc lv st := by
  intro H locs ls a b c e
  have hz := (ok.2.2.2.2.2.2.1.2.2.2.2.2.1 _ hs).warm ok.2.2.2.2.1
  have k2 := k H locs ls a b c e
  have hr : cv G (vr (some a0)) = .ref (g_ad G a0) := by show va_rf (some (rho G a0)) = _; rw [rho, if_pos ha]; rfl
  rw [List.map_cons, hr] at k2
  exact va_ldcS ok.1 ok.2.1 ok.2.2.2.1 hz hd k2
/-! references compared: told apart by their abstract addresses, unless both are the start's own -/
def cmpR (r s : Option Nat) : Option Bool := match r, s with
  | none, none => some true
  | none, some _ => some false
  | some _, none => some false
  | some a, some b => if a = b then some true else if (a < NC ∧ b < NC) ∨ noK a ∨ noK b then none else some false
theorem cmpR_spec {G : GT} (hG : Glob G) {r s : Option Nat} {b : Bool} (h : cmpR r s = some b) : (r.map (rho G) = s.map (rho G)) ↔ b = true := by
  cases r with
  | none =>
    cases s with
    | none => cases h; exact ⟨fun _ => rfl, fun _ => rfl⟩
    | some y => cases h; exact ⟨(fun q => by cases q), (fun q => by cases q)⟩
  | some x =>
    cases s with
    | none => cases h; exact ⟨(fun q => by cases q), (fun q => by cases q)⟩
    | some y =>
      simp only [cmpR] at h
      by_cases e : x = y
      · rw [if_pos e] at h; cases h; subst e; exact ⟨fun _ => rfl, fun _ => rfl⟩
      · rw [if_neg e] at h
        split at h
        · cases h
        · rename_i hn
          cases h
          refine ⟨fun q => ?_, fun q => by cases q⟩
          have q : rho G x = rho G y := Option.some.inj q
          rcases Nat.lt_or_ge x NC with hx | hx
          · rcases Nat.lt_or_ge y NC with hy | hy
            · exact absurd (Or.inl ⟨hx, hy⟩) hn
            · exact absurd q (rho_ne hG hy e (fun z => hn (Or.inr (Or.inl z))))
          · exact absurd q.symm (rho_ne hG hx (Ne.symm e) (fun z => hn (Or.inr (Or.inr z))))
theorem v_acmp_eq (ok : Ok G X own cc nL d h0) {r s : Option Nat} {off : Int} (tgt : Nat) (hd : decode cc pc = .ok (.if_acmp .eq off, 3)) (ht : (pc : Int) + off = (tgt : Int)) {A B : Option τ} (hf : ((cmpR r s).bind fun c => if c = true then A else B) = some z) (kt : A = some z → V G X nL h0 Q h tgt lv st) (kf : B = some z → V G X nL h0 Q h (pc + 3) lv st) : V G X nL h0 Q h pc lv (vr s :: vr r :: st) := by
  obtain ⟨c0, h1, h2⟩ := ob hf
  have hs := cmpR_spec ok.2.2.2.2.2.2.1 h1
  exact fun H locs ls a b c e => lv_acmp_eq ok.1 ok.2.1 hd ht (fun q => kt (by rw [if_pos (hs.mp q)] at h2; exact h2) H locs ls a b c e) (fun q => kf (by rw [if_neg (fun z => q (hs.mpr z))] at h2; exact h2) H locs ls a b c e)
theorem v_acmp_ne (ok : Ok G X own cc nL d h0) {r s : Option Nat} {off : Int} (tgt : Nat) (hd : decode cc pc = .ok (.if_acmp .ne off, 3)) (ht : (pc : Int) + off = (tgt : Int)) {A B : Option τ} (hf : ((cmpR r s).bind fun c => if c = true then B else A) = some z) (kt : A = some z → V G X nL h0 Q h tgt lv st) (kf : B = some z → V G X nL h0 Q h (pc + 3) lv st) : V G X nL h0 Q h pc lv (vr s :: vr r :: st) := by
  obtain ⟨c0, h1, h2⟩ := ob hf
  have hs := cmpR_spec ok.2.2.2.2.2.2.1 h1
  exact fun H locs ls a b c e => lv_acmp_ne ok.1 ok.2.1 hd ht (fun q => kt (by rw [if_neg (fun z => q (hs.mpr z))] at h2; exact h2) H locs ls a b c e) (fun q => kf (by rw [if_pos (hs.mp q)] at h2; exact h2) H locs ls a b c e)
/-! statics -/
theorem v_gets (ok : Ok G X own cc nL d h0) {C n ds : String} {ty : FieldType} {k index : Nat} (hs : (C, n, ds, ty, k) ∈ stT) (hl : Cond.fieldLink own index C n ds ∈ lw_all) {v : AV} (hv : fv G ty h 120 k = cv G v) (hd : decode cc pc = .ok (.getstatic index, 3)) (kk : V G X nL h0 Q h (pc + 3) lv (v :: st)) : V G X nL h0 Q h pc lv st := by
  intro H locs ls a b c e
  obtain ⟨cf, kf, fi, f, q, cell, h1, h2, h3, h4, h5, h6, h7, h8⟩ := va_Z.moved ok.2.2.2.2.1.alike (a.2.2.1.2 _ hs)
  have hq : q < g_B G := by rw [ok.2.2.2.2.2.2.1.2.2.2.2.1]; exact (Array.getElem?_eq_some_iff.mp h5).1
  exact W.gets ok.1 ok.2.1 ok.2.2.2.1 (gw ok hl) h1 h2 h3 h4 (by rw [a.2.2.1.1 q hq]; exact h5) (fun e => by rw [e] at h6; cases h6) (by rw [h7, hv]) rfl hd (kk H locs ls a b c e)
theorem v_getsN (ok : Ok G X own cc nL d h0) {C n ds host : String} {ty : FieldType} {k index : Nat} (hs : (C, n, ds, ty, k) ∈ stT) (hl : Cond.fieldLinkNest own index C n ds host ∈ lw_tbl) {v : AV} (hv : fv G ty h 120 k = cv G v) (hd : decode cc pc = .ok (.getstatic index, 3)) (kk : V G X nL h0 Q h (pc + 3) lv (v :: st)) : V G X nL h0 Q h pc lv st := by
  intro H locs ls a b c e
  obtain ⟨cf, kf, fi, f, q, cell, h1, h2, h3, h4, h5, h6, h7, h8⟩ := va_Z.moved ok.2.2.2.2.1.alike (a.2.2.1.2 _ hs)
  have hq : q < g_B G := by rw [ok.2.2.2.2.2.2.1.2.2.2.2.1]; exact (Array.getElem?_eq_some_iff.mp h5).1
  exact va_WgetsN ok.1 ok.2.1 ok.2.2.2.1 (va_Nw.use rfl (va_Nw.warmF ok.2.2.2.2.1 (gt0 ok.2.2.2.2.2.2.1 hl rfl))) h1 h2 h3 h4 (by rw [a.2.2.1.1 q hq]; exact h5) (fun e => by rw [e] at h6; cases h6) (by rw [h7, hv]) rfl hd (kk H locs ls a b c e)
/-! nest mates' fields -/
theorem v_getAN (ok : Ok G X own cc nL d h0) {ci k index : Nat} {r : Option Nat} (fl : FLN own index ci k) {a : Nat} (hr : isO ci r h = some a) (hd : decode cc pc = .ok (.getfield index, 3)) {v : AV} (hv : fv G (tyT ci k) h a k = cv G v) (kk : V G X nL h0 Q h (pc + 3) lv (v :: st)) : V G X nL h0 Q h pc lv (vr r :: st) := by
  intro H locs ls a1 b c e
  obtain ⟨q, host, cf, hk, hl⟩ := fl
  cases r with
  | none => cases hr
  | some a0 =>
    rw [isO] at hr
    split at hr
    · rename_i hK
      cases hr
      obtain ⟨cell, e1, e2, -, -, e5, e6⟩ := a1.obj cf.1 hK
      obtain ⟨hS, hfc, kC, hkC, hkind⟩ := gKn ok cf.1
      obtain ⟨cf', kf, fi, f, hi, hsl⟩ := hS k hk
      have hts : ∀ w ∈ lw_all, w.before X.2.2.2.2.2.2.1 X.2.2.2.2.1 = true := fun w hw => gw ok hw
      refine va_Wgetf ok.1 ok.2.1 ok.2.2.2.1 (va_Nw.use rfl (va_Nw.warmF ok.2.2.2.2.1 (gt0 ok.2.2.2.2.2.2.1 hl rfl))) hi (u_facts hfc hkC (u_lays hts cf.2.1 hk) hi).1 e1 e2 (v := cv G v) ?_ rfl rfl hd (kk H locs ls a1 b c e)
      rw [hsl, e6 k hk, hv]
    · cases hr
theorem v_gIN (ok : Ok G X own cc nL d h0) {ci k index : Nat} {r : Option Nat} (fl : FLN own index ci k) (hty : tyI ci k) (hd : decode cc pc = .ok (.getfield index, 3)) {f : Int32 → Option τ} (hf : (gI ci k r h).bind f = some z) (kk : ∀ v, f v = some z → V G X nL h0 Q h (pc + 3) lv (vi v :: st)) : V G X nL h0 Q h pc lv (vr r :: st) := by
  cases r with
  | none => cases hf
  | some a0 =>
    by_cases hK : (hK h a0).1 = ci
    · refine v_getAN ok fl (a := a0) (by simp only [isO]; rw [if_pos hK]) hd (v := vi (hI h a0 k)) (hty G h a0) (kk _ ?_)
      simp only [gI] at hf
      rw [if_pos hK] at hf
      exact hf
    · simp only [gI] at hf
      rw [if_neg hK] at hf
      cases hf
theorem v_gLN (ok : Ok G X own cc nL d h0) {ci k index : Nat} {r : Option Nat} (fl : FLN own index ci k) (hty : tyL ci k) (hd : decode cc pc = .ok (.getfield index, 3)) {f : Int64 → Option τ} (hf : (gL ci k r h).bind f = some z) (kk : ∀ v, f v = some z → V G X nL h0 Q h (pc + 3) lv (vl v :: st)) : V G X nL h0 Q h pc lv (vr r :: st) := by
  cases r with
  | none => cases hf
  | some a0 =>
    by_cases hK : (hK h a0).1 = ci
    · refine v_getAN ok fl (a := a0) (by simp only [isO]; rw [if_pos hK]) hd (v := vl (hL h a0 k)) (hty.fv G h a0) (kk _ ?_)
      simp only [gL] at hf
      rw [if_pos hK] at hf
      exact hf
    · simp only [gL] at hf
      rw [if_neg hK] at hf
      cases hf
theorem v_gRN (ok : Ok G X own cc nL d h0) {ci k index : Nat} {r : Option Nat} (fl : FLN own index ci k) (hty : tyR ci k) (hd : decode cc pc = .ok (.getfield index, 3)) {f : Option Nat → Option τ} (hf : (gR ci k r h).bind f = some z) (kk : ∀ v, f v = some z → V G X nL h0 Q h (pc + 3) lv (vr v :: st)) : V G X nL h0 Q h pc lv (vr r :: st) := by
  cases r with
  | none => cases hf
  | some a0 =>
    by_cases hK : (hK h a0).1 = ci
    · refine v_getAN ok fl (a := a0) (by simp only [isO]; rw [if_pos hK]) hd (v := vr (hR h a0 k)) (hty.fv G h a0) (kk _ ?_)
      simp only [gR] at hf
      rw [if_pos hK] at hf
      exact hf
    · simp only [gR] at hf
      rw [if_neg hK] at hf
      cases hf
theorem v_putAN (ok : Ok G X own cc nL d h0) {ci k index : Nat} (fl : FLN own index ci k) (hfin : ∀ q, clT[ci]? = some q → (q.2.1 k).2.2.2 = false) {a : Nat} (hKa : (hK h a).1 = ci) (ha : NC ≤ a) {v : AV} (hnr : narrow (tyT ci k) (cv G v) = cv G v) (hfit : fits (tyT ci k) (cv G v) = true) {h' : AH}
    (e1 : hK h' = hK h) (e2 : hn h' = hn h) (e3 : hs h' = hs h) (eo : ∀ x j, ¬ (x = a ∧ j = k) → hI h' x j = hI h x j ∧ hL h' x j = hL h x j ∧ hR h' x j = hR h x j) (ev : fv G (tyT ci k) h' a k = cv G v) (hd : decode cc pc = .ok (.putfield index, 3)) (kk : V G X nL h0 Q h' (pc + 3) lv st) : V G X nL h0 Q h pc lv (v :: vr (some a) :: st) := by
  intro H locs ls A b c e
  obtain ⟨q, host, cf, hk, hl⟩ := fl
  have hap := ap_slots ok cf
  have hts : ∀ w ∈ lw_all, w.before X.2.2.2.2.2.2.1 X.2.2.2.2.1 = true := fun w hw => gw ok hw
  obtain ⟨cell, c1, c2, c3, c4, c5, c6⟩ := A.obj cf.1 hKa
  obtain ⟨hS, hfc, kC, hkC, hkind⟩ := gKn ok cf.1
  obtain ⟨cf', kf, fi, f, hi, hsl⟩ := hS k hk
  have hst := (u_facts hfc hkC (u_lays hts cf.2.1 hk) hi).1
  have hlay := hts _ (cf.2.1 _ (u_in_lay hk))
  unfold u_lay at hlay
  rw [if_neg (by rw [hfin q cf.1]; decide)] at hlay
  have h6 := u_store hfc hkC hkind hlay hi (cf.2.2.1 k hk) hnr hfit
  have hB : g_B G ≤ rho G a := by rw [rho_ge ha]; exact Nat.le_add_right _ _
  have he' : hn h0 ≤ hn h' ∧ hs h0 ≤ hs h' := by rw [e2, e3]; exact e
  refine va_WputK ok.1 ok.2.1 (f := f) ok.2.2.2.1 (va_Nw.use rfl (va_Nw.warmF ok.2.2.2.2.1 (gt0 ok.2.2.2.2.2.2.1 hl rfl))) hi hst (by rw [c5]; exact h6) c1 (c4 ha) (by rw [hsl]; exact k2_hasslot (c6 k hk)) rfl rfl hd (fun H' g1 g2 g3 => ?_)
  have go : Abs G h' H' := by
    refine A.upd ok.2.2.2.2.2.2.1 ha e1 e2 e3 (fun x j hx => eo x j (fun z => hx z.1)) g1 ⟨c2, c3, c4, ?_, ?_⟩ g2 g3
    · rw [e1, hKa]
      intro q' hq'
      cases cf.1.symm.trans hq'
      refine ⟨c5, fun j hj => ?_⟩
      rw [hsl]
      by_cases hjk : j = k
      · subst hjk
        rw [Cell.slots_setSlot_self _ (k2_hasslot (c6 j hj)), ev]
      · rw [slot_ne _ _ (hap k j hk hj (Ne.symm hjk)), c6 j hj]
        have := eo a j (fun z => hjk z.2)
        rw [fv_congr this.1 this.2.1 this.2.2]
    · rw [e1, hKa]
      intro z
      have := clT_lt cf.1
      omega
  have k2 := kk H' (locs ++ [⟨rho G a, f.slot⟩]) ls go b (locs_add c hB) he'
  have i1 : hn h' - hn h0 = hn h - hn h0 := by rw [e2]
  have i2 : hs h' - hs h0 = hs h - hs h0 := by rw [e3]
  rw [i1, i2] at k2
  exact k2
def FNN (ci k : Nat) : Prop := ∀ q, clT[ci]? = some q → (q.2.1 k).2.2.2 = false
theorem FNN.of {ci k : Nat} {q0 : vw_C} (h0 : clT[ci]? = some q0) (hf : (q0.2.1 k).2.2.2 = false) : FNN ci k := fun q hq => by rw [Option.some.inj (hq.symm.trans h0)]; exact hf
theorem v_pIN (ok : Ok G X own cc nL d h0) {ci k index : Nat} {r : Option Nat} {v : Int32} (fl : FLN own index ci k) (hty : tyI ci k ∧ tyT ci k = .int) (hfin : FNN ci k) (hd : decode cc pc = .ok (.putfield index, 3)) {f : AH → Option τ} (hf : (pI ci k r v h).bind f = some z) (kk : ∀ h', f h' = some z → V G X nL h0 Q h' (pc + 3) lv st) : V G X nL h0 Q h pc lv (vi v :: vr r :: st) := by
  cases r with
  | none => cases hf
  | some a =>
    by_cases hC : (hK h a).1 = ci ∧ NC ≤ a
    · simp only [pI] at hf
      rw [if_pos hC] at hf
      refine v_putAN ok fl hfin hC.1 hC.2 (v := vi v) ?_ ?_ (h' := wI a k v h) rfl rfl rfl (fun x j hx => ⟨up2_ne hx, rfl, rfl⟩) ?_ hd (kk _ hf)
      · rw [hty.2]; rfl
      · rw [hty.2]; rfl
      · rw [hty.1]; exact congrArg Value.int up2_eq
    · simp only [pI] at hf
      rw [if_neg hC] at hf
      cases hf
theorem v_pLN (ok : Ok G X own cc nL d h0) {ci k index : Nat} {r : Option Nat} {v : Int64} (fl : FLN own index ci k) (hty : tyL ci k) (hfin : FNN ci k) (hd : decode cc pc = .ok (.putfield index, 3)) {f : AH → Option τ} (hf : (pL ci k r v h).bind f = some z) (kk : ∀ h', f h' = some z → V G X nL h0 Q h' (pc + 3) lv st) : V G X nL h0 Q h pc lv (vl v :: vr r :: st) := by
  cases r with
  | none => cases hf
  | some a =>
    by_cases hC : (hK h a).1 = ci ∧ NC ≤ a
    · simp only [pL] at hf
      rw [if_pos hC] at hf
      refine v_putAN ok fl hfin hC.1 hC.2 (v := vl v) ?_ ?_ (h' := wL a k v h) rfl rfl rfl (fun x j hx => ⟨rfl, up2_ne hx, rfl⟩) ?_ hd (kk _ hf)
      · rw [show tyT ci k = .long from hty]; rfl
      · rw [show tyT ci k = .long from hty]; rfl
      · rw [hty.fv]; exact congrArg Value.long up2_eq
    · simp only [pL] at hf
      rw [if_neg hC] at hf
      cases hf
theorem v_pRN (ok : Ok G X own cc nL d h0) {ci k index : Nat} {r : Option Nat} {v : Option Nat} (fl : FLN own index ci k) (hty : tyR ci k) (hfin : FNN ci k) (hd : decode cc pc = .ok (.putfield index, 3)) {f : AH → Option τ} (hf : (pR ci k r v h).bind f = some z) (kk : ∀ h', f h' = some z → V G X nL h0 Q h' (pc + 3) lv st) : V G X nL h0 Q h pc lv (vr v :: vr r :: st) := by
  cases r with
  | none => cases hf
  | some a =>
    by_cases hC : (hK h a).1 = ci ∧ NC ≤ a
    · simp only [pR] at hf
      rw [if_pos hC] at hf
      refine v_putAN ok fl hfin hC.1 hC.2 (v := vr v) ?_ ?_ (h' := wR a k v h) rfl rfl rfl (fun x j hx => ⟨rfl, rfl, up2_ne hx⟩) ?_ hd (kk _ hf)
      · rcases hty with ⟨C, e⟩ | ⟨T, e⟩ <;> rw [e] <;> cases v <;> rfl
      · rcases hty with ⟨C, e⟩ | ⟨T, e⟩ <;> rw [e] <;> cases v <;> rfl
      · rw [hty.fv]; exact congrArg (fun x => va_rf (Option.map (rho G) x)) up2_eq
    · simp only [pR] at hf
      rw [if_neg hC] at hf
      cases hf
theorem gtM (ok : Ok G X own cc nL d h0) {index : Nat} {y : MethodName} {host : String} {A : Array Value} (hl : Cond.methodLinkNest own index y host ∈ lw_tbl) : (Cond.methodLinkNest own index y host).before A X.2.2.2.2.1 = true := va_Nw.use rfl (va_Nw.warmM ok.2.2.2.2.1 (gt0 ok.2.2.2.2.2.2.1 hl rfl))
theorem v_cVN (ok : Ok G X own cc nL d h0) {ci index : Nat} {host : String} {q : vw_C} (hq : clT[ci]? = some q) {y : MethodName} {bytes : ByteArray} {maxL d' : Nat} {ret : Option FieldType} {as : List AV} {a : Nat} (hKa : (hK h a).1 = ci) {rv : Option AV} {h1 : AH} (mm : MM G X.2.1 y bytes maxL ret d' (vr (some a) :: as) h rv h1) (hd' : d' + 1 ≤ d) (cw : CW y bytes maxL ret as.length) (q1 : Cond.methodLinkNest own index y host ∈ lw_tbl) (q2 : Cond.instanceMethod y ∈ lw_all) (q3 : Cond.selects q.1 y y ∈ lw_all)
    (hd : decode cc pc = .ok (.invokevirtual index, 3)) (hst : stk = as.reverse ++ vr (some a) :: st) (h8 : (st.map ctN).sum ≤ 12) (kk : V G X nL h0 Q h1 (pc + 3) lv (rv.toList ++ st)) : V G X nL h0 Q h pc lv stk := by
  intro H locs ls A b c e T hT S
  obtain ⟨cell, c1, c2, c3, -, c5, -⟩ := A.obj hq hKa
  have hstk : stk.map (cv G) = (as.map (cv G)).reverse ++ .ref (rho G a) :: st.map (cv G) := stk_eq G (st := vr (some a) :: st) hst
  obtain ⟨v, vm₁, B, hW₁, X', hp, hstep⟩ := va_callVN S ok.1 (C := q.1) (bytes := bytes) (maxL := maxL) (ret := ret) ok.2.2.2.1 (gtM ok q1) (gw ok q2) (gw ok q3) (gw ok cw.1) cw.2.2.1 (back_mm ok mm hd' cw) (by rw [hT]; exact c1) (by cases hz : cell.vm with | statics x => exact absurd hz (c3 x) | _ => rfl) (by rw [c5]; exact (gKn ok hq).2.1) (g := F0 X.2.2.2.2.2.1 pc ls (stk.map (cv G))) rfl (b.1.trans ok.2.2.1.symm) (argsL := as.map (cv G)) (rest := st.map (cv G)) (fun sig hs => by rw [cw.len hs, List.length_map]) hstk (by show 2 * 0 + _ ≤ 12; rw [ctN_eq, Nat.mul_zero, Nat.zero_add]; exact h8) (by rw [ok.2.1]; exact hd)
    (fun vm₁ hW₁ => ⟨(room_mm ok e A).1, (room_mm ok e A).2, rfl, State.WarmedH.trans ok.2.2.2.2.1 hW₁, by show Abs G h T.heap; rw [hT]; exact A⟩)
  exact v_cont e b c X' hp hstep kk
theorem v_cSN (ok : Ok G X own cc nL d h0) {index : Nat} {host : String} {y : MethodName} {bytes : ByteArray} {maxL d' : Nat} {ret : Option FieldType} {as : List AV} {rv : Option AV} {h1 : AH} (mm : MM G X.2.1 y bytes maxL ret d' as h rv h1) (hd' : d' + 1 ≤ d) (cw : CW y bytes maxL ret as.length) (q1 : Cond.methodLinkNest own index y host ∈ lw_tbl) (q2 : Cond.static y ∈ lw_all)
    (hd : decode cc pc = .ok (.invokestatic index, 3)) (hst : stk = as.reverse ++ st) (h8 : (st.map ctN).sum ≤ 12) (kk : V G X nL h0 Q h1 (pc + 3) lv (rv.toList ++ st)) : V G X nL h0 Q h pc lv stk := by
  intro H locs ls A b c e T hT S
  have hstk : stk.map (cv G) = (as.map (cv G)).reverse ++ st.map (cv G) := stk_eq G hst
  obtain ⟨v, vm₁, B, hW₁, X', hp, hstep⟩ := va_callSN S ok.1 (bytes := bytes) (maxL := maxL) (ret := ret) ok.2.2.2.1 (gtM ok q1) (gw ok q2) (gw ok cw.2.1) (gw ok cw.1) cw.2.2.1 (back_mm ok mm hd' cw) (g := F0 X.2.2.2.2.2.1 pc ls (stk.map (cv G))) rfl (b.1.trans ok.2.2.1.symm) (argsL := as.map (cv G)) (rest := st.map (cv G)) (fun sig hs => by rw [cw.len hs, List.length_map]) hstk (by show 2 * 0 + _ ≤ 12; rw [ctN_eq, Nat.mul_zero, Nat.zero_add]; exact h8) (by rw [ok.2.1]; exact hd)
    (fun vm₁ hW₁ => ⟨(room_mm ok e A).1, (room_mm ok e A).2, rfl, State.WarmedH.trans ok.2.2.2.2.1 hW₁, by show Abs G h T.heap; rw [hT]; exact A⟩)
  exact v_cont e b c X' hp hstep kk
theorem v_cIN (ok : Ok G X own cc nL d h0) {index : Nat} {host : String} {y : MethodName} {bytes : ByteArray} {maxL d' : Nat} {as : List AV} {a : Nat} {h1 : AH} (hy1 : y.name = "<init>") (mm : MM G X.2.1 y bytes maxL none d' (vr (some a) :: as) h none h1) (hd' : d' + 1 ≤ d) (cw : CW y bytes maxL none as.length) (q1 : Cond.methodLinkNest own index y host ∈ lw_tbl) (q2 : Cond.instanceMethod y ∈ lw_all)
    (hd : decode cc pc = .ok (.invokespecial index, 3)) (hst : stk = as.reverse ++ vr (some a) :: st) (h8 : (st.map ctN).sum ≤ 12) (kk : V G X nL h0 Q h1 (pc + 3) lv st) : V G X nL h0 Q h pc lv stk := by
  intro H locs ls A b c e T hT S
  have hstk : stk.map (cv G) = (as.map (cv G)).reverse ++ .ref (rho G a) :: st.map (cv G) := stk_eq G (st := vr (some a) :: st) hst
  obtain ⟨v, vm₁, B, hW₁, X', hp, hstep⟩ := va_callIN S ok.1 (bytes := bytes) (maxL := maxL) ok.2.2.2.1 hy1 (gtM ok q1) (gw ok q2) (gw ok cw.1) cw.2.2.1 (back_mm ok mm hd' cw) (g := F0 X.2.2.2.2.2.1 pc ls (stk.map (cv G))) rfl (b.1.trans ok.2.2.1.symm) (a := rho G a) (argsL := as.map (cv G)) (rest := st.map (cv G)) (fun sig hs => by rw [cw.len hs, List.length_map]) hstk (by show 2 * 0 + _ ≤ 12; rw [ctN_eq, Nat.mul_zero, Nat.zero_add]; exact h8) (by rw [ok.2.1]; exact hd)
    (fun vm₁ hW₁ => ⟨(room_mm ok e A).1, (room_mm ok e A).2, rfl, State.WarmedH.trans ok.2.2.2.2.1 hW₁, by show Abs G h T.heap; rw [hT]; exact A⟩)
  exact v_cont e b c X' hp hstep kk
/-- an interface's method x, of a receiver of the class ci, which has it as y -/
def CWF (C : String) (x y : MethodName) : Prop := Cond.declares x ∈ lw_tbl ∧ Cond.interfaceMethod x.cls x.cls x.name x.desc ∈ lw_tbl ∧ Cond.publicMethod y ∈ lw_tbl ∧ Cond.unhidden C x.name x.desc ∈ lw_tbl ∧ Cond.castable C x.cls ∈ lw_tbl ∧ Cond.selects C x y ∈ lw_all ∧ (x.cls ≠ "java/lang/invoke/MethodHandle" ∧ x.cls ≠ "java/lang/invoke/VarHandle") ∧ x.desc = y.desc
theorem v_cF (ok : Ok G X own cc nL d h0) {ci index count : Nat} {q : vw_C} (hq : clT[ci]? = some q) {x y : MethodName} {bytes : ByteArray} {maxL d' : Nat} {ret : Option FieldType} {as : List AV} {a : Nat} (hKa : (hK h a).1 = ci) {rv : Option AV} {h1 : AH} (mm : MM G X.2.1 y bytes maxL ret d' (vr (some a) :: as) h rv h1) (hd' : d' + 1 ≤ d) (cw : CW y bytes maxL ret as.length) (q1 : Cond.methodLink own index x ∈ lw_all) (q2 : Cond.instanceMethod y ∈ lw_all) (cf : CWF q.1 x y)
    (hd : decode cc pc = .ok (.invokeinterface index count, 5)) (hst : stk = as.reverse ++ vr (some a) :: st) (h8 : (st.map ctN).sum ≤ 12) (kk : V G X nL h0 Q h1 (pc + 5) lv (rv.toList ++ st)) : V G X nL h0 Q h pc lv stk := by
  intro H locs ls A b c e T hT S
  obtain ⟨cell, c1, c2, c3, -, c5, -⟩ := A.obj hq hKa
  have hstk : stk.map (cv G) = (as.map (cv G)).reverse ++ .ref (rho G a) :: st.map (cv G) := stk_eq G (st := vr (some a) :: st) hst
  obtain ⟨f1, f2, f3, f4, f5, f6, f7, f8⟩ := cf
  have hG := ok.2.2.2.2.2.2.1
  have fw : va_Fw q.1 x y X.2.2.2.2.1 := va_Fw.moved f7 ok.2.2.2.2.1.alike (va_Fw.of (gt0 hG f1 rfl) (gt0 hG f2 rfl) (gt0 hG f3 rfl) (gt0 hG f4 rfl) (gt0 hG f5 rfl))
  obtain ⟨hS, hfc, kC, hkC, hkind⟩ := gKn ok hq
  obtain ⟨v, vm₁, B, hW₁, X', hp, hstep⟩ := va_callIF S ok.1 (C := q.1) (bytes := bytes) (maxL := maxL) (ret := ret) ok.2.2.2.1 (gw ok q1) (va_any rfl fw.1) (va_any rfl fw.2.1) (gw ok f6) (gw ok q2) (va_any rfl fw.2.2.1) (va_any rfl fw.2.2.2.1) (va_any rfl fw.2.2.2.2) (gw ok cw.1) f7 (back_mm ok mm hd' cw) (kB := kC) (by rw [hT]; exact c1) (by cases hz : cell.vm with | statics x => exact absurd hz (c3 x) | _ => rfl) (by rw [c5]; exact hfc) (by rw [c5]; exact hkC) (g := F0 X.2.2.2.2.2.1 pc ls (stk.map (cv G))) rfl (b.1.trans ok.2.2.1.symm) (argsL := as.map (cv G)) (rest := st.map (cv G)) (fun sig hs => by rw [cw.len (by rw [← f8]; exact hs), List.length_map]) hstk (by show 2 * 0 + _ ≤ 12; rw [ctN_eq, Nat.mul_zero, Nat.zero_add]; exact h8) (by rw [ok.2.1]; exact hd)
    (fun vm₁ hW₁ => ⟨(room_mm ok e A).1, (room_mm ok e A).2, rfl, State.WarmedH.trans ok.2.2.2.2.1 hW₁, by show Abs G h T.heap; rw [hT]; exact A⟩)
  exact v_cont e b c X' hp hstep kk
/-- a method x that the receiver's class has as y -/
def CWU (C : String) (x y : MethodName) : Prop := Cond.declares x ∈ lw_tbl ∧ Cond.sameMethod x.cls x.cls x.name x.desc ∈ lw_all ∧ Cond.selects C x y ∈ lw_all ∧ (x.cls ≠ "java/lang/invoke/MethodHandle" ∧ x.cls ≠ "java/lang/invoke/VarHandle") ∧ x.desc = y.desc
theorem v_cU (ok : Ok G X own cc nL d h0) {ci index : Nat} {q : vw_C} (hq : clT[ci]? = some q) {x y : MethodName} {bytes : ByteArray} {maxL d' : Nat} {ret : Option FieldType} {as : List AV} {a : Nat} (hKa : (hK h a).1 = ci) {rv : Option AV} {h1 : AH} (mm : MM G X.2.1 y bytes maxL ret d' (vr (some a) :: as) h rv h1) (hd' : d' + 1 ≤ d) (cw : CW y bytes maxL ret as.length) (q1 : Cond.methodLink own index x ∈ lw_all) (q2 : Cond.instanceMethod y ∈ lw_all) (cf : CWU q.1 x y)
    (hd : decode cc pc = .ok (.invokevirtual index, 3)) (hst : stk = as.reverse ++ vr (some a) :: st) (h8 : (st.map ctN).sum ≤ 12) (kk : V G X nL h0 Q h1 (pc + 3) lv (rv.toList ++ st)) : V G X nL h0 Q h pc lv stk := by
  intro H locs ls A b c e T hT S
  obtain ⟨cell, c1, c2, c3, -, c5, -⟩ := A.obj hq hKa
  have hstk : stk.map (cv G) = (as.map (cv G)).reverse ++ .ref (rho G a) :: st.map (cv G) := stk_eq G (st := vr (some a) :: st) hst
  obtain ⟨f1, f2, f3, f7, f8⟩ := cf
  have hG := ok.2.2.2.2.2.2.1
  have hdc : va_Decl X.2.2.2.2.1 ⟨x.cls, x.name, x.desc⟩ := va_Decl.abs (va_Nw.warmD ok.2.2.2.2.1 (gt0 hG f1 rfl))
  obtain ⟨v, vm₁, B, hW₁, X', hp, hstep⟩ := va_callVU S ok.1 (C := q.1) (bytes := bytes) (maxL := maxL) (ret := ret) ok.2.2.2.1 (gw ok q1) (gw ok f2) hdc f7 (gw ok f3) (gw ok q2) (gw ok cw.1) (back_mm ok mm hd' cw) (by rw [hT]; exact c1) (by cases hz : cell.vm with | statics x => exact absurd hz (c3 x) | _ => rfl) (by rw [c5]; exact (gKn ok hq).2.1) (g := F0 X.2.2.2.2.2.1 pc ls (stk.map (cv G))) rfl (b.1.trans ok.2.2.1.symm) (argsL := as.map (cv G)) (rest := st.map (cv G)) (fun sig hs => by rw [cw.len (by rw [← f8]; exact hs), List.length_map]) hstk (by show 2 * 0 + _ ≤ 12; rw [ctN_eq, Nat.mul_zero, Nat.zero_add]; exact h8) (by rw [ok.2.1]; exact hd)
    (fun vm₁ hW₁ => ⟨(room_mm ok e A).1, (room_mm ok e A).2, rfl, State.WarmedH.trans ok.2.2.2.2.1 hW₁, by show Abs G h T.heap; rw [hT]; exact A⟩)
  exact v_cont e b c X' hp hstep kk
end VRows4
