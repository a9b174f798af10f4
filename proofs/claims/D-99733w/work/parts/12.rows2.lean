set_option maxRecDepth 100000
/-- what is known of the class number ci -/
def CF (ci : Nat) (q : vw_C) : Prop := clT[ci]? = some q ∧ (∀ w ∈ u_ws q.1 q.2.1 q.2.2, w ∈ lw_all) ∧ (∀ k, k < q.2.2 → parseFieldDescriptor (q.2.1 k).2.2.1 = some (tyT ci k)) ∧ (∀ a, a < q.2.2 → ∀ b, b < q.2.2 → a ≠ b → (q.2.1 a).2.1 ≠ (q.2.1 b).2.1)
/-- the entry 'index' of own's pool is the field k of the class ci -/
def FL (own : String) (index ci k : Nat) : Prop := ∃ q, CF ci q ∧ k < q.2.2 ∧ Cond.fieldLink own index (q.2.1 k).1 (q.2.1 k).2.1 (q.2.1 k).2.2.1 ∈ lw_all
def tyI (ci k : Nat) : Prop := ∀ (G : GT) (h : AH) (a : Nat), fv G (tyT ci k) h a k = .int (hI h a k)
def tyL (ci k : Nat) : Prop := tyT ci k = .long
def tyR (ci k : Nat) : Prop := (∃ C, tyT ci k = .object C) ∨ ∃ T, tyT ci k = .array T
theorem tyL.fv {ci k : Nat} (h : tyL ci k) (G : GT) (h' : AH) (a : Nat) : fv G (tyT ci k) h' a k = .long (hL h' a k) := by rw [show tyT ci k = .long from h]; rfl
theorem tyR.fv {ci k : Nat} (h : tyR ci k) (G : GT) (h' : AH) (a : Nat) : fv G (tyT ci k) h' a k = va_rf ((hR h' a k).map (rho G)) := by rcases h with ⟨C, e⟩ | ⟨T, e⟩ <;> rw [e] <;> rfl
def rz (v : Int32) (h : AH) : Option (Int32 × AH) := if v = 0 ∨ v = 1 then some (v, h) else none
def rC (v : Int32) (h : AH) : Option (Int32 × AH) := if nCh v = v then some (v, h) else none
def MM (G : GT) (l : Launch) (y : MethodName) (cc : ByteArray) (nL : Nat) (ret : Option FieldType) (d : Nat) (as : List AV) (h : AH) (rv : Option AV) (h' : AH) : Prop :=
  Met l y [Cond.code y cc nL ret] (rmOf d h) (va_Pc (as.map (cv G)) (fun U => (g_s G).WarmedH U.vm ∧ Abs G h U.heap)) (fun _ _ o t => o = .returned (rv.map (cv G)) ∧ Abs G h' t.heap ∧ hn h ≤ hn h' ∧ hs h ≤ hs h') (hn h' - hn h) (hs h' - hs h) (fun q => g_B G ≤ q)
def QM (G : GT) (X : CX) (h0 : AH) (rv : Option AV) (h' : AH) : State → Prop := MQ X.2.2.2.2.2.2.2.1 (fun _ _ o t => o = .returned (rv.map (cv G)) ∧ Abs G h' t.heap ∧ hn h0 ≤ hn h' ∧ hs h0 ≤ hs h') X.2.2.2.2.2.2.1 X.2.2.2.2.1 (hn h' - hn h0) (hs h' - hs h0) (fun q => g_B G ≤ q)
def largs (i : Nat) (as : List AV) : List (Nat × AV) := match as with
  | [] => []
  | v :: t => (i, v) :: largs (cond (cat2 v) (i + 2) (i + 1)) t
def lsz (as : List AV) : Nat := match as with
  | [] => 0
  | v :: t => (cond (cat2 v) 2 1) + lsz t
theorem largs_eq (G : GT) : ∀ (as : List AV) (i : Nat), lv_args i (as.map (cv G)) = (largs i as).map (cvp G)
  | [], _ => rfl
  | v :: t, i => by
    rw [List.map_cons, lv_args, largs, List.map_cons, largs_eq G t, cat_cv]
    cases hc : cat2 v <;> rfl
theorem lsz_eq (G : GT) : ∀ (as : List AV), (lg_sl (as.map (cv G))).length = lsz as
  | [] => rfl
  | v :: t => by
    have ih := lsz_eq G t
    rw [lsz, ← ih]
    simp only [lg_sl, List.map_cons, List.flatMap_cons, List.length_append]
    rw [cat_cv]
    cases hc : cat2 v <;> simp
theorem met_ofWF {l : Launch} {y : MethodName} {ws ws' : List Cond} {rm : Room} {Pc : Array Value → State → Prop} {Qc : Array Value → State → Outcome → State → Prop} {mc ms : Nat} {free : Addr → Prop} {cc : ByteArray} {maxL : Nat} {ret : Option FieldType}
    (hy : plainFor y = true) (hw : ws = Cond.code y cc maxL ret :: ws')
    (body : ∀ p e s m args below meth c s₁, BodyLoose p l y (headSpec ws rm) cc maxL ret e s m args below meth c s₁ → c.maxLocals = maxL → Pc args s →
      W p l e (headSpec ws rm).room s m args below meth c s.heap [] 0 0 (MQ below Qc args s mc ms free) (entryFrame m args maxL)) : Met l y ws rm Pc Qc mc ms free := by
  refine MetFree.of_bodySF (code := cc) (maxLocals := maxL) (ret := ret) hy ?_ ?_
  · intro args s m h hn
    obtain ⟨meth, c, h1, h2, h3, h4, h5, h6, -, -⟩ := Cond.code_spec hn (atoms_spec (ws := ws) h _ (by rw [hw]; exact List.mem_cons_self))
    exact ⟨meth, c, h1, h2, h3, h4, h5, h6⟩
  · intro p e s m args below meth c s₁ B hml hP _
    have hh0 : s₁.heap = s.heap := by rw [B.state]; rfl
    obtain ⟨t, a1, o, b1, b2, b3⟩ := body p e s m args below meth c s₁ B hml hP s₁ hh0 (Stand.of_body B)
    exact ⟨t, o, a1, b1, b2, ⟨b3.1, b3.2⟩⟩
/-- a method's contract out of the walk of its body -/
theorem mm_of {G : GT} {l : Launch} {y : MethodName} {cc : ByteArray} {nL : Nat} {ret : Option FieldType} {d : Nat} {as : List AV} {h : AH} {rv : Option AV} {h' : AH} (hG : Glob G) (hy : plainFor y = true) (hsz : lsz as ≤ nL)
    (body : ∀ X : CX, X.2.1 = l → Ok G X y.cls cc nL d h → X.2.2.2.2.2.2.2.2.1.sig.returnType = ret → X.2.2.2.2.2.2.2.2.1.name = y.name → V G X nL h (QM G X h rv h') h 0 (largs 0 as) []) : MM G l y cc nL ret d as h rv h' := by
  refine met_ofWF (cc := cc) (maxL := nL) (ret := ret) hy rfl ?_
  intro p e s m args below meth c s₁ B hml hv
  obtain ⟨rfl, hW, hA⟩ := hv
  have hl := lv_entry (as.map (cv G)) (n := nL) (by rw [lsz_eq]; exact hsz)
  rw [lg_entry_eq]
  generalize (lg_sl (as.map (cv G)) ++ List.replicate (nL - (lg_sl (as.map (cv G))).length) Slot.unset).toArray = ls at hl ⊢
  have k := body (p, l, e, rmOf d h, s, m, (as.map (cv G)).toArray, below, meth, c) rfl ⟨B.exec, B.bytes, hml, findClass_of_methodNamed B.named, hW, B.notSynchronized, hG, ⟨Nat.le_refl _, Nat.le_refl _, Nat.le_refl _, Nat.le_refl _⟩⟩ B.returns (name_of_methodNamed B.named B.method).1
    s.heap [] ls hA (by rw [← largs_eq]; exact hl) (fun q hq => by cases hq) ⟨Nat.le_refl _, Nat.le_refl _⟩
  rw [Nat.sub_self, Nat.sub_self] at k
  exact k
section VRows2
variable {G : GT} {X : CX} {nL d : Nat} {h0 h : AH} {Q : State → Prop} {pc : Nat} {lv : List (Nat × AV)} {st : List AV} {own : String} {cc : ByteArray} {τ : Type} {z : τ}
theorem v_gI (ok : Ok G X own cc nL d h0) {ci k index : Nat} {r : Option Nat} (fl : FL own index ci k) (hty : tyI ci k) (hd : decode cc pc = .ok (.getfield index, 3)) {f : Int32 → Option τ} (hf : (gI ci k r h).bind f = some z) (kk : ∀ v, f v = some z → V G X nL h0 Q h (pc + 3) lv (vi v :: st)) : V G X nL h0 Q h pc lv (vr r :: st) := by
  obtain ⟨q, cf, hk, hl⟩ := fl
  exact v_getI ok q cf.1 hk cf.2.1 hl rfl (fun a => hty G h a) hd hf kk
theorem v_gL (ok : Ok G X own cc nL d h0) {ci k index : Nat} {r : Option Nat} (fl : FL own index ci k) (hty : tyL ci k) (hd : decode cc pc = .ok (.getfield index, 3)) {f : Int64 → Option τ} (hf : (gL ci k r h).bind f = some z) (kk : ∀ v, f v = some z → V G X nL h0 Q h (pc + 3) lv (vl v :: st)) : V G X nL h0 Q h pc lv (vr r :: st) := by
  obtain ⟨q, cf, hk, hl⟩ := fl
  exact v_getL ok q cf.1 hk cf.2.1 hl rfl (fun a => hty.fv G h a) hd hf kk
theorem v_gR (ok : Ok G X own cc nL d h0) {ci k index : Nat} {r : Option Nat} (fl : FL own index ci k) (hty : tyR ci k) (hd : decode cc pc = .ok (.getfield index, 3)) {f : Option Nat → Option τ} (hf : (gR ci k r h).bind f = some z) (kk : ∀ v, f v = some z → V G X nL h0 Q h (pc + 3) lv (vr v :: st)) : V G X nL h0 Q h pc lv (vr r :: st) := by
  obtain ⟨q, cf, hk, hl⟩ := fl
  exact v_getR ok q cf.1 hk cf.2.1 hl rfl (fun a => hty.fv G h a) hd hf kk
/-! ===== writes ===== -/
theorem rho_ge {a : Nat} (h : NC ≤ a) : rho G a = g_B G + (a - NC) := by rw [rho, if_neg (Nat.not_lt.mpr h)]
theorem rho_lt {a : Nat} (hG : Glob G) (h : a < NC) (hk : ¬ noK a) : rho G a < g_B G := by rw [rho, if_pos h]; exact hG.2.2.2.1 a h hk
theorem rho_ne {a x : Nat} (hG : Glob G) (h : NC ≤ a) (hx : x ≠ a) (hk : ¬ noK x) : rho G x ≠ rho G a := by
  rw [rho_ge h]
  rcases Nat.lt_or_ge x NC with q | q
  · have := rho_lt hG q hk; omega
  · rw [rho_ge q]; omega
theorem fv_congr {h h' : AH} {ty : FieldType} {a k : Nat} (h1 : hI h' a k = hI h a k) (h2 : hL h' a k = hL h a k) (h3 : hR h' a k = hR h a k) : fv G ty h' a k = fv G ty h a k := by
  unfold fv
  split <;> simp only [h1, h2, h3]
theorem Abs.upd {H H' : Heap} (hA : Abs G h H) (hG : Glob G) {h' : AH} {a : Nat} {c' : Cell} (ha : NC ≤ a) (e1 : hK h' = hK h) (e2 : hn h' = hn h) (e3 : hs h' = hs h) (eo : ∀ x k, x ≠ a → hI h' x k = hI h x k ∧ hL h' x k = hL h x k ∧ hR h' x k = hR h x k)
    (hc : H'[rho G a]? = some c') (hcell : cellOf G h' a c') (hsz : H'.size = H.size) (ho : ∀ q, q ≠ rho G a → H'[q]? = H[q]?) : Abs G h' H' := by
  obtain ⟨a1, a2, a3, a4, a5⟩ := hA
  refine ⟨by rw [hsz, e2]; exact a1, by rw [e2, e3]; exact a2, ⟨fun q hq => ?_, fun e he => by rw [fv_congr (eo 120 _ (by have : NC = 128 := rfl; omega)).1 (eo 120 _ (by have : NC = 128 := rfl; omega)).2.1 (eo 120 _ (by have : NC = 128 := rfl; omega)).2.2]; exact a3.2 e he⟩, fun x hx => by rw [e1]; rw [e2] at hx; exact a4 x hx, fun x hx => ?_⟩
  · rw [ho q (by rw [rho_ge ha]; omega)]; exact a3.1 q hq
  · by_cases hxa : x = a
    · subst hxa; exact ⟨c', hc, hcell⟩
    · rw [e1] at hx
      obtain ⟨c, h1, h2, h3, h4, h5, h6⟩ := a5 x hx
      refine ⟨c, by rw [ho _ (rho_ne hG ha hxa (fun z => hx (a4 x (Or.inr z))))]; exact h1, h2, h3, h4, ?_, ?_⟩
      · rw [e1]
        intro q hq
        refine ⟨(h5 q hq).1, fun k hk => ?_⟩
        rw [(h5 q hq).2 k hk, fv_congr (eo x k hxa).1 (eo x k hxa).2.1 (eo x k hxa).2.2]
      · rw [e1]
        intro q
        refine ⟨(h6 q).1, (h6 q).2.1, fun k hk => ?_⟩
        rw [(h6 q).2.2 k hk, fv_congr (eo x k hxa).1 (eo x k hxa).2.1 (eo x k hxa).2.2]
theorem ap_slots (ok : Ok G X own cc nL d h0) {ci : Nat} {q : vw_C} (cf : CF ci q) : ∀ x y, x < q.2.2 → y < q.2.2 → x ≠ y → g_I G ci x ≠ g_I G ci y := by
  intro x y hx hy hne
  have hts : ∀ w ∈ lw_all, w.before X.2.2.2.2.2.2.1 X.2.2.2.2.1 = true := fun w hw => gw ok hw
  obtain ⟨hS, -⟩ := gKn ok cf.1
  obtain ⟨_, _, _, fa, hia, ea⟩ := hS x hx
  obtain ⟨_, _, _, fb, hib, eb⟩ := hS y hy
  rw [← ea, ← eb]
  refine u_apart (u_lays hts cf.2.1 hx) (u_lays hts cf.2.1 hy) hia hib ?_
  rw [(State.fieldFound?_type hia (cf.2.2.1 x hx)).1, (State.fieldFound?_type hib (cf.2.2.1 y hy)).1]
  exact cf.2.2.2 x hx y hy hne
theorem locs_add {locs : List Loc} {B a i : Nat} (h : ∀ q ∈ locs, B ≤ q.base) (ha : B ≤ a) : ∀ q ∈ locs ++ [⟨a, i⟩], B ≤ q.base := by
  intro q hq
  rcases List.mem_append.mp hq with z | z
  · exact h q z
  · rcases List.mem_singleton.mp z with rfl; exact ha
/-- the field k of the cell a is written: any value that fits -/
theorem v_putA (ok : Ok G X own cc nL d h0) {ci k index : Nat} (fl : FL own index ci k) (hfin : ∀ q, clT[ci]? = some q → (q.2.1 k).2.2.2 = false ∨ ((q.2.1 k).2.2.2 = true ∧ X.2.2.2.2.2.2.2.2.1.name = "<init>" ∧ (q.2.1 k).1 = own)) {a : Nat} (hKa : (hK h a).1 = ci) (ha : NC ≤ a) {v : AV} (hnr : narrow (tyT ci k) (cv G v) = cv G v) (hfit : fits (tyT ci k) (cv G v) = true) {h' : AH}
    (e1 : hK h' = hK h) (e2 : hn h' = hn h) (e3 : hs h' = hs h) (eo : ∀ x j, ¬ (x = a ∧ j = k) → hI h' x j = hI h x j ∧ hL h' x j = hL h x j ∧ hR h' x j = hR h x j) (ev : fv G (tyT ci k) h' a k = cv G v) (hd : decode cc pc = .ok (.putfield index, 3)) (kk : V G X nL h0 Q h' (pc + 3) lv st) : V G X nL h0 Q h pc lv (v :: vr (some a) :: st) := by
  intro H locs ls A b c e
  obtain ⟨q, cf, hk, hl⟩ := fl
  have hap := ap_slots ok cf
  have hts : ∀ w ∈ lw_all, w.before X.2.2.2.2.2.2.1 X.2.2.2.2.1 = true := fun w hw => gw ok hw
  obtain ⟨cell, c1, c2, c3, c4, c5, c6⟩ := A.obj cf.1 hKa
  obtain ⟨hS, hfc, kC, hkC, hkind⟩ := gKn ok cf.1
  obtain ⟨cf', kf, fi, f, hi, hsl⟩ := hS k hk
  have hst := (u_facts hfc hkC (u_lays hts cf.2.1 hk) hi).1
  have hlay := hts _ (cf.2.1 _ (u_in_lay hk))
  unfold u_lay at hlay
  have go : ∀ H' : Heap, H'[rho G a]? = some (cell.setSlot f.slot (cv G v)) → H'.size = H.size → (∀ q, q ≠ rho G a → H'[q]? = H[q]?) → Abs G h' H' := by
    intro H' g1 g2 g3
    refine A.upd ok.2.2.2.2.2.2.1 ha e1 e2 e3 (fun x j hx => eo x j (fun z => hx z.1)) g1 ⟨c2, c3, c4, ?_, ?_⟩ g2 g3
    · rw [e1, hKa]
      intro q' hq'
      cases cf.1.symm.trans hq'
      refine ⟨c5, fun j hj => ?_⟩
      rw [hsl]
      by_cases hjk : j = k
      · subst hjk
        rw [Cell.slots_setSlot_self _ (k2_hasslot (c6 j hj)), ev]
      · rw [slot_ne _ _ (hap k j hk hj (Ne.symm hjk)), c6 j hj]
        have := eo a j (fun z => hjk z.2)
        rw [fv_congr this.1 this.2.1 this.2.2]
    · rw [e1, hKa]
      intro z
      have := clT_lt cf.1
      omega
  have hB : g_B G ≤ rho G a := by rw [rho_ge ha]; exact Nat.le_add_right _ _
  have hidx : hn h' - hn h0 = hn h - hn h0 ∧ hs h' - hs h0 = hs h - hs h0 := by rw [e2, e3]; exact ⟨rfl, rfl⟩
  have he' : hn h0 ≤ hn h' ∧ hs h0 ≤ hs h' := by rw [e2, e3]; exact e
  have fin : ∀ H' : Heap, H'[rho G a]? = some (cell.setSlot f.slot (cv G v)) → H'.size = H.size → (∀ q, q ≠ rho G a → H'[q]? = H[q]?) → W X.1 X.2.1 X.2.2.1 X.2.2.2.1 X.2.2.2.2.1 X.2.2.2.2.2.1 X.2.2.2.2.2.2.1 X.2.2.2.2.2.2.2.1 X.2.2.2.2.2.2.2.2.1 X.2.2.2.2.2.2.2.2.2 H' (locs ++ [⟨rho G a, f.slot⟩]) (hn h - hn h0) (hs h - hs h0) Q (F0 X.2.2.2.2.2.1 (pc + 3) ls (st.map (cv G))) := by
    intro H' g1 g2 g3
    have k2 := kk H' (locs ++ [⟨rho G a, f.slot⟩]) ls (go H' g1 g2 g3) b (locs_add c hB) he'
    rw [hidx.1, hidx.2] at k2
    exact k2
  rcases hfin q cf.1 with hf | ⟨hf, hin, hdecl⟩
  · rw [if_neg (by rw [hf]; decide)] at hlay
    have h6 := u_store hfc hkC hkind hlay hi (cf.2.2.1 k hk) hnr hfit
    exact W.putK ok.1 ok.2.1 (f := f) ⟨ok.2.2.2.1, gw ok hl, ⟨_, _, _, hi⟩, hst⟩ (by rw [c5]; exact h6) c1 (c4 ha) (by rw [hsl]; exact k2_hasslot (c6 k hk)) rfl rfl hd fin
  · rw [if_pos hf] at hlay
    have hcf : X.2.2.2.2.2.1.cls = cf' := by
      obtain ⟨_, _, c', _, _, _, -, -, hf', -, -, -, hown2, -⟩ := Cond.laysFinal_spec hlay
      have e1 : c' = cf' := by have := hi.symm.trans hf'; simp at this; exact this.1.symm
      rw [hdecl] at hown2
      rw [← e1]; exact Option.some.inj (ok.2.2.2.1.symm.trans hown2)
    have h6 := u_fits hfc hkC hkind (Or.inr hlay) hi (cf.2.2.1 k hk) hnr hfit
    exact W.putFinK ok.1 ok.2.1 ok.2.2.2.1 (gw ok hl) hi hst hcf hin (by rw [c5]; exact h6) c1 (c4 ha) (by rw [hsl]; exact k2_hasslot (c6 k hk)) rfl rfl hd fin
/-- a field that may be written here -/
def FN (X : CX) (own : String) (ci k : Nat) : Prop := ∀ q, clT[ci]? = some q → (q.2.1 k).2.2.2 = false ∨ ((q.2.1 k).2.2.2 = true ∧ X.2.2.2.2.2.2.2.2.1.name = "<init>" ∧ (q.2.1 k).1 = own)
theorem up2_ne {α : Type} {f : Nat → Nat → α} {a k x j : Nat} {v : α} (h : ¬ (x = a ∧ j = k)) : up2 f a k v x j = f x j := by rw [up2, if_neg h]
theorem up2_eq {α : Type} {f : Nat → Nat → α} {a k : Nat} {v : α} : up2 f a k v a k = v := by rw [up2, if_pos ⟨rfl, rfl⟩]

theorem v_pI (ok : Ok G X own cc nL d h0) {ci k index : Nat} {r : Option Nat} {v : Int32} (fl : FL own index ci k) (hty : tyI ci k ∧ tyT ci k = .int) (hfin : FN X own ci k) (hd : decode cc pc = .ok (.putfield index, 3)) {f : AH → Option τ} (hf : (pI ci k r v h).bind f = some z) (kk : ∀ h', f h' = some z → V G X nL h0 Q h' (pc + 3) lv st) : V G X nL h0 Q h pc lv (vi v :: vr r :: st) := by
  cases r with
  | none => cases hf
  | some a =>
    by_cases hC : (hK h a).1 = ci ∧ NC ≤ a
    · simp only [pI] at hf
      rw [if_pos hC] at hf
      refine v_putA ok fl hfin hC.1 hC.2 (v := vi v) ?_ ?_ (h' := wI a k v h) rfl rfl rfl (fun x j hx => ⟨up2_ne hx, rfl, rfl⟩) ?_ hd (kk _ hf)
      · rw [hty.2]; rfl
      · rw [hty.2]; rfl
      · rw [hty.1]; exact congrArg Value.int up2_eq
    · simp only [pI] at hf
      rw [if_neg hC] at hf
      cases hf
theorem v_pZ (ok : Ok G X own cc nL d h0) {ci k index : Nat} {r : Option Nat} {v : Int32} (fl : FL own index ci k) (hty : tyI ci k ∧ (tyT ci k = .boolean ∨ tyT ci k = .byte)) (hfin : FN X own ci k) (hd : decode cc pc = .ok (.putfield index, 3)) {f : AH → Option τ} (hf : (pZ ci k r v h).bind f = some z) (kk : ∀ h', f h' = some z → V G X nL h0 Q h' (pc + 3) lv st) : V G X nL h0 Q h pc lv (vi v :: vr r :: st) := by
  cases r with
  | none => cases hf
  | some a =>
    by_cases hC : (hK h a).1 = ci ∧ NC ≤ a ∧ (v = 0 ∨ v = 1)
    · simp only [pZ] at hf
      rw [if_pos hC] at hf
      refine v_putA ok fl hfin hC.1 hC.2.1 (v := vi v) ?_ ?_ (h' := wI a k v h) rfl rfl rfl (fun x j hx => ⟨up2_ne hx, rfl, rfl⟩) ?_ hd (kk _ hf)
      · rcases hty.2 with e | e <;> rcases hC.2.2 with rfl | rfl <;> rw [e] <;> rfl
      · rcases hty.2 with e | e <;> rcases hC.2.2 with rfl | rfl <;> rw [e] <;> rfl
      · rw [hty.1]; exact congrArg Value.int up2_eq
    · simp only [pZ] at hf
      rw [if_neg hC] at hf
      cases hf
theorem v_pL (ok : Ok G X own cc nL d h0) {ci k index : Nat} {r : Option Nat} {v : Int64} (fl : FL own index ci k) (hty : tyL ci k) (hfin : FN X own ci k) (hd : decode cc pc = .ok (.putfield index, 3)) {f : AH → Option τ} (hf : (pL ci k r v h).bind f = some z) (kk : ∀ h', f h' = some z → V G X nL h0 Q h' (pc + 3) lv st) : V G X nL h0 Q h pc lv (vl v :: vr r :: st) := by
  cases r with
  | none => cases hf
  | some a =>
    by_cases hC : (hK h a).1 = ci ∧ NC ≤ a
    · simp only [pL] at hf
      rw [if_pos hC] at hf
      refine v_putA ok fl hfin hC.1 hC.2 (v := vl v) ?_ ?_ (h' := wL a k v h) rfl rfl rfl (fun x j hx => ⟨rfl, up2_ne hx, rfl⟩) ?_ hd (kk _ hf)
      · rw [show tyT ci k = .long from hty]; rfl
      · rw [show tyT ci k = .long from hty]; rfl
      · rw [hty.fv]; exact congrArg Value.long up2_eq
    · simp only [pL] at hf
      rw [if_neg hC] at hf
      cases hf
theorem v_pR (ok : Ok G X own cc nL d h0) {ci k index : Nat} {r : Option Nat} {v : Option Nat} (fl : FL own index ci k) (hty : tyR ci k) (hfin : FN X own ci k) (hd : decode cc pc = .ok (.putfield index, 3)) {f : AH → Option τ} (hf : (pR ci k r v h).bind f = some z) (kk : ∀ h', f h' = some z → V G X nL h0 Q h' (pc + 3) lv st) : V G X nL h0 Q h pc lv (vr v :: vr r :: st) := by
  cases r with
  | none => cases hf
  | some a =>
    by_cases hC : (hK h a).1 = ci ∧ NC ≤ a
    · simp only [pR] at hf
      rw [if_pos hC] at hf
      refine v_putA ok fl hfin hC.1 hC.2 (v := vr v) ?_ ?_ (h' := wR a k v h) rfl rfl rfl (fun x j hx => ⟨rfl, rfl, up2_ne hx⟩) ?_ hd (kk _ hf)
      · rcases hty with ⟨C, e⟩ | ⟨T, e⟩ <;> rw [e] <;> cases v <;> rfl
      · rcases hty with ⟨C, e⟩ | ⟨T, e⟩ <;> rw [e] <;> cases v <;> rfl
      · rw [hty.fv]; exact congrArg (fun x => va_rf (Option.map (rho G) x)) up2_eq
    · simp only [pR] at hf
      rw [if_neg hC] at hf
      cases hf
/-- an array's cell behind a store -/
theorem Abs.ast {H H' : Heap} (hA : Abs G h H) (hG : Glob G) {h' : AH} {a i : Nat} {cell : Cell} {v : Value} (ha : NC ≤ a) (ht1 : 100 ≤ (hK h a).1) (hi : i < (hK h a).2) (hc : cellOf G h a cell) (e1 : hK h' = hK h) (e2 : hn h' = hn h) (e3 : hs h' = hs h) (eo : ∀ x j, ¬ (x = a ∧ j = i) → hI h' x j = hI h x j ∧ hL h' x j = hL h x j ∧ hR h' x j = hR h x j) (ev : fv G (atT (hK h a).1) h' a i = v)
    (g1 : H'[rho G a]? = some (cell.setSlot i v)) (g2 : H'.size = H.size) (g3 : ∀ q, q ≠ rho G a → H'[q]? = H[q]?) : Abs G h' H' := by
  obtain ⟨c2, c3, c4, -, c6⟩ := hc
  obtain ⟨d1, d2, d3⟩ := c6 ht1
  refine hA.upd hG ha e1 e2 e3 (fun x j hx => eo x j (fun z => hx z.1)) g1 ⟨c2, c3, c4, ?_, ?_⟩ g2 g3
  · rw [e1]
    intro q hq
    have := clT_lt hq
    omega
  · rw [e1]
    intro _
    refine ⟨⟨⟨c3, d1.1.2⟩, d1.2⟩, SzOk.eq (by simp [Cell.setSlot]) d2, fun j hj => ?_⟩
    by_cases hji : j = i
    · subst hji
      rw [Cell.slots_setSlot_self _ (Nat.lt_of_lt_of_le hj d2.1), ev]
    · rw [slot_ne _ _ (Ne.symm hji), d3 j hj]
      have := eo a j (fun z => hji z.2)
      rw [fv_congr this.1 this.2.1 this.2.2]
theorem Abs.cellA {H : Heap} (hA : Abs G h H) {a : Nat} (ht1 : 100 ≤ (hK h a).1) (ht2 : (hK h a).1 ≤ 107) : ∃ c, H[rho G a]? = some c ∧ cellOf G h a c ∧ SzOk c a (hK h a).2 ∧ ((g_s G).isArrayOf c (atT (hK h a).1) ∧ (NC ≤ a → c.cls = g_A G (hK h a).1)) := by
  obtain ⟨c, h1, h2⟩ := hA.2.2.2.2 a (by omega)
  exact ⟨c, h1, h2, (h2.2.2.2.2 ht1).2.1, (h2.2.2.2.2 ht1).1⟩
theorem v_iast (ok : Ok G X own cc nL d h0) {t : Nat} (ht : t = 100) {r : Option Nat} {i : Int32} {v : Int32} (hd : decode cc pc = .ok (.iastore, 1)) {f : AH → Option τ} (hf : (sI t r i v h).bind f = some z) (kk : ∀ h', f h' = some z → V G X nL h0 Q h' (pc + 1) lv st) : V G X nL h0 Q h pc lv (vi v :: vi i :: vr r :: st) := by
  subst ht
  cases r with
  | none => cases hf
  | some a0 =>
    by_cases hC : (hK h a0).1 = 100 ∧ NC ≤ a0 ∧ ¬ i < 0 ∧ i.toNatClampNeg < (hK h a0).2
    · simp only [sI] at hf
      rw [if_pos hC] at hf
      intro H locs ls a b c e
      obtain ⟨cell, c1, c2, c3, c4⟩ := a.cellA (by rw [hC.1]; decide) (by rw [hC.1]; decide)
      have hB : g_B G ≤ rho G a0 := by rw [rho_ge hC.2.1]; exact Nat.le_add_right _ _
      refine W.iast ok.1 ok.2.1 c1 (isA_ok ok (by have := c4.1; rw [hC.1] at this; exact this)) c2.1 (fun q => q.elim hC.2.2.1 (fun q => absurd hC.2.2.2 (by have := c3.1; omega))) rfl rfl hd (fun H' g1 g2 g3 => ?_)
      refine kk _ hf H' _ ls ?_ b (locs_add c hB) e
      exact a.ast ok.2.2.2.2.2.2.1 hC.2.1 (by rw [hC.1]; decide) hC.2.2.2 c2 rfl rfl rfl (fun x j hx => ⟨up2_ne hx, rfl, rfl⟩) (by rw [hC.1]; exact congrArg Value.int up2_eq) g1 g2 g3
    · simp only [sI] at hf
      rw [if_neg hC] at hf
      cases hf
theorem v_bast (ok : Ok G X own cc nL d h0) {t : Nat} (ht : t = 101) {r : Option Nat} {i : Int32} {v : Int32} (hd : decode cc pc = .ok (.bastore, 1)) {f : AH → Option τ} (hf : (sI t r i (nB v) h).bind f = some z) (kk : ∀ h', f h' = some z → V G X nL h0 Q h' (pc + 1) lv st) : V G X nL h0 Q h pc lv (vi v :: vi i :: vr r :: st) := by
  subst ht
  cases r with
  | none => cases hf
  | some a0 =>
    by_cases hC : (hK h a0).1 = 101 ∧ NC ≤ a0 ∧ ¬ i < 0 ∧ i.toNatClampNeg < (hK h a0).2
    · simp only [sI] at hf
      rw [if_pos hC] at hf
      intro H locs ls a b c e
      obtain ⟨cell, c1, c2, c3, c4⟩ := a.cellA (by rw [hC.1]; decide) (by rw [hC.1]; decide)
      have hB : g_B G ≤ rho G a0 := by rw [rho_ge hC.2.1]; exact Nat.le_add_right _ _
      refine W.bast ok.1 ok.2.1 c1 (isA_ok ok (by have := c4.1; rw [hC.1] at this; exact this)) c2.1 (fun q => q.elim hC.2.2.1 (fun q => absurd hC.2.2.2 (by have := c3.1; omega))) rfl rfl hd (fun H' g1 g2 g3 => ?_)
      refine kk _ hf H' _ ls ?_ b (locs_add c hB) e
      exact a.ast ok.2.2.2.2.2.2.1 hC.2.1 (by rw [hC.1]; decide) hC.2.2.2 c2 rfl rfl rfl (fun x j hx => ⟨up2_ne hx, rfl, rfl⟩) (by rw [hC.1]; exact congrArg Value.int up2_eq) g1 g2 g3
    · simp only [sI] at hf
      rw [if_neg hC] at hf
      cases hf
theorem v_cast (ok : Ok G X own cc nL d h0) {t : Nat} (ht : t = 102) {r : Option Nat} {i : Int32} {v : Int32} (hd : decode cc pc = .ok (.castore, 1)) {f : AH → Option τ} (hf : (sI t r i (nCh v) h).bind f = some z) (kk : ∀ h', f h' = some z → V G X nL h0 Q h' (pc + 1) lv st) : V G X nL h0 Q h pc lv (vi v :: vi i :: vr r :: st) := by
  subst ht
  cases r with
  | none => cases hf
  | some a0 =>
    by_cases hC : (hK h a0).1 = 102 ∧ NC ≤ a0 ∧ ¬ i < 0 ∧ i.toNatClampNeg < (hK h a0).2
    · simp only [sI] at hf
      rw [if_pos hC] at hf
      intro H locs ls a b c e
      obtain ⟨cell, c1, c2, c3, c4⟩ := a.cellA (by rw [hC.1]; decide) (by rw [hC.1]; decide)
      have hB : g_B G ≤ rho G a0 := by rw [rho_ge hC.2.1]; exact Nat.le_add_right _ _
      refine W.cast ok.1 ok.2.1 c1 (isA_ok ok (by have := c4.1; rw [hC.1] at this; exact this)) c2.1 (fun q => q.elim hC.2.2.1 (fun q => absurd hC.2.2.2 (by have := c3.1; omega))) rfl rfl hd (fun H' g1 g2 g3 => ?_)
      refine kk _ hf H' _ ls ?_ b (locs_add c hB) e
      exact a.ast ok.2.2.2.2.2.2.1 hC.2.1 (by rw [hC.1]; decide) hC.2.2.2 c2 rfl rfl rfl (fun x j hx => ⟨up2_ne hx, rfl, rfl⟩) (by rw [hC.1]; exact congrArg Value.int up2_eq) g1 g2 g3
    · simp only [sI] at hf
      rw [if_neg hC] at hf
      cases hf
theorem v_last (ok : Ok G X own cc nL d h0) {t : Nat} (ht : t = 103) {r : Option Nat} {i : Int32} {v : Int64} (hd : decode cc pc = .ok (.lastore, 1)) {f : AH → Option τ} (hf : (sL t r i v h).bind f = some z) (kk : ∀ h', f h' = some z → V G X nL h0 Q h' (pc + 1) lv st) : V G X nL h0 Q h pc lv (vl v :: vi i :: vr r :: st) := by
  subst ht
  cases r with
  | none => cases hf
  | some a0 =>
    by_cases hC : (hK h a0).1 = 103 ∧ NC ≤ a0 ∧ ¬ i < 0 ∧ i.toNatClampNeg < (hK h a0).2
    · simp only [sL] at hf
      rw [if_pos hC] at hf
      intro H locs ls a b c e
      obtain ⟨cell, c1, c2, c3, c4⟩ := a.cellA (by rw [hC.1]; decide) (by rw [hC.1]; decide)
      have hB : g_B G ≤ rho G a0 := by rw [rho_ge hC.2.1]; exact Nat.le_add_right _ _
      refine W.last ok.1 ok.2.1 c1 (isA_ok ok (by have := c4.1; rw [hC.1] at this; exact this)) c2.1 (fun q => q.elim hC.2.2.1 (fun q => absurd hC.2.2.2 (by have := c3.1; omega))) rfl rfl hd (fun H' g1 g2 g3 => ?_)
      refine kk _ hf H' _ ls ?_ b (locs_add c hB) e
      exact a.ast ok.2.2.2.2.2.2.1 hC.2.1 (by rw [hC.1]; decide) hC.2.2.2 c2 rfl rfl rfl (fun x j hx => ⟨rfl, up2_ne hx, rfl⟩) (by rw [hC.1]; exact congrArg Value.long up2_eq) g1 g2 g3
    · simp only [sL] at hf
      rw [if_neg hC] at hf
      cases hf
/-! ===== new cells ===== -/
theorem upA_ne {α : Type} {f : Nat → α} {a x : Nat} {v : α} (h : x ≠ a) : upA f a v x = f x := by rw [upA, if_neg h]
theorem upA_eq {α : Type} {f : Nat → α} {a : Nat} {v : α} : upA f a v a = v := by rw [upA, if_pos rfl]
theorem Abs.push {H H' : Heap} (hA : Abs G h H) (hG : Glob G) {t len sl : Nat} {c' : Cell} (h1 : hn h + 1 ≤ CMX) (h2 : hs h + sl ≤ SMX) (g1 : H'[H.size]? = some c') (g2 : H'.size = H.size + 1) (g3 : ∀ q, q < H.size → H'[q]? = H[q]?) (hc : cellOf G (mk t len sl h) (hn h) c') : Abs G (mk t len sl h) H' := by
  obtain ⟨a1, a2, a3, a4, a5⟩ := hA
  have hr : rho G (hn h) = H.size := by rw [rho_ge a2.1, a1]
  refine ⟨by rw [g2, a1]; show _ = g_B G + (hn h + 1 - NC); omega, ⟨by show NC ≤ hn h + 1; omega, h1, h2⟩, ⟨fun q hq => ?_, fun e he => ?_⟩, fun x hx => ?_, fun x hx => ?_⟩
  · rw [g3 q (by omega)]; exact a3.1 q hq
  · have hne : 120 ≠ hn h := by have : NC = 128 := rfl; omega
    rw [fv_congr (h := h) (congrFun (upA_ne hne) _) (congrFun (upA_ne hne) _) (congrFun (upA_ne hne) _)]
    exact a3.2 e he
  · have hx : hn h + 1 ≤ x ∨ noK x := hx
    show (upA (hK h) (hn h) (t, len) x).1 = 999
    have hNC : NC = 128 := rfl
    have hx2 : x ≠ hn h := by rcases hx with q | q | q <;> omega
    rw [upA_ne hx2]
    exact a4 x (hx.imp (fun q => by omega) id)
  · by_cases hxn : x = hn h
    · subst hxn
      exact ⟨c', by rw [hr]; exact g1, hc⟩
    · have hk : hK (mk t len sl h) x = hK h x := upA_ne hxn
      rw [hk] at hx
      obtain ⟨c, h1, h2, h3, h4, h5, h6⟩ := a5 x hx
      have hlt : x < hn h := Nat.lt_of_not_le (fun q => hx (a4 x (Or.inl q)))
      have hrl : rho G x < H.size := by
        rcases Nat.lt_or_ge x NC with q | q
        · have := rho_lt hG q (fun z => hx (a4 x (Or.inr z))); omega
        · rw [rho_ge q, a1]; omega
      have hfv : ∀ (ty : FieldType) (k : Nat), fv G ty (mk t len sl h) x k = fv G ty h x k := fun ty k => fv_congr (congrFun (upA_ne hxn) k) (congrFun (upA_ne hxn) k) (congrFun (upA_ne hxn) k)
      refine ⟨c, by rw [g3 _ hrl]; exact h1, h2, h3, h4, ?_, ?_⟩
      · rw [hk]
        intro q hq
        exact ⟨(h5 q hq).1, fun k hk => by rw [hfv]; exact (h5 q hq).2 k hk⟩
      · rw [hk]
        intro q
        exact ⟨(h6 q).1, (h6 q).2.1, fun k hk => by rw [hfv]; exact (h6 q).2.2 k hk⟩
theorem v_newarr (ok : Ok G X own cc nL d h0) {t : Nat} {atype : ArrayType} (ht1 : 100 ≤ t) (ht2 : t ≤ 107) (hty : newarray.typeOf atype = atT t) (hq : Cond.arrayClass (newarray.typeOf atype) ∈ lw_all) (hdf : ∀ (G : GT) (h : AH) (a j : Nat), hI h a j = 0 → hL h a j = 0 → defaultValue (atT t) = fv G (atT t) h a j) (hcb : componentBytes (atT t) ≤ 8) {n : Int32} (hd : decode cc pc = .ok (.newarray atype, 2)) {f : Option Nat → AH → Option τ} (hf : b2 (newA t n h) f = some z) (kk : ∀ r h', f r h' = some z → V G X nL h0 Q h' (pc + 2) lv (vr r :: st)) : V G X nL h0 Q h pc lv (vi n :: st) := by
  by_cases h1 : n < 0
  · rw [newA, if_pos h1] at hf; cases hf
  rw [newA, if_neg h1, alloc] at hf
  by_cases h2 : hn h + 1 ≤ CMX ∧ hs h + n.toNatClampNeg ≤ SMX
  · rw [if_pos h2] at hf
    intro H locs ls a b c e
    have hroom := ok.2.2.2.2.2.2.2
    refine va_newaK ok.1 ok.2.1 (gw ok hq) rfl hd rfl h1 rfl ?_ ?_ ?_ rfl (fun H' cA g1 g2 g3 hAr hNm => ?_)
    · rw [hty]
      have h3 : n.toNatClampNeg ≤ 6471184 := by have := h2.2; unfold SMX at this; omega
      calc n.toNatClampNeg * componentBytes (atT t) ≤ 6471184 * 8 := Nat.mul_le_mul h3 hcb
        _ ≤ 536870912 := by decide
    · exact Nat.le_trans (by show _ ≤ CMX - hn h0; omega) hroom.2.1
    · exact Nat.le_trans (by show _ ≤ SMX - hs h0; omega) hroom.2.2.1
    · have hcA : cA = g_A G t := by
        obtain ⟨_, _, k1, -⟩ := gAK ok ht1 ht2
        rw [hty] at hNm
        exact Option.some.inj (hNm.symm.trans k1)
      have k2 := kk _ _ hf H' locs ls ?_ b c ⟨Nat.le_trans e.1 (Nat.le_add_right _ 1), Nat.le_trans e.2 (Nat.le_add_right _ _)⟩
      · have i1 : hn (mk t n.toNatClampNeg n.toNatClampNeg h) - hn h0 = hn h - hn h0 + 1 := by show hn h + 1 - hn h0 = _; omega
        have i2 : hs (mk t n.toNatClampNeg n.toNatClampNeg h) - hs h0 = hs h - hs h0 + n.toNatClampNeg := by show hs h + _ - hs h0 = _; omega
        rw [i1, i2] at k2
        have hr : cv G (vr (some (hn h))) = .ref H.size := by show va_rf (some (rho G (hn h))) = _; rw [rho_ge a.2.1.1, ← a.1]; rfl
        rw [List.map_cons, hr] at k2
        exact k2
      · refine a.push ok.2.2.2.2.2.2.1 h2.1 h2.2 g1 g2 g3 ⟨(fun z => by cases z), (fun q z => by cases z), fun _ => rfl, ?_, ?_⟩
        · show ∀ q, clT[(upA (hK h) (hn h) (t, n.toNatClampNeg) (hn h)).1]? = some q → _
          rw [upA_eq]
          intro q hq
          have := clT_lt hq
          omega
        · have hkk : hK (mk t n.toNatClampNeg n.toNatClampNeg h) (hn h) = (t, n.toNatClampNeg) := upA_eq
          rw [hkk]
          intro _
          refine ⟨⟨State.isArrayOf_alike ok.2.2.2.2.1.alike.symm (by have := hAr n.toNatClampNeg (fun _ => defaultValue (newarray.typeOf atype)); rw [hty] at this; rw [hty]; exact this), fun _ => hcA⟩, SzOk.ex (arrV_size _ _ _), fun j hj => ?_⟩
          rw [arrV_read _ _ hj, hty]
          exact congrArg some (hdf G _ _ j (congrFun upA_eq j) (congrFun upA_eq j))
  · rw [if_neg h2] at hf; cases hf
/-- a new object of the class ci -/
def newO (ci N : Nat) (h : AH) : Option (Option Nat × AH) := alloc ci 0 N h
theorem v_new (ok : Ok G X own cc nL d h0) {ci N index : Nat} {q : vw_C} (cf : CF ci q) (hN : q.2.2 = N) (q1 : Cond.classLink own index q.1 ∈ lw_all) (q2 : Cond.instantiable q.1 N ∈ lw_all) (q3 : Cond.initialized q.1 ∈ lw_all) (hdf : ∀ (G : GT) (h : AH) (a j : Nat), j < N → hI h a j = 0 → hL h a j = 0 → hR h a j = none → defaultValue (tyT ci j) = fv G (tyT ci j) h a j) (hd : decode cc pc = .ok (.new index, 3)) {f : Option Nat → AH → Option τ} (hf : b2 (newO ci N h) f = some z) (kk : ∀ r h', f r h' = some z → V G X nL h0 Q h' (pc + 3) lv (vr r :: st)) : V G X nL h0 Q h pc lv st := by
  subst hN
  rw [newO, alloc] at hf
  by_cases h2 : hn h + 1 ≤ CMX ∧ hs h + q.2.2 ≤ SMX
  · rw [if_pos h2] at hf
    intro H locs ls a b c e
    have hroom := ok.2.2.2.2.2.2.2
    have hKn := gKn ok cf.1
    have hts : ∀ w ∈ lw_all, w.before X.2.2.2.2.2.2.1 X.2.2.2.2.1 = true := fun w hw => gw ok hw
    refine W.newcK ok.1 ok.2.1 ok.2.2.2.1 (gw ok q1) (gw ok q2) (gw ok q3) rfl hd ?_ ?_ hKn.2.1 rfl (fun H' kC hkC g1 g2 g3 => ?_)
    · exact Nat.le_trans (by show _ ≤ CMX - hn h0; omega) hroom.2.1
    · exact Nat.le_trans (by show _ ≤ SMX - hs h0; omega) hroom.2.2.1
    · have k2 := kk _ _ hf H' locs ls ?_ b c ⟨Nat.le_trans e.1 (Nat.le_add_right _ 1), Nat.le_trans e.2 (Nat.le_add_right _ _)⟩
      · have i1 : hn (mk ci 0 q.2.2 h) - hn h0 = hn h - hn h0 + 1 := by show hn h + 1 - hn h0 = _; omega
        have i2 : hs (mk ci 0 q.2.2 h) - hs h0 = hs h - hs h0 + q.2.2 := by show hs h + _ - hs h0 = _; omega
        rw [i1, i2] at k2
        have hr : cv G (vr (some (hn h))) = .ref H.size := by show va_rf (some (rho G (hn h))) = _; rw [rho_ge a.2.1.1, ← a.1]; rfl
        rw [List.map_cons, hr] at k2
        exact k2
      · obtain ⟨cell, t1, t2, t3, t4⟩ := u_born (tyT ci) hts cf.2.1 hKn hkC g1 cf.2.2.1
        have hkk : hK (mk ci 0 q.2.2 h) (hn h) = (ci, 0) := upA_eq
        refine a.push ok.2.2.2.2.2.2.1 h2.1 h2.2 t1 g2 g3 ⟨(fun z => by rw [t3] at z; cases z), (fun q z => by rw [t3] at z; cases z), fun _ => t3, ?_, ?_⟩
        · rw [hkk]
          intro q' hq'
          cases cf.1.symm.trans hq'
          refine ⟨t2, fun k hk => ?_⟩
          rw [t4 k hk]
          exact congrArg some (hdf G _ _ k hk (congrFun upA_eq k) (congrFun upA_eq k) (congrFun upA_eq k))
        · rw [hkk]
          intro z
          have := clT_lt cf.1
          have z : 100 ≤ ci := z
          omega
  · rw [if_neg h2] at hf; cases hf
/-! ===== returns ===== -/
theorem v_iret (ok : Ok G X own cc nL d h0) {v : Int32} (hr : X.2.2.2.2.2.2.2.2.1.sig.returnType = some .int) (hQ : Q = QM G X h0 (some (vi v)) h) (hd : decode cc pc = .ok (.ireturn, 1)) : V G X nL h0 Q h pc lv [vi v] := by
  intro H locs ls a b c e
  subst hQ
  exact W.iret ok.1 ok.2.1 hr (fun t ht _ => ⟨rfl, by rw [ht]; exact a, e⟩) c hd ok.2.2.2.2.2.1
theorem v_zret (ok : Ok G X own cc nL d h0) {v : Int32} {ty : FieldType} (hr : X.2.2.2.2.2.2.2.2.1.sig.returnType = some ty) (hty : ty = .boolean ∨ ty = .byte) {f : Int32 → AH → Option τ} (hf : b2 (rz v h) f = some z) (hQ : f v h = some z → Q = QM G X h0 (some (vi v)) h) (hd : decode cc pc = .ok (.ireturn, 1)) : V G X nL h0 Q h pc lv [vi v] := by
  by_cases hC : v = 0 ∨ v = 1
  · rw [rz, if_pos hC] at hf
    intro H locs ls a b c e
    rw [hQ hf]
    exact W.zret ok.1 ok.2.1 hr (by rcases hty with rfl | rfl <;> rcases hC with rfl | rfl <;> rfl) (fun t ht _ => ⟨rfl, by rw [ht]; exact a, e⟩) c hd ok.2.2.2.2.2.1
  · rw [rz, if_neg hC] at hf; cases hf
theorem v_cret (ok : Ok G X own cc nL d h0) {v : Int32} (hr : X.2.2.2.2.2.2.2.2.1.sig.returnType = some .char) {f : Int32 → AH → Option τ} (hf : b2 (rC v h) f = some z) (hQ : f v h = some z → Q = QM G X h0 (some (vi v)) h) (hd : decode cc pc = .ok (.ireturn, 1)) : V G X nL h0 Q h pc lv [vi v] := by
  by_cases hC : nCh v = v
  · rw [rC, if_pos hC] at hf
    intro H locs ls a b c e
    rw [hQ hf]
    exact W.zret ok.1 ok.2.1 hr (by exact congrArg Value.int hC) (fun t ht _ => ⟨rfl, by rw [ht]; exact a, e⟩) c hd ok.2.2.2.2.2.1
  · rw [rC, if_neg hC] at hf; cases hf
theorem v_lret (ok : Ok G X own cc nL d h0) {v : Int64} (hr : X.2.2.2.2.2.2.2.2.1.sig.returnType = some .long) (hQ : Q = QM G X h0 (some (vl v)) h) (hd : decode cc pc = .ok (.lreturn, 1)) : V G X nL h0 Q h pc lv [vl v] := by
  intro H locs ls a b c e
  subst hQ
  exact W.lret ok.1 ok.2.1 hr (fun t ht _ => ⟨rfl, by rw [ht]; exact a, e⟩) c hd ok.2.2.2.2.2.1
theorem v_vret (ok : Ok G X own cc nL d h0) (hr : X.2.2.2.2.2.2.2.2.1.sig.returnType = none) (hQ : Q = QM G X h0 none h) (hd : decode cc pc = .ok (.return_, 1)) : V G X nL h0 Q h pc lv [] := by
  intro H locs ls a b c e
  subst hQ
  exact W.vret ok.1 ok.2.1 hr (fun t ht _ => ⟨rfl, by rw [ht]; exact a, e⟩) c hd ok.2.2.2.2.2.1
theorem v_aret (ok : Ok G X own cc nL d h0) {r : Option Nat} {rt : FieldType} (hr : X.2.2.2.2.2.2.2.2.1.sig.returnType = some rt) (hrt : (∃ n, rt = .object n) ∨ ∃ t, rt = .array t) (hQ : Q = QM G X h0 (some (vr r)) h) (hd : decode cc pc = .ok (.areturn, 1)) : V G X nL h0 Q h pc lv [vr r] := by
  intro H locs ls a b c e
  subst hQ
  exact W.aret ok.1 ok.2.1 hr hrt (by cases r with | none => exact Or.inl rfl | some q => exact Or.inr ⟨_, rfl⟩) (fun t ht _ => ⟨rfl, by rw [ht]; exact a, e⟩) c hd ok.2.2.2.2.2.1
theorem v_zretL (ok : Ok G X own cc nL d h0) {v : Int32} {ty : FieldType} (hr : X.2.2.2.2.2.2.2.2.1.sig.returnType = some ty) (hty : ty = .boolean ∨ ty = .byte) (hC : v = 0 ∨ v = 1) (hQ : Q = QM G X h0 (some (vi v)) h) (hd : decode cc pc = .ok (.ireturn, 1)) : V G X nL h0 Q h pc lv [vi v] := by
  intro H locs ls a b c e
  rw [hQ]
  exact W.zret ok.1 ok.2.1 hr (by rcases hty with rfl | rfl <;> rcases hC with rfl | rfl <;> rfl) (fun t ht _ => ⟨rfl, by rw [ht]; exact a, e⟩) c hd ok.2.2.2.2.2.1
theorem FN.of {ci k : Nat} {q0 : vw_C} (h0 : clT[ci]? = some q0) (hf : (q0.2.1 k).2.2.2 = false) : FN X own ci k := fun q hq => Or.inl (by rw [Option.some.inj (hq.symm.trans h0)]; exact hf)
theorem FN.ini {ci k : Nat} {q0 : vw_C} (h0 : clT[ci]? = some q0) (hf : (q0.2.1 k).2.2.2 = true) (hn : X.2.2.2.2.2.2.2.2.1.name = "<init>") (hd : (q0.2.1 k).1 = own) : FN X own ci k := fun q hq => Or.inr (by rw [Option.some.inj (hq.symm.trans h0)]; exact ⟨hf, hn, hd⟩)
theorem sw_if {x v : Int32} {A B : Option τ} {P : Prop} (hf : (if x = v then A else B) = some z) (kt : x = v → A = some z → P) (kf : ¬ x = v → B = some z → P) : P := by
  by_cases h : x = v
  · rw [if_pos h] at hf; exact kt h hf
  · rw [if_neg h] at hf; exact kf h hf
theorem ne_toI {x v : Int32} (k : Int) (hv : v.toInt = k) (h : ¬ x = v) : x.toInt ≠ k := fun e => h (Int32.toInt_inj.mp (e.trans hv.symm))
/-- out of a loop, to the code behind it -/
theorem loopC_exit {σ τ : Type} {b : σ → Option (σ ⊕ τ)} {s : σ} {E : Option τ} (h : b s = E.bind fun o => some (.inr o)) : loopC b s = E := by
  cases E with
  | none => exact loopC_none h
  | some z => exact loopC_end h
end VRows2
