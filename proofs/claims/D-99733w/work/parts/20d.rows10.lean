set_option maxRecDepth 100000
/-! ===== a field inherited, named by the heir ===== -/
def FLS (own : String) (index ci k : Nat) : Prop := ∃ q ref, CF ci q ∧ k < q.2.2 ∧ Cond.fieldLink own index ref (q.2.1 k).2.1 (q.2.1 k).2.2.1 ∈ lw_all ∧ Cond.sameField ref (q.2.1 k).1 (q.2.1 k).2.1 (q.2.1 k).2.2.1 ∈ lw_all
section VRows10
variable {G : GT} {X : CX} {nL d : Nat} {h0 h : AH} {Q : State → Prop} {pc : Nat} {lv : List (Nat × AV)} {st : List AV} {own : String} {cc : ByteArray} {τ : Type} {z : τ}
theorem v_gIs (ok : Ok G X own cc nL d h0) {ci k index : Nat} {r : Option Nat} (fl : FLS own index ci k) (hty : tyI ci k) (hd : decode cc pc = .ok (.getfield index, 3)) {f : Int32 → Option τ} (hf : (gI ci k r h).bind f = some z) (kk : ∀ v, f v = some z → V G X nL h0 Q h (pc + 3) lv (vi v :: st)) : V G X nL h0 Q h pc lv (vr r :: st) := by
  obtain ⟨q, ref, cf, hk, hl, hsm⟩ := fl
  cases r with
  | none => cases hf
  | some a0 =>
    by_cases hKa : (hK h a0).1 = ci
    · simp only [gI] at hf
      rw [if_pos hKa] at hf
      intro H locs ls a1 b c e
      obtain ⟨cell, e1, e2, -, -, e5, e6⟩ := a1.obj cf.1 hKa
      obtain ⟨hS, hfc, kC, hkC, hkind⟩ := gKn ok cf.1
      obtain ⟨cf', kf, fi, f', hi, hsl⟩ := hS k hk
      have hts : ∀ w ∈ lw_all, w.before X.2.2.2.2.2.2.1 X.2.2.2.2.1 = true := fun w hw => gw ok hw
      refine W.getf ok.1 ok.2.1 ok.2.2.2.1 (gw ok hl) (u_same (hts _ hsm) _ hi) (u_facts hfc hkC (u_lays hts cf.2.1 hk) hi).1 e1 e2 (v := cv G (vi (hI h a0 k))) ?_ rfl rfl hd (kk _ hf H locs ls a1 b c e)
      rw [hsl, e6 k hk, hty G h a0]
      rfl
    · simp only [gI] at hf
      rw [if_neg hKa] at hf
      cases hf
theorem v_putAs (ok : Ok G X own cc nL d h0) {ci k index : Nat} (fl : FLS own index ci k) (hfin : ∀ q, clT[ci]? = some q → (q.2.1 k).2.2.2 = false) {a : Nat} (hKa : (hK h a).1 = ci) (ha : NC ≤ a) {v : AV} (hnr : narrow (tyT ci k) (cv G v) = cv G v) (hfit : fits (tyT ci k) (cv G v) = true) {h' : AH}
    (e1 : hK h' = hK h) (e2 : hn h' = hn h) (e3 : hs h' = hs h) (eo : ∀ x j, ¬ (x = a ∧ j = k) → hI h' x j = hI h x j ∧ hL h' x j = hL h x j ∧ hR h' x j = hR h x j) (ev : fv G (tyT ci k) h' a k = cv G v) (hd : decode cc pc = .ok (.putfield index, 3)) (kk : V G X nL h0 Q h' (pc + 3) lv st) : V G X nL h0 Q h pc lv (v :: vr (some a) :: st) := by
  intro H locs ls A b c e
  obtain ⟨q, ref, cf, hk, hl, hsm⟩ := fl
  have hap := ap_slots ok cf
  have hts : ∀ w ∈ lw_all, w.before X.2.2.2.2.2.2.1 X.2.2.2.2.1 = true := fun w hw => gw ok hw
  obtain ⟨cell, c1, c2, c3, c4, c5, c6⟩ := A.obj cf.1 hKa
  obtain ⟨hS, hfc, kC, hkC, hkind⟩ := gKn ok cf.1
  obtain ⟨cf', kf, fi, f, hi, hsl⟩ := hS k hk
  have hst := (u_facts hfc hkC (u_lays hts cf.2.1 hk) hi).1
  have hlay := hts _ (cf.2.1 _ (u_in_lay hk))
  unfold u_lay at hlay
  have go : ∀ H' : Heap, H'[rho G a]? = some (cell.setSlot f.slot (cv G v)) → H'.size = H.size → (∀ q, q ≠ rho G a → H'[q]? = H[q]?) → Abs G h' H' := by
    intro H' g1 g2 g3
    refine A.upd ok.2.2.2.2.2.2.1 ha e1 e2 e3 (fun x j hx => eo x j (fun z => hx z.1)) g1 ⟨c2, c3, c4, ?_, ?_⟩ g2 g3
    · rw [e1, hKa]
      intro q' hq'
      cases cf.1.symm.trans hq'
      refine ⟨c5, fun j hj => ?_⟩
      rw [hsl]
      by_cases hjk : j = k
      · subst hjk
        rw [Cell.slots_setSlot_self _ (k2_hasslot (c6 j hj)), ev]
      · rw [slot_ne _ _ (hap k j hk hj (Ne.symm hjk)), c6 j hj]
        have := eo a j (fun z => hjk z.2)
        rw [fv_congr this.1 this.2.1 this.2.2]
    · rw [e1, hKa]
      intro z
      have := clT_lt cf.1
      omega
  have hB : g_B G ≤ rho G a := by rw [rho_ge ha]; exact Nat.le_add_right _ _
  have hidx : hn h' - hn h0 = hn h - hn h0 ∧ hs h' - hs h0 = hs h - hs h0 := by rw [e2, e3]; exact ⟨rfl, rfl⟩
  have he' : hn h0 ≤ hn h' ∧ hs h0 ≤ hs h' := by rw [e2, e3]; exact e
  have fin : ∀ H' : Heap, H'[rho G a]? = some (cell.setSlot f.slot (cv G v)) → H'.size = H.size → (∀ q, q ≠ rho G a → H'[q]? = H[q]?) → W X.1 X.2.1 X.2.2.1 X.2.2.2.1 X.2.2.2.2.1 X.2.2.2.2.2.1 X.2.2.2.2.2.2.1 X.2.2.2.2.2.2.2.1 X.2.2.2.2.2.2.2.2.1 X.2.2.2.2.2.2.2.2.2 H' (locs ++ [⟨rho G a, f.slot⟩]) (hn h - hn h0) (hs h - hs h0) Q (F0 X.2.2.2.2.2.1 (pc + 3) ls (st.map (cv G))) := by
    intro H' g1 g2 g3
    have k2 := kk H' (locs ++ [⟨rho G a, f.slot⟩]) ls (go H' g1 g2 g3) b (locs_add c hB) he'
    rw [hidx.1, hidx.2] at k2
    exact k2
  have hf := hfin q cf.1
  rw [if_neg (by rw [hf]; decide)] at hlay
  have h6 := u_store hfc hkC hkind hlay hi (cf.2.2.1 k hk) hnr hfit
  exact W.putK ok.1 ok.2.1 (f := f) ⟨ok.2.2.2.1, gw ok hl, ⟨_, _, _, u_same (hts _ hsm) _ hi⟩, hst⟩ (by rw [c5]; exact h6) c1 (c4 ha) (by rw [hsl]; exact k2_hasslot (c6 k hk)) rfl rfl hd fin
theorem v_pIs (ok : Ok G X own cc nL d h0) {ci k index : Nat} {r : Option Nat} {v : Int32} (fl : FLS own index ci k) (hty : tyI ci k ∧ tyT ci k = .int) (hfin : ∀ q, clT[ci]? = some q → (q.2.1 k).2.2.2 = false) (hd : decode cc pc = .ok (.putfield index, 3)) {f : AH → Option τ} (hf : (pI ci k r v h).bind f = some z) (kk : ∀ h', f h' = some z → V G X nL h0 Q h' (pc + 3) lv st) : V G X nL h0 Q h pc lv (vi v :: vr r :: st) := by
  cases r with
  | none => cases hf
  | some a =>
    by_cases hC : (hK h a).1 = ci ∧ NC ≤ a
    · simp only [pI] at hf
      rw [if_pos hC] at hf
      refine v_putAs ok fl hfin hC.1 hC.2 (v := vi v) ?_ ?_ (h' := wI a k v h) rfl rfl rfl (fun x j hx => ⟨up2_ne hx, rfl, rfl⟩) ?_ hd (kk _ hf)
      · rw [hty.2]; rfl
      · rw [hty.2]; rfl
      · rw [hty.1]; exact congrArg Value.int up2_eq
    · simp only [pI] at hf
      rw [if_neg hC] at hf
      cases hf
end VRows10
