set_option maxRecDepth 100000
def xVa : MethodName := ⟨"TurnedBoards$Value", "at", "(LTurnedBoards$Moment;)J"⟩
def xTh : MethodName := ⟨"TurnedBoards$Test", "holds", "(LTurnedBoards$Moment;)Z"⟩
abbrev VaT : Type := Option Nat → Option Nat → AH → Option (Int64 × AH)
abbrev ThT : Type := Option Nat → Option Nat → AH → Option (Int32 × AH)
/-- va is what Value.at does, whichever class the receiver has, within depth e -/
def DVA (G : GT) (l : Launch) (e : Nat) (va : VaT) : Prop := ∀ r m h v h', va r m h = some (v, h') → ∃ (a ci : Nat) (q : vw_C) (y : MethodName) (bytes : ByteArray) (maxL : Nat), r = some a ∧ clT[ci]? = some q ∧ (hK h a).1 = ci ∧ CW y bytes maxL (some .long) 1 ∧ Cond.instanceMethod y ∈ lw_all ∧ CWU q.1 xVa y ∧ MM G l y bytes maxL (some .long) e [vr (some a), vr m] h (some (vl v)) h'
def DTH (G : GT) (l : Launch) (e : Nat) (th : ThT) : Prop := ∀ r m h v h', th r m h = some (v, h') → ∃ (a ci : Nat) (q : vw_C) (y : MethodName) (bytes : ByteArray) (maxL : Nat), r = some a ∧ clT[ci]? = some q ∧ (hK h a).1 = ci ∧ CW y bytes maxL (some .boolean) 1 ∧ Cond.instanceMethod y ∈ lw_all ∧ CWU q.1 xTh y ∧ MM G l y bytes maxL (some .boolean) e [vr (some a), vr m] h (some (vi v)) h'
section VRows8
variable {G : GT} {X : CX} {nL d : Nat} {h0 h : AH} {Q : State → Prop} {pc : Nat} {lv : List (Nat × AV)} {st stk : List AV} {own : String} {cc : ByteArray} {τ : Type} {z : τ}
theorem v_dva (ok : Ok G X own cc nL d h0) {e index : Nat} {va : VaT} (hva : DVA G X.2.1 e va) (he : e + 1 ≤ d) (q1 : Cond.methodLink own index xVa ∈ lw_all) (hd : decode cc pc = .ok (.invokevirtual index, 3)) {r m : Option Nat} (h8 : (st.map ctN).sum ≤ 12) {f : Int64 → AH → Option τ} (hf : b2 (va r m h) f = some z) (kk : ∀ v h1, f v h1 = some z → V G X nL h0 Q h1 (pc + 3) lv (vl v :: st)) : V G X nL h0 Q h pc lv (vr m :: vr r :: st) := by
  obtain ⟨v, h1, hv, hz⟩ := ob2 hf
  obtain ⟨a, ci, q, y, bytes, maxL, rfl, hq, hKa, cw, q2, cf, mm⟩ := hva _ _ _ _ _ hv
  exact v_cU ok hq hKa (as := [vr m]) mm he cw q1 q2 cf hd rfl h8 (kk v h1 hz)
theorem v_dth (ok : Ok G X own cc nL d h0) {e index : Nat} {th : ThT} (hth : DTH G X.2.1 e th) (he : e + 1 ≤ d) (q1 : Cond.methodLink own index xTh ∈ lw_all) (hd : decode cc pc = .ok (.invokevirtual index, 3)) {r m : Option Nat} (h8 : (st.map ctN).sum ≤ 12) {f : Int32 → AH → Option τ} (hf : b2 (th r m h) f = some z) (kk : ∀ v h1, f v h1 = some z → V G X nL h0 Q h1 (pc + 3) lv (vi v :: st)) : V G X nL h0 Q h pc lv (vr m :: vr r :: st) := by
  obtain ⟨v, h1, hv, hz⟩ := ob2 hf
  obtain ⟨a, ci, q, y, bytes, maxL, rfl, hq, hKa, cw, q2, cf, mm⟩ := hth _ _ _ _ _ hv
  exact v_cU ok hq hKa (as := [vr m]) mm he cw q1 q2 cf hd rfl h8 (kk v h1 hz)
end VRows8
