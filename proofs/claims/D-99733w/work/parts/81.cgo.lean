set_option maxRecDepth 100000
/-! ===== the class: years go by ===== -/
def PGO (a k : Nat) : Prop := PKP a k ∨ a = 144 ∨ PST 148 a k
theorem McP_PGO : McP PGO := fun a k z => by unfold PGO PKP PST at z; unfold Mc PRT; omega
theorem CUN.fc {P : Nat → Nat → Prop} {h h' : AH} {s : SH} {U : List RW} (F : FC P h h') (h4 : z_nb s ≤ 4) (hP : ∀ a k, (a = 128 ∧ k = 13) ∨ (267 ≤ a ∧ a < 1348) → ¬ P a k) (C : CUN h s U) : CUN h' s U := by
  obtain ⟨a, p, c⟩ := C
  exact ⟨a, p, c.fc F h4 a hP⟩
section CGo
variable {va : VaT} {th : ThT} {Q : Nat → Prop} {h : AH} {sp : Nat} {s : SH} {f : RW}
theorem C_goYears (F : WFS s) (hQ : ∀ a, Q a → Im a) (B : CB va th Q h sp s) (C : CNW s h f) (G : WFN s f) {U : List RW} (T : CUN h s U) {r : Nat → Int32} (R : CRF h r) (x : Int32) :
    Ev (X0_years va th 128 x h) (fun z => (isA f x 1 100 = false → z.1 = -1 ∧ z.2 = wI 147 3 (r 3 + 1) h) ∧ (isA f x 1 100 = true → z.1 = nI (ysm s (nt x) f) ∧ FC PGO h z.2 ∧ CNW s z.2 (ygs s (nt x) f) ∧ CUN z.2 s (kpU f U))) := by
  have h4 := F.2.2.2.2.1
  have K := B.1
  rw [X0_years, co_128 K, Option.bind_some, show X0_isAhead 128 x 1 100 h = X0_isAhead 128 x (nI 1) (nI 100) h from rfl, b2_of (C_isAhead B C G.1 x (by decide) (by decide))]
  cases e : isA f x 1 100 with
  | false =>
    have rf : X0_refuses 128 3 h = some (-1, wI 147 3 (r 3 + 1) h) := (C_refuses B R (k := 3) (by decide)).1
    rw [if_pos (show bI false = 0 from rfl), co_128 K, Option.bind_some, b2_of rf, Ev_some]
    exact ⟨fun _ => ⟨rfl, rfl⟩, fun z => by cases z⟩
  | true =>
    obtain ⟨n, rfl, -, n2, n3⟩ := isA_ex (by decide) e
    rw [if_neg (show ¬ bI true = 0 by decide), co_128 K, Option.bind_some, nt_n (by omega)]
    obtain ⟨H1, h1, F1, T1, C1⟩ := C_keeps F hQ B C G T
    have B1 := B.fc hQ F1 McP_PKP
    have K1 := B1.1
    have F2 : FC (fun a k => a = 148 ∧ k = 2) H1 (wI 148 2 0 H1) := (FC.refl _ H1).wI ⟨rfl, rfl⟩
    have B2 := B1.fc hQ F2 (fun a k z => by unfold Mc PRT; omega)
    have K2 := B2.1
    have C2 := C1.fc F2 h4 G.2.2 (fun a k z => by omega)
    rw [h1, Option.bind_some, cg_128_9 K1, Option.bind_some, C1.1.1.pi, Option.bind_some, cg_128_9 K2, Option.bind_some, C2.1.1.o, Option.bind_some, Ev_b2]
    refine ev_mono (C_years F hQ B2 G (by unfold SZ; omega) C2.1 n3) ?_
    rintro ⟨y, H3⟩ ⟨rfl, F3, C3, E3⟩
    simp only at F3 C3 E3
    have B3 := B2.fc hQ F3 (McP_PYR (by unfold SZ; omega))
    have E4 : hI H3 148 2 = nI (ysm s n f) := by rw [E3, p_II, if_pos ⟨rfl, rfl⟩]; exact Int32.zero_add _
    rw [cg_128_9 B3.1, Option.bind_some, C3.1.gi, Option.bind_some, E4, Ev_some]
    obtain ⟨q2, R2⟩ := C2.2.2
    refine ⟨fun z => (nomatch z), fun _ => ⟨rfl, ?_, ⟨C3, C2.2.1.fc F3 (fun a k z => by unfold PYR PPS PAH; omega), q2, R2.fc F3 (fun k => by unfold PYR PPS PAH; omega)⟩, ?_⟩⟩
    · exact ((F1.mono (Q := PGO) (fun a k z => Or.inl z)).trans (F2.mono (Q := PGO) (fun a k z => by unfold PGO PST; omega))).trans (F3.mono (Q := PGO) (fun a k z => by unfold PYR PPS PAH at z; unfold PGO PST; omega))
    · exact (T1.fc F2 h4 (fun a k z => by omega)).fc F3 h4 (fun a k z => by unfold PYR PPS PAH; omega)
end CGo
