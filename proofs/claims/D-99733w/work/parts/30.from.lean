set_option maxRecDepth 100000
def wtQ : List Cond := [Cond.eq (.string "TurnedBoards$Reader" 133) (.string "TurnedBoards" 435), Cond.eq (.string "TurnedBoards$Reader" 153) (.string "TurnedBoards" 436), Cond.eq (.string "TurnedBoards$Reader" 191) (.string "TurnedBoards" 433), Cond.eq (.string "TurnedBoards$Reader" 192) (.string "TurnedBoards" 437), Cond.eq (.string "TurnedBoards$Reader" 193) (.string "TurnedBoards" 438), Cond.eq (.string "TurnedBoards$Reader" 202) (.string "TurnedBoards" 440), Cond.eq (.string "TurnedBoards$Reader" 204) (.string "TurnedBoards" 441), Cond.eq (.string "TurnedBoards$Reader" 206) (.string "TurnedBoards" 455), Cond.eq (.string "TurnedBoards$Reader" 208) (.string "TurnedBoards" 443), Cond.eq (.string "TurnedBoards$Reader" 210) (.string "TurnedBoards" 445), Cond.eq (.string "TurnedBoards$Reader" 284) (.string "TurnedBoards" 453), Cond.eq (.string "TurnedBoards$Reader" 286) (.string "TurnedBoards" 454), Cond.eq (.string "TurnedBoards$Reader" 299) (.string "TurnedBoards" 446), Cond.eq (.string "TurnedBoards$Reader" 308) (.string "TurnedBoards" 448), Cond.eq (.string "TurnedBoards$Reader" 310) (.string "TurnedBoards" 450), Cond.eq (.string "TurnedBoards$Reader" 317) (.string "TurnedBoards" 452)]
theorem nQ : ∀ w ∈ wtQ, w ∈ F1 := in_F _ [386, 395, 375, 406, 418, 430, 441, 658, 453, 464, 634, 644, 594, 604, 614, 624] (by decide +kernel)
theorem st_sr {A : Array Value} {s : State} (hw : ∀ w ∈ F1, w.before A s = true) (hts : ∀ w ∈ lw_tbl, w.before A s = true) : ∀ e ∈ srT, vk_R e.1 e.2.1 e.2.2.1 (adOf A s e.2.2.2) s := by
  have hq : ∀ w ∈ wtQ, w.before A s = true := fun w h => hw w (nQ w h)
  have hs : ∀ i, i < 35 → (tmS i).eval A s none [] s = some (.ref (adOf A s (2 * i))) := fun i hi => by obtain ⟨_, h, -⟩ := st_S hw hi; exact h
  unfold srT
  simp only [List.forall_mem_cons]
  exact ⟨vk_R.of (hts _ q2783) (hs 22 (by decide)),
    vk_R.of (hts _ q2784) (hs 16 (by decide)),
    vk_R.of (hts _ q2785) (hs 12 (by decide)),
    vk_R.of (hts _ q2786) (hs 6 (by decide)),
    vk_R.of (hts _ q2787) (hs 31 (by decide)),
    vk_R.of (hts _ q2788) (hs 29 (by decide)),
    vk_R.of (hts _ q2789) (hs 24 (by decide)),
    vk_R.of (hts _ q2790) (hs 34 (by decide)),
    vk_R.of (hts _ q2791) (hs 26 (by decide)),
    vk_R.of (hts _ q2792) (hs 19 (by decide)),
    vk_R.of (hts _ q2793) (hs 18 (by decide)),
    vk_R.of (hts _ q2794) (hs 3 (by decide)),
    vk_R.of (hts _ q2803) (hs 8 (by decide)),
    vk_R.of (hts _ q2804) (hs 14 (by decide)),
    vk_R.of (hts _ q2805) (hs 27 (by decide)),
    vk_R.of (hts _ q2806) (hs 32 (by decide)),
    vk_R.of (hts _ q2807) (hs 23 (by decide)),
    vk_R.of (hts _ q2808) (hs 15 (by decide)),
    vk_R.of (hts _ q2774) (hs 17 (by decide)),
    vk_R.of (hts _ q2775) (hs 11 (by decide)),
    vk_R.of (hts _ q2776) (hs 13 (by decide)),
    vk_R.of (hts _ q2777) (hs 33 (by decide)),
    vk_R.of (hts _ q2778) (hs 5 (by decide)),
    vk_R.of (hts _ q2779) (hs 7 (by decide)),
    vk_R.of (hts _ q2780) (hs 30 (by decide)),
    vk_R.of (hts _ q2781) (hs 4 (by decide)),
    vk_R.of (hts _ q2782) (hs 10 (by decide)),
    vk_R.of (hts _ q2795) (hs 28 (by decide)),
    vk_R.of (hts _ q2796) (hs 2 (by decide)),
    vk_R.of (hts _ q2797) (hs 25 (by decide)),
    vk_R.of (hts _ q2798) (hs 1 (by decide)),
    vk_R.of (hts _ q2799) (hs 21 (by decide)),
    vk_R.of (hts _ q2800) (hs 20 (by decide)),
    vk_R.of (hts _ q2801) (hs 9 (by decide)),
    vk_R.of (hts _ q885) (va_eqv (hq (Cond.eq (.string "TurnedBoards$Reader" 133) (.string "TurnedBoards" 435)) (List.mem_of_getElem? (i := 0) rfl)) (hs 11 (by decide))),
    vk_R.of (hts _ q938) (va_eqv (hq (Cond.eq (.string "TurnedBoards$Reader" 153) (.string "TurnedBoards" 436)) (List.mem_of_getElem? (i := 1) rfl)) (hs 13 (by decide))),
    vk_R.of (hts _ q837) (va_eqv (hq (Cond.eq (.string "TurnedBoards$Reader" 191) (.string "TurnedBoards" 433)) (List.mem_of_getElem? (i := 2) rfl)) (hs 17 (by decide))),
    vk_R.of (hts _ q845) (va_eqv (hq (Cond.eq (.string "TurnedBoards$Reader" 192) (.string "TurnedBoards" 437)) (List.mem_of_getElem? (i := 3) rfl)) (hs 33 (by decide))),
    vk_R.of (hts _ q846) (va_eqv (hq (Cond.eq (.string "TurnedBoards$Reader" 193) (.string "TurnedBoards" 438)) (List.mem_of_getElem? (i := 4) rfl)) (hs 5 (by decide))),
    vk_R.of (hts _ q1022) (va_eqv (hq (Cond.eq (.string "TurnedBoards$Reader" 202) (.string "TurnedBoards" 440)) (List.mem_of_getElem? (i := 5) rfl)) (hs 7 (by decide))),
    vk_R.of (hts _ q1023) (va_eqv (hq (Cond.eq (.string "TurnedBoards$Reader" 204) (.string "TurnedBoards" 441)) (List.mem_of_getElem? (i := 6) rfl)) (hs 30 (by decide))),
    vk_R.of (hts _ q1024) (va_eqv (hq (Cond.eq (.string "TurnedBoards$Reader" 206) (.string "TurnedBoards" 455)) (List.mem_of_getElem? (i := 7) rfl)) (hs 9 (by decide))),
    vk_R.of (hts _ q1025) (va_eqv (hq (Cond.eq (.string "TurnedBoards$Reader" 208) (.string "TurnedBoards" 443)) (List.mem_of_getElem? (i := 8) rfl)) (hs 4 (by decide))),
    vk_R.of (hts _ q1026) (va_eqv (hq (Cond.eq (.string "TurnedBoards$Reader" 210) (.string "TurnedBoards" 445)) (List.mem_of_getElem? (i := 9) rfl)) (hs 10 (by decide))),
    vk_R.of (hts _ q1155) (va_eqv (hq (Cond.eq (.string "TurnedBoards$Reader" 284) (.string "TurnedBoards" 453)) (List.mem_of_getElem? (i := 10) rfl)) (hs 21 (by decide))),
    vk_R.of (hts _ q1156) (va_eqv (hq (Cond.eq (.string "TurnedBoards$Reader" 286) (.string "TurnedBoards" 454)) (List.mem_of_getElem? (i := 11) rfl)) (hs 20 (by decide))),
    vk_R.of (hts _ q1286) (va_eqv (hq (Cond.eq (.string "TurnedBoards$Reader" 299) (.string "TurnedBoards" 446)) (List.mem_of_getElem? (i := 12) rfl)) (hs 28 (by decide))),
    vk_R.of (hts _ q1285) (va_eqv (hq (Cond.eq (.string "TurnedBoards$Reader" 308) (.string "TurnedBoards" 448)) (List.mem_of_getElem? (i := 13) rfl)) (hs 2 (by decide))),
    vk_R.of (hts _ q1246) (va_eqv (hq (Cond.eq (.string "TurnedBoards$Reader" 310) (.string "TurnedBoards" 450)) (List.mem_of_getElem? (i := 14) rfl)) (hs 25 (by decide))),
    vk_R.of (hts _ q1261) (va_eqv (hq (Cond.eq (.string "TurnedBoards$Reader" 317) (.string "TurnedBoards" 452)) (List.mem_of_getElem? (i := 15) rfl)) (hs 1 (by decide))),
    vk_R.of (hts _ q714) (hs 0 (by decide)), fun _ h => by cases h⟩
theorem whole_of (plain : ∀ (L : Nat) (xs : Nat → Int32) (n1 n2 n4 : Option Nat), L ≤ 384 → (n1 = none ∨ n1 = some 121) → (n2 = none ∨ n2 = some 122) → (n4 = none ∨ n4 = some 124) → ∃ (n : Nat) (h' : AH), n ≤ 96 ∧ L_law (VAT n) (THT n) (ATOM n) (FACT n) (some 119) (H0 L xs n1 n2 n4) = some (1, h'))
    {p : Program} {e : Env} {s : State} {m : MethodId} {below : List Frame} {meth : Method} {c : Code} (l : Launch) {b L : Nat} {xs : Nat → Int32} (hL : L ≤ 384) (C0 : lw_At p s m meth c b L xs) : W p l e room_1 s m #[Value.ref b] below meth c s.heap [] 0 0 (lw_Z below #[Value.ref b] s) (entryFrame m ([Value.ref b] : List Value).toArray 4) := by
  obtain ⟨c1, c2, c3, c4, c5, hts, hX, hb, hlk, hgv⟩ := C0
  have hw : ∀ w ∈ F1, w.before #[Value.ref b] s = true := flat_of_before _ hgv
  obtain ⟨fk, hfk⟩ := Classical.axiomOfChoice (st_kn hts)
  obtain ⟨dA, hdA⟩ := Classical.axiomOfChoice (st_ak hts (fun ci => (fk ci).1) (fun ci => (fk ci).2))
  obtain ⟨n1, n2, n4, e1, e2, e4, hSt⟩ := st_StC hw hts
  obtain ⟨n, h', hn96, hpl⟩ := plain L xs n1 n2 n4 hL e1 e2 e4
  have hmi : va_Mi "[Ljava/lang/Object;" (adOf #[Value.ref b] s 116) s := by
    obtain ⟨v, hv, -⟩ := Cond.isRef_spec (hw _ (nZ (Cond.isRef (.mirror "[Ljava/lang/Object;")) (List.mem_of_getElem? (i := 8) rfl)))
    obtain ⟨c, k, a, h1, h2, h3, rfl⟩ := Term.mirror_spec hv
    rw [show adOf #[Value.ref b] s 116 = a from adOf_of hv]
    exact ⟨c, k, h1, h2, h3⟩
  have hG : Glob (G0 #[Value.ref b] s (fun ci => (fk ci).1) (fun ci => (fk ci).2) dA) :=
    ⟨⟨_, hts⟩, fun ci q hq => hfk ci q hq, fun t h1 h2 => hdA t h1 h2 dA rfl, fun a ha hk => st_ad hw rfl hb a ha hk, rfl, st_sr hw hts, hmi⟩
  have hAbs : Abs (G0 #[Value.ref b] s (fun ci => (fk ci).1) (fun ci => (fk ci).2) dA) (H0 L xs n1 n2 n4) s.heap := by
    refine ⟨rfl, ⟨Nat.le_refl _, show NC ≤ CMX by decide, Nat.zero_le _⟩, ⟨fun q hq => rfl, hSt L xs _ _ _⟩, fun a ha => ?_, fun a ha => st_cells hw rfl hX (hfk 24 _ rfl) n1 n2 n4 a ha⟩
    have hNC : NC = 128 := rfl
    have ha : NC ≤ a ∨ noK a := ha
    show (K0 L a).1 = 999
    rw [K0, if_neg (by rcases ha with h | h | h <;> omega), if_neg (by rcases ha with h | h | h <;> omega), if_neg (by rcases ha with h | h | h <;> omega), if_neg (by rcases ha with h | h | h <;> omega)]
  have ok : Ok (G0 #[Value.ref b] s (fun ci => (fk ci).1) (fun ci => (fk ci).2) dA) (p, l, e, room_1, s, m, #[Value.ref b], below, meth, c) RL cL_law 4 1562 (H0 L xs n1 n2 n4) :=
    ⟨c1, c2, c4, c5, State.WarmedH.refl s, hlk, hG, ⟨show 1562 ≤ 8192 by decide, show CMX - NC ≤ 874973 by decide, show SMX - 0 ≤ 6471184 by decide, show 64 * 1562 ≤ 100000 by decide⟩⟩
  have hn0 : n ≤ 96 := hn96
  have hva := dVAT (l := l) hG n
  have hth := dTHT (l := l) hG n
  have hpa := dATOM (l := l) hG n
  have hpf := dFACT (l := l) hG n
  have hV := W_L_law ok c3 (e := 16 * n) hva hth hpa hpf (by omega) ⟨rfl, ⟨b, rfl⟩, Nat.le_refl _, rfl, rfl⟩ (x0 := some 119) hpl ⟨rfl, rfl⟩ (lv := [(0, vr (some 119))]) ⟨rfl, trivial⟩
  have hl := lv_entry [Value.ref b] (n := 4) (show 1 ≤ 4 by decide)
  have hr : rho (G0 #[Value.ref b] s (fun ci => (fk ci).1) (fun ci => (fk ci).2) dA) 119 = b := (rho_lo (by decide)).trans (show adOf #[.ref b] s 119 = b from adOf_of (by show (Term.arg 0).eval #[.ref b] s none [] s = _; simp [Term.eval]))
  have hl2 : lv_args 0 [Value.ref b] = ([(0, vr (some 119))] : List (Nat × AV)).map (cvp (G0 #[Value.ref b] s (fun ci => (fk ci).1) (fun ci => (fk ci).2) dA)) := by
    show [(0, Value.ref b)] = [(0, Value.ref (rho (G0 #[Value.ref b] s (fun ci => (fk ci).1) (fun ci => (fk ci).2) dA) 119))]
    rw [hr]
  rw [hl2] at hl
  have h3 := hV s.heap [] _ hAbs hl (fun q hq => by cases hq) ⟨Nat.le_refl _, Nat.le_refl _⟩
  have i1 : hn (H0 L xs n1 n2 n4) - hn (H0 L xs n1 n2 n4) = 0 := Nat.sub_self _
  have i2 : hs (H0 L xs n1 n2 n4) - hs (H0 L xs n1 n2 n4) = 0 := Nat.sub_self _
  rw [i1, i2] at h3
  rw [lg_entry_eq]
  exact h3
