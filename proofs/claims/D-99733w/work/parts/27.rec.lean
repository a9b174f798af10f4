set_option maxRecDepth 100000
theorem cwu_X12_at : CWU "TurnedBoards$Chain" xVa yX12_at := ⟨q1418, q1419, q1434, ⟨by decide, by decide⟩, rfl⟩
theorem cwu_X13_at : CWU "TurnedBoards$Pair" xVa yX13_at := ⟨q1418, q1419, q1530, ⟨by decide, by decide⟩, rfl⟩
theorem cwu_X14_at : CWU "TurnedBoards$Fixed" xVa yX14_at := ⟨q1418, q1419, q1528, ⟨by decide, by decide⟩, rfl⟩
theorem cwu_X15_at : CWU "TurnedBoards$Asked" xVa yX15_at := ⟨q1418, q1419, q1420, ⟨by decide, by decide⟩, rfl⟩
theorem cwu_X16_at : CWU "TurnedBoards$Looked" xVa yX16_at := ⟨q1418, q1419, q1529, ⟨by decide, by decide⟩, rfl⟩
theorem cwu_X18_holds : CWU "TurnedBoards$Facts" xTh yX18_holds := ⟨q1588, q1589, q1593, ⟨by decide, by decide⟩, rfl⟩
theorem cwu_X19_holds : CWU "TurnedBoards$Not" xTh yX19_holds := ⟨q1588, q1589, q1608, ⟨by decide, by decide⟩, rfl⟩
theorem cwu_X20_holds : CWU "TurnedBoards$All" xTh yX20_holds := ⟨q1588, q1589, q1590, ⟨by decide, by decide⟩, rfl⟩
theorem cwu_X21_holds : CWU "TurnedBoards$Than" xTh yX21_holds := ⟨q1588, q1589, q1609, ⟨by decide, by decide⟩, rfl⟩
noncomputable def VAT : Nat → VaT
  | 0 => fun _ _ _ => none
  | n + 1 => fun r m h => match r with
    | none => none
    | some a => if (hK h a).1 = 12 then X12_at (VAT n) a m h else if (hK h a).1 = 13 then X13_at (VAT n) a m h else if (hK h a).1 = 14 then X14_at a m h else if (hK h a).1 = 15 then X15_at a m h else if (hK h a).1 = 16 then X16_at (VAT n) a m h else none
noncomputable def THT : Nat → ThT
  | 0 => fun _ _ _ => none
  | n + 1 => fun r m h => match r with
    | none => none
    | some a => if (hK h a).1 = 18 then X18_holds (THT n) a m h else if (hK h a).1 = 19 then X19_holds (THT n) a m h else if (hK h a).1 = 20 then X20_holds a m h else if (hK h a).1 = 21 then X21_holds (VAT n) a m h else none
theorem dVAT {G : GT} {l : Launch} (hG : Glob G) : ∀ n : Nat, DVA G l (16 * n) (VAT n)
  | 0 => fun r m h v h' hf => by cases hf
  | n + 1 => fun r m h v h' hf => by
    have ihv := dVAT (l := l) hG n
    cases r with
    | none => cases hf
    | some a =>
      simp only [VAT] at hf
      split at hf
      · rename_i hk
        exact ⟨a, 12, _, _, _, _, rfl, cf_12.1, hk, cw_X12_at, q1435, cwu_X12_at, M_X12_at hG ihv (by omega) hf⟩
      split at hf
      · rename_i hk
        exact ⟨a, 13, _, _, _, _, rfl, cf_13.1, hk, cw_X13_at, q1446, cwu_X13_at, M_X13_at hG ihv (by omega) hf⟩
      split at hf
      · rename_i hk
        exact ⟨a, 14, _, _, _, _, rfl, cf_14.1, hk, cw_X14_at, q1441, cwu_X14_at, M_X14_at hG (by omega) hf⟩
      split at hf
      · rename_i hk
        exact ⟨a, 15, _, _, _, _, rfl, cf_15.1, hk, cw_X15_at, q1421, cwu_X15_at, M_X15_at hG (by omega) hf⟩
      split at hf
      · rename_i hk
        exact ⟨a, 16, _, _, _, _, rfl, cf_16.1, hk, cw_X16_at, q1443, cwu_X16_at, M_X16_at hG ihv (by omega) hf⟩
      cases hf
theorem dTHT {G : GT} {l : Launch} (hG : Glob G) : ∀ n : Nat, DTH G l (16 * n) (THT n)
  | 0 => fun r m h v h' hf => by cases hf
  | n + 1 => fun r m h v h' hf => by
    have iht := dTHT (l := l) hG n
    have ihv := dVAT (l := l) hG n
    cases r with
    | none => cases hf
    | some a =>
      simp only [THT] at hf
      split at hf
      · rename_i hk
        exact ⟨a, 18, _, _, _, _, rfl, cf_18.1, hk, cw_X18_holds, q1594, cwu_X18_holds, M_X18_holds hG iht (by omega) hf⟩
      split at hf
      · rename_i hk
        exact ⟨a, 19, _, _, _, _, rfl, cf_19.1, hk, cw_X19_holds, q1602, cwu_X19_holds, M_X19_holds hG iht (by omega) hf⟩
      split at hf
      · rename_i hk
        exact ⟨a, 20, _, _, _, _, rfl, cf_20.1, hk, cw_X20_holds, q1591, cwu_X20_holds, M_X20_holds hG (by omega) hf⟩
      split at hf
      · rename_i hk
        exact ⟨a, 21, _, _, _, _, rfl, cf_21.1, hk, cw_X21_holds, q1605, cwu_X21_holds, M_X21_holds hG ihv (by omega) hf⟩
      cases hf
noncomputable def ATOM : Nat → PaT
  | 0 => fun _ _ => none
  | n + 1 => fun a h => X2_atom (ATOM n) a h
noncomputable def FACT : Nat → PaT
  | 0 => fun _ _ => none
  | n + 1 => fun a h => X2_fact (ATOM n) (FACT n) a h
theorem dATOM {G : GT} {l : Launch} (hG : Glob G) : ∀ n : Nat, DPA G l (16 * n) (ATOM n)
  | 0 => fun a h w h' hf => by cases hf
  | n + 1 => fun a h w h' hf => by
    have ihp := dATOM (l := l) hG n
    exact M_X2_atom hG ihp (by omega) hf
theorem dFACT {G : GT} {l : Launch} (hG : Glob G) : ∀ n : Nat, DPF G l (16 * n) (FACT n)
  | 0 => fun a h w h' hf => by cases hf
  | n + 1 => fun a h w h' hf => by
    have ihp := dATOM (l := l) hG n
    have ihf := dFACT (l := l) hG n
    exact M_X2_fact hG ihp ihf (by omega) hf
