set_option maxRecDepth 100000
abbrev cxm (X : CX) : Method := X.2.2.2.2.2.2.2.2.1
theorem cf_0 : CF 0 (RX0, TX0, 18) := ⟨rfl, in_X0, tyX0_ok, nmX0⟩
theorem dt_0 : ∀ j, j < 18 → (tyT 0 j = .int ∨ tyT 0 j = .boolean ∨ tyT 0 j = .byte ∨ tyT 0 j = .long ∨ (∃ C, tyT 0 j = .object C) ∨ ∃ T, tyT 0 j = .array T) := by
  intro j hj
  match j, hj with
  | 0, _ => exact Or.inr (Or.inr (Or.inr (Or.inr (Or.inl ⟨_, rfl⟩))))
  | 1, _ => exact Or.inr (Or.inr (Or.inr (Or.inr (Or.inr ⟨_, rfl⟩))))
  | 2, _ => exact Or.inl rfl
  | 3, _ => exact Or.inl rfl
  | 4, _ => exact Or.inl rfl
  | 5, _ => exact Or.inr (Or.inr (Or.inr (Or.inr (Or.inl ⟨_, rfl⟩))))
  | 6, _ => exact Or.inr (Or.inr (Or.inr (Or.inr (Or.inl ⟨_, rfl⟩))))
  | 7, _ => exact Or.inr (Or.inr (Or.inr (Or.inr (Or.inl ⟨_, rfl⟩))))
  | 8, _ => exact Or.inr (Or.inr (Or.inr (Or.inr (Or.inr ⟨_, rfl⟩))))
  | 9, _ => exact Or.inr (Or.inr (Or.inr (Or.inr (Or.inl ⟨_, rfl⟩))))
  | 10, _ => exact Or.inr (Or.inr (Or.inr (Or.inr (Or.inl ⟨_, rfl⟩))))
  | 11, _ => exact Or.inr (Or.inr (Or.inr (Or.inr (Or.inl ⟨_, rfl⟩))))
  | 12, _ => exact Or.inr (Or.inr (Or.inr (Or.inr (Or.inr ⟨_, rfl⟩))))
  | 13, _ => exact Or.inl rfl
  | 14, _ => exact Or.inr (Or.inr (Or.inr (Or.inl rfl)))
  | 15, _ => exact Or.inl rfl
  | 16, _ => exact Or.inr (Or.inr (Or.inr (Or.inr (Or.inr ⟨_, rfl⟩))))
  | 17, _ => exact Or.inl rfl
  | k + 18, hk => omega
theorem df_0 : ∀ (G : GT) (h : AH) (a j : Nat), j < 18 → hI h a j = 0 → hL h a j = 0 → hR h a j = none → defaultValue (tyT 0 j) = fv G (tyT 0 j) h a j := by
  intro G h a j hj e1 e2 e3
  have key : ∀ ty : FieldType, (ty = .int ∨ ty = .boolean ∨ ty = .byte ∨ ty = .long ∨ (∃ C, ty = .object C) ∨ ∃ T, ty = .array T) → defaultValue ty = fv G ty h a j := by
    rintro ty (rfl | rfl | rfl | rfl | ⟨C, rfl⟩ | ⟨T, rfl⟩)
    · show Value.int 0 = .int (hI h a j); rw [e1]
    · show Value.int 0 = .int (hI h a j); rw [e1]
    · show Value.int 0 = .int (hI h a j); rw [e1]
    · show Value.long 0 = .long (hL h a j); rw [e2]
    · show Value.null = va_rf ((hR h a j).map (rho G)); rw [e3]; rfl
    · show Value.null = va_rf ((hR h a j).map (rho G)); rw [e3]; rfl
  refine key _ ?_
  exact dt_0 j hj
theorem cf_1 : CF 1 (RX1, TX1, 9) := ⟨rfl, in_X1, tyX1_ok, nmX1⟩
theorem dt_1 : ∀ j, j < 9 → (tyT 1 j = .int ∨ tyT 1 j = .boolean ∨ tyT 1 j = .byte ∨ tyT 1 j = .long ∨ (∃ C, tyT 1 j = .object C) ∨ ∃ T, tyT 1 j = .array T) := by
  intro j hj
  match j, hj with
  | 0, _ => exact Or.inl rfl
  | 1, _ => exact Or.inl rfl
  | 2, _ => exact Or.inl rfl
  | 3, _ => exact Or.inl rfl
  | 4, _ => exact Or.inr (Or.inr (Or.inr (Or.inr (Or.inl ⟨_, rfl⟩))))
  | 5, _ => exact Or.inr (Or.inr (Or.inr (Or.inr (Or.inl ⟨_, rfl⟩))))
  | 6, _ => exact Or.inr (Or.inr (Or.inr (Or.inr (Or.inl ⟨_, rfl⟩))))
  | 7, _ => exact Or.inr (Or.inr (Or.inr (Or.inr (Or.inl ⟨_, rfl⟩))))
  | 8, _ => exact Or.inr (Or.inr (Or.inr (Or.inr (Or.inl ⟨_, rfl⟩))))
  | k + 9, hk => omega
theorem df_1 : ∀ (G : GT) (h : AH) (a j : Nat), j < 9 → hI h a j = 0 → hL h a j = 0 → hR h a j = none → defaultValue (tyT 1 j) = fv G (tyT 1 j) h a j := by
  intro G h a j hj e1 e2 e3
  have key : ∀ ty : FieldType, (ty = .int ∨ ty = .boolean ∨ ty = .byte ∨ ty = .long ∨ (∃ C, ty = .object C) ∨ ∃ T, ty = .array T) → defaultValue ty = fv G ty h a j := by
    rintro ty (rfl | rfl | rfl | rfl | ⟨C, rfl⟩ | ⟨T, rfl⟩)
    · show Value.int 0 = .int (hI h a j); rw [e1]
    · show Value.int 0 = .int (hI h a j); rw [e1]
    · show Value.int 0 = .int (hI h a j); rw [e1]
    · show Value.long 0 = .long (hL h a j); rw [e2]
    · show Value.null = va_rf ((hR h a j).map (rho G)); rw [e3]; rfl
    · show Value.null = va_rf ((hR h a j).map (rho G)); rw [e3]; rfl
  refine key _ ?_
  exact dt_1 j hj
theorem cf_2 : CF 2 (RX2, TX2, 8) := ⟨rfl, in_X2, tyX2_ok, nmX2⟩
theorem dt_2 : ∀ j, j < 8 → (tyT 2 j = .int ∨ tyT 2 j = .boolean ∨ tyT 2 j = .byte ∨ tyT 2 j = .long ∨ (∃ C, tyT 2 j = .object C) ∨ ∃ T, tyT 2 j = .array T) := by
  intro j hj
  match j, hj with
  | 0, _ => exact Or.inr (Or.inr (Or.inr (Or.inr (Or.inl ⟨_, rfl⟩))))
  | 1, _ => exact Or.inl rfl
  | 2, _ => exact Or.inl rfl
  | 3, _ => exact Or.inl rfl
  | 4, _ => exact Or.inl rfl
  | 5, _ => exact Or.inl rfl
  | 6, _ => exact Or.inr (Or.inr (Or.inr (Or.inr (Or.inl ⟨_, rfl⟩))))
  | 7, _ => exact Or.inr (Or.inr (Or.inr (Or.inr (Or.inl ⟨_, rfl⟩))))
  | k + 8, hk => omega
theorem df_2 : ∀ (G : GT) (h : AH) (a j : Nat), j < 8 → hI h a j = 0 → hL h a j = 0 → hR h a j = none → defaultValue (tyT 2 j) = fv G (tyT 2 j) h a j := by
  intro G h a j hj e1 e2 e3
  have key : ∀ ty : FieldType, (ty = .int ∨ ty = .boolean ∨ ty = .byte ∨ ty = .long ∨ (∃ C, ty = .object C) ∨ ∃ T, ty = .array T) → defaultValue ty = fv G ty h a j := by
    rintro ty (rfl | rfl | rfl | rfl | ⟨C, rfl⟩ | ⟨T, rfl⟩)
    · show Value.int 0 = .int (hI h a j); rw [e1]
    · show Value.int 0 = .int (hI h a j); rw [e1]
    · show Value.int 0 = .int (hI h a j); rw [e1]
    · show Value.long 0 = .long (hL h a j); rw [e2]
    · show Value.null = va_rf ((hR h a j).map (rho G)); rw [e3]; rfl
    · show Value.null = va_rf ((hR h a j).map (rho G)); rw [e3]; rfl
  refine key _ ?_
  exact dt_2 j hj
theorem cf_3 : CF 3 (RX3, TX3, 8) := ⟨rfl, in_X3, tyX3_ok, nmX3⟩
theorem dt_3 : ∀ j, j < 8 → (tyT 3 j = .int ∨ tyT 3 j = .boolean ∨ tyT 3 j = .byte ∨ tyT 3 j = .long ∨ (∃ C, tyT 3 j = .object C) ∨ ∃ T, tyT 3 j = .array T) := by
  intro j hj
  match j, hj with
  | 0, _ => exact Or.inr (Or.inr (Or.inr (Or.inr (Or.inl ⟨_, rfl⟩))))
  | 1, _ => exact Or.inr (Or.inr (Or.inr (Or.inr (Or.inr ⟨_, rfl⟩))))
  | 2, _ => exact Or.inr (Or.inr (Or.inr (Or.inr (Or.inl ⟨_, rfl⟩))))
  | 3, _ => exact Or.inr (Or.inr (Or.inr (Or.inr (Or.inl ⟨_, rfl⟩))))
  | 4, _ => exact Or.inr (Or.inr (Or.inr (Or.inr (Or.inl ⟨_, rfl⟩))))
  | 5, _ => exact Or.inl rfl
  | 6, _ => exact Or.inl rfl
  | 7, _ => exact Or.inl rfl
  | k + 8, hk => omega
theorem df_3 : ∀ (G : GT) (h : AH) (a j : Nat), j < 8 → hI h a j = 0 → hL h a j = 0 → hR h a j = none → defaultValue (tyT 3 j) = fv G (tyT 3 j) h a j := by
  intro G h a j hj e1 e2 e3
  have key : ∀ ty : FieldType, (ty = .int ∨ ty = .boolean ∨ ty = .byte ∨ ty = .long ∨ (∃ C, ty = .object C) ∨ ∃ T, ty = .array T) → defaultValue ty = fv G ty h a j := by
    rintro ty (rfl | rfl | rfl | rfl | ⟨C, rfl⟩ | ⟨T, rfl⟩)
    · show Value.int 0 = .int (hI h a j); rw [e1]
    · show Value.int 0 = .int (hI h a j); rw [e1]
    · show Value.int 0 = .int (hI h a j); rw [e1]
    · show Value.long 0 = .long (hL h a j); rw [e2]
    · show Value.null = va_rf ((hR h a j).map (rho G)); rw [e3]; rfl
    · show Value.null = va_rf ((hR h a j).map (rho G)); rw [e3]; rfl
  refine key _ ?_
  exact dt_3 j hj
theorem cf_4 : CF 4 (RX4, TX4, 1) := ⟨rfl, in_X4, tyX4_ok, nmX4⟩
theorem dt_4 : ∀ j, j < 1 → (tyT 4 j = .int ∨ tyT 4 j = .boolean ∨ tyT 4 j = .byte ∨ tyT 4 j = .long ∨ (∃ C, tyT 4 j = .object C) ∨ ∃ T, tyT 4 j = .array T) := by
  intro j hj
  match j, hj with
  | 0, _ => exact Or.inr (Or.inr (Or.inr (Or.inr (Or.inr ⟨_, rfl⟩))))
  | k + 1, hk => omega
theorem df_4 : ∀ (G : GT) (h : AH) (a j : Nat), j < 1 → hI h a j = 0 → hL h a j = 0 → hR h a j = none → defaultValue (tyT 4 j) = fv G (tyT 4 j) h a j := by
  intro G h a j hj e1 e2 e3
  have key : ∀ ty : FieldType, (ty = .int ∨ ty = .boolean ∨ ty = .byte ∨ ty = .long ∨ (∃ C, ty = .object C) ∨ ∃ T, ty = .array T) → defaultValue ty = fv G ty h a j := by
    rintro ty (rfl | rfl | rfl | rfl | ⟨C, rfl⟩ | ⟨T, rfl⟩)
    · show Value.int 0 = .int (hI h a j); rw [e1]
    · show Value.int 0 = .int (hI h a j); rw [e1]
    · show Value.int 0 = .int (hI h a j); rw [e1]
    · show Value.long 0 = .long (hL h a j); rw [e2]
    · show Value.null = va_rf ((hR h a j).map (rho G)); rw [e3]; rfl
    · show Value.null = va_rf ((hR h a j).map (rho G)); rw [e3]; rfl
  refine key _ ?_
  exact dt_4 j hj
theorem cf_5 : CF 5 (RX5, TX5, 10) := ⟨rfl, in_X5, tyX5_ok, nmX5⟩
theorem dt_5 : ∀ j, j < 10 → (tyT 5 j = .int ∨ tyT 5 j = .boolean ∨ tyT 5 j = .byte ∨ tyT 5 j = .long ∨ (∃ C, tyT 5 j = .object C) ∨ ∃ T, tyT 5 j = .array T) := by
  intro j hj
  match j, hj with
  | 0, _ => exact Or.inl rfl
  | 1, _ => exact Or.inl rfl
  | 2, _ => exact Or.inl rfl
  | 3, _ => exact Or.inl rfl
  | 4, _ => exact Or.inr (Or.inr (Or.inr (Or.inr (Or.inr ⟨_, rfl⟩))))
  | 5, _ => exact Or.inr (Or.inr (Or.inr (Or.inr (Or.inr ⟨_, rfl⟩))))
  | 6, _ => exact Or.inr (Or.inr (Or.inr (Or.inr (Or.inr ⟨_, rfl⟩))))
  | 7, _ => exact Or.inr (Or.inr (Or.inr (Or.inr (Or.inr ⟨_, rfl⟩))))
  | 8, _ => exact Or.inr (Or.inr (Or.inr (Or.inr (Or.inr ⟨_, rfl⟩))))
  | 9, _ => exact Or.inr (Or.inr (Or.inr (Or.inr (Or.inl ⟨_, rfl⟩))))
  | k + 10, hk => omega
theorem df_5 : ∀ (G : GT) (h : AH) (a j : Nat), j < 10 → hI h a j = 0 → hL h a j = 0 → hR h a j = none → defaultValue (tyT 5 j) = fv G (tyT 5 j) h a j := by
  intro G h a j hj e1 e2 e3
  have key : ∀ ty : FieldType, (ty = .int ∨ ty = .boolean ∨ ty = .byte ∨ ty = .long ∨ (∃ C, ty = .object C) ∨ ∃ T, ty = .array T) → defaultValue ty = fv G ty h a j := by
    rintro ty (rfl | rfl | rfl | rfl | ⟨C, rfl⟩ | ⟨T, rfl⟩)
    · show Value.int 0 = .int (hI h a j); rw [e1]
    · show Value.int 0 = .int (hI h a j); rw [e1]
    · show Value.int 0 = .int (hI h a j); rw [e1]
    · show Value.long 0 = .long (hL h a j); rw [e2]
    · show Value.null = va_rf ((hR h a j).map (rho G)); rw [e3]; rfl
    · show Value.null = va_rf ((hR h a j).map (rho G)); rw [e3]; rfl
  refine key _ ?_
  exact dt_5 j hj
theorem cf_6 : CF 6 (RX6, TX6, 10) := ⟨rfl, in_X6, tyX6_ok, nmX6⟩
theorem dt_6 : ∀ j, j < 10 → (tyT 6 j = .int ∨ tyT 6 j = .boolean ∨ tyT 6 j = .byte ∨ tyT 6 j = .long ∨ (∃ C, tyT 6 j = .object C) ∨ ∃ T, tyT 6 j = .array T) := by
  intro j hj
  match j, hj with
  | 0, _ => exact Or.inl rfl
  | 1, _ => exact Or.inl rfl
  | 2, _ => exact Or.inl rfl
  | 3, _ => exact Or.inl rfl
  | 4, _ => exact Or.inl rfl
  | 5, _ => exact Or.inl rfl
  | 6, _ => exact Or.inr (Or.inr (Or.inr (Or.inr (Or.inr ⟨_, rfl⟩))))
  | 7, _ => exact Or.inr (Or.inr (Or.inr (Or.inr (Or.inr ⟨_, rfl⟩))))
  | 8, _ => exact Or.inr (Or.inr (Or.inr (Or.inr (Or.inr ⟨_, rfl⟩))))
  | 9, _ => exact Or.inr (Or.inr (Or.inr (Or.inr (Or.inl ⟨_, rfl⟩))))
  | k + 10, hk => omega
theorem df_6 : ∀ (G : GT) (h : AH) (a j : Nat), j < 10 → hI h a j = 0 → hL h a j = 0 → hR h a j = none → defaultValue (tyT 6 j) = fv G (tyT 6 j) h a j := by
  intro G h a j hj e1 e2 e3
  have key : ∀ ty : FieldType, (ty = .int ∨ ty = .boolean ∨ ty = .byte ∨ ty = .long ∨ (∃ C, ty = .object C) ∨ ∃ T, ty = .array T) → defaultValue ty = fv G ty h a j := by
    rintro ty (rfl | rfl | rfl | rfl | ⟨C, rfl⟩ | ⟨T, rfl⟩)
    · show Value.int 0 = .int (hI h a j); rw [e1]
    · show Value.int 0 = .int (hI h a j); rw [e1]
    · show Value.int 0 = .int (hI h a j); rw [e1]
    · show Value.long 0 = .long (hL h a j); rw [e2]
    · show Value.null = va_rf ((hR h a j).map (rho G)); rw [e3]; rfl
    · show Value.null = va_rf ((hR h a j).map (rho G)); rw [e3]; rfl
  refine key _ ?_
  exact dt_6 j hj
theorem cf_7 : CF 7 (RX7, TX7, 117) := ⟨rfl, in_X7, tyX7_ok, nmX7⟩
theorem dt_7 : ∀ j, j < 117 → (tyT 7 j = .int ∨ tyT 7 j = .boolean ∨ tyT 7 j = .byte ∨ tyT 7 j = .long ∨ (∃ C, tyT 7 j = .object C) ∨ ∃ T, tyT 7 j = .array T) := by
  intro j hj
  match j, hj with
  | 0, _ => exact Or.inr (Or.inr (Or.inr (Or.inr (Or.inr ⟨_, rfl⟩))))
  | 1, _ => exact Or.inl rfl
  | 2, _ => exact Or.inl rfl
  | 3, _ => exact Or.inl rfl
  | 4, _ => exact Or.inl rfl
  | 5, _ => exact Or.inl rfl
  | 6, _ => exact Or.inl rfl
  | 7, _ => exact Or.inl rfl
  | 8, _ => exact Or.inl rfl
  | 9, _ => exact Or.inr (Or.inr (Or.inr (Or.inr (Or.inr ⟨_, rfl⟩))))
  | 10, _ => exact Or.inl rfl
  | 11, _ => exact Or.inr (Or.inr (Or.inr (Or.inr (Or.inr ⟨_, rfl⟩))))
  | 12, _ => exact Or.inr (Or.inr (Or.inr (Or.inr (Or.inr ⟨_, rfl⟩))))
  | 13, _ => exact Or.inr (Or.inr (Or.inr (Or.inr (Or.inr ⟨_, rfl⟩))))
  | 14, _ => exact Or.inr (Or.inr (Or.inr (Or.inr (Or.inr ⟨_, rfl⟩))))
  | 15, _ => exact Or.inr (Or.inr (Or.inr (Or.inr (Or.inr ⟨_, rfl⟩))))
  | 16, _ => exact Or.inr (Or.inr (Or.inr (Or.inr (Or.inr ⟨_, rfl⟩))))
  | 17, _ => exact Or.inr (Or.inr (Or.inr (Or.inr (Or.inr ⟨_, rfl⟩))))
  | 18, _ => exact Or.inr (Or.inr (Or.inr (Or.inr (Or.inr ⟨_, rfl⟩))))
  | 19, _ => exact Or.inr (Or.inr (Or.inr (Or.inr (Or.inr ⟨_, rfl⟩))))
  | 20, _ => exact Or.inr (Or.inr (Or.inr (Or.inr (Or.inr ⟨_, rfl⟩))))
  | 21, _ => exact Or.inr (Or.inr (Or.inr (Or.inr (Or.inr ⟨_, rfl⟩))))
  | 22, _ => exact Or.inr (Or.inr (Or.inr (Or.inr (Or.inr ⟨_, rfl⟩))))
  | 23, _ => exact Or.inr (Or.inr (Or.inr (Or.inr (Or.inr ⟨_, rfl⟩))))
  | 24, _ => exact Or.inr (Or.inr (Or.inr (Or.inr (Or.inr ⟨_, rfl⟩))))
  | 25, _ => exact Or.inr (Or.inr (Or.inr (Or.inr (Or.inr ⟨_, rfl⟩))))
  | 26, _ => exact Or.inr (Or.inr (Or.inr (Or.inr (Or.inr ⟨_, rfl⟩))))
  | 27, _ => exact Or.inr (Or.inr (Or.inr (Or.inr (Or.inr ⟨_, rfl⟩))))
  | 28, _ => exact Or.inr (Or.inr (Or.inr (Or.inr (Or.inr ⟨_, rfl⟩))))
  | 29, _ => exact Or.inr (Or.inr (Or.inr (Or.inr (Or.inr ⟨_, rfl⟩))))
  | 30, _ => exact Or.inr (Or.inr (Or.inr (Or.inr (Or.inr ⟨_, rfl⟩))))
  | 31, _ => exact Or.inr (Or.inr (Or.inr (Or.inr (Or.inr ⟨_, rfl⟩))))
  | 32, _ => exact Or.inr (Or.inr (Or.inr (Or.inr (Or.inr ⟨_, rfl⟩))))
  | 33, _ => exact Or.inr (Or.inr (Or.inr (Or.inr (Or.inr ⟨_, rfl⟩))))
  | 34, _ => exact Or.inr (Or.inr (Or.inr (Or.inr (Or.inr ⟨_, rfl⟩))))
  | 35, _ => exact Or.inr (Or.inr (Or.inr (Or.inr (Or.inr ⟨_, rfl⟩))))
  | 36, _ => exact Or.inr (Or.inr (Or.inr (Or.inr (Or.inr ⟨_, rfl⟩))))
  | 37, _ => exact Or.inr (Or.inr (Or.inr (Or.inr (Or.inr ⟨_, rfl⟩))))
  | 38, _ => exact Or.inr (Or.inr (Or.inr (Or.inr (Or.inr ⟨_, rfl⟩))))
  | 39, _ => exact Or.inl rfl
  | 40, _ => exact Or.inl rfl
  | 41, _ => exact Or.inr (Or.inr (Or.inr (Or.inr (Or.inr ⟨_, rfl⟩))))
  | 42, _ => exact Or.inr (Or.inr (Or.inr (Or.inr (Or.inr ⟨_, rfl⟩))))
  | 43, _ => exact Or.inr (Or.inr (Or.inr (Or.inr (Or.inr ⟨_, rfl⟩))))
  | 44, _ => exact Or.inl rfl
  | 45, _ => exact Or.inl rfl
  | 46, _ => exact Or.inr (Or.inr (Or.inr (Or.inr (Or.inr ⟨_, rfl⟩))))
  | 47, _ => exact Or.inl rfl
  | 48, _ => exact Or.inl rfl
  | 49, _ => exact Or.inr (Or.inr (Or.inr (Or.inr (Or.inr ⟨_, rfl⟩))))
  | 50, _ => exact Or.inr (Or.inr (Or.inr (Or.inr (Or.inr ⟨_, rfl⟩))))
  | 51, _ => exact Or.inr (Or.inr (Or.inr (Or.inr (Or.inr ⟨_, rfl⟩))))
  | 52, _ => exact Or.inr (Or.inr (Or.inr (Or.inr (Or.inr ⟨_, rfl⟩))))
  | 53, _ => exact Or.inr (Or.inr (Or.inr (Or.inr (Or.inr ⟨_, rfl⟩))))
  | 54, _ => exact Or.inl rfl
  | 55, _ => exact Or.inl rfl
  | 56, _ => exact Or.inl rfl
  | 57, _ => exact Or.inr (Or.inr (Or.inr (Or.inr (Or.inr ⟨_, rfl⟩))))
  | 58, _ => exact Or.inr (Or.inr (Or.inr (Or.inr (Or.inr ⟨_, rfl⟩))))
  | 59, _ => exact Or.inl rfl
  | 60, _ => exact Or.inl rfl
  | 61, _ => exact Or.inl rfl
  | 62, _ => exact Or.inl rfl
  | 63, _ => exact Or.inl rfl
  | 64, _ => exact Or.inl rfl
  | 65, _ => exact Or.inl rfl
  | 66, _ => exact Or.inr (Or.inl rfl)
  | 67, _ => exact Or.inl rfl
  | 68, _ => exact Or.inr (Or.inr (Or.inr (Or.inr (Or.inr ⟨_, rfl⟩))))
  | 69, _ => exact Or.inr (Or.inr (Or.inr (Or.inr (Or.inr ⟨_, rfl⟩))))
  | 70, _ => exact Or.inr (Or.inr (Or.inr (Or.inr (Or.inr ⟨_, rfl⟩))))
  | 71, _ => exact Or.inr (Or.inr (Or.inr (Or.inr (Or.inr ⟨_, rfl⟩))))
  | 72, _ => exact Or.inr (Or.inr (Or.inr (Or.inr (Or.inr ⟨_, rfl⟩))))
  | 73, _ => exact Or.inr (Or.inr (Or.inr (Or.inr (Or.inr ⟨_, rfl⟩))))
  | 74, _ => exact Or.inl rfl
  | 75, _ => exact Or.inr (Or.inr (Or.inr (Or.inr (Or.inr ⟨_, rfl⟩))))
  | 76, _ => exact Or.inr (Or.inr (Or.inr (Or.inr (Or.inr ⟨_, rfl⟩))))
  | 77, _ => exact Or.inr (Or.inr (Or.inr (Or.inr (Or.inr ⟨_, rfl⟩))))
  | 78, _ => exact Or.inl rfl
  | 79, _ => exact Or.inl rfl
  | 80, _ => exact Or.inr (Or.inr (Or.inr (Or.inl rfl)))
  | 81, _ => exact Or.inr (Or.inr (Or.inr (Or.inr (Or.inr ⟨_, rfl⟩))))
  | 82, _ => exact Or.inr (Or.inr (Or.inr (Or.inr (Or.inr ⟨_, rfl⟩))))
  | 83, _ => exact Or.inr (Or.inr (Or.inr (Or.inr (Or.inr ⟨_, rfl⟩))))
  | 84, _ => exact Or.inr (Or.inr (Or.inr (Or.inr (Or.inr ⟨_, rfl⟩))))
  | 85, _ => exact Or.inr (Or.inr (Or.inr (Or.inr (Or.inr ⟨_, rfl⟩))))
  | 86, _ => exact Or.inr (Or.inr (Or.inr (Or.inr (Or.inr ⟨_, rfl⟩))))
  | 87, _ => exact Or.inr (Or.inr (Or.inr (Or.inr (Or.inr ⟨_, rfl⟩))))
  | 88, _ => exact Or.inr (Or.inr (Or.inr (Or.inr (Or.inr ⟨_, rfl⟩))))
  | 89, _ => exact Or.inr (Or.inr (Or.inr (Or.inr (Or.inr ⟨_, rfl⟩))))
  | 90, _ => exact Or.inr (Or.inr (Or.inr (Or.inr (Or.inr ⟨_, rfl⟩))))
  | 91, _ => exact Or.inr (Or.inr (Or.inr (Or.inr (Or.inr ⟨_, rfl⟩))))
  | 92, _ => exact Or.inr (Or.inr (Or.inr (Or.inr (Or.inr ⟨_, rfl⟩))))
  | 93, _ => exact Or.inr (Or.inr (Or.inr (Or.inr (Or.inr ⟨_, rfl⟩))))
  | 94, _ => exact Or.inr (Or.inr (Or.inr (Or.inr (Or.inr ⟨_, rfl⟩))))
  | 95, _ => exact Or.inr (Or.inr (Or.inr (Or.inr (Or.inr ⟨_, rfl⟩))))
  | 96, _ => exact Or.inr (Or.inr (Or.inr (Or.inr (Or.inr ⟨_, rfl⟩))))
  | 97, _ => exact Or.inr (Or.inr (Or.inr (Or.inr (Or.inr ⟨_, rfl⟩))))
  | 98, _ => exact Or.inr (Or.inr (Or.inr (Or.inr (Or.inr ⟨_, rfl⟩))))
  | 99, _ => exact Or.inr (Or.inr (Or.inr (Or.inr (Or.inr ⟨_, rfl⟩))))
  | 100, _ => exact Or.inr (Or.inr (Or.inr (Or.inr (Or.inr ⟨_, rfl⟩))))
  | 101, _ => exact Or.inr (Or.inr (Or.inr (Or.inr (Or.inr ⟨_, rfl⟩))))
  | 102, _ => exact Or.inr (Or.inr (Or.inr (Or.inr (Or.inr ⟨_, rfl⟩))))
  | 103, _ => exact Or.inr (Or.inr (Or.inr (Or.inr (Or.inr ⟨_, rfl⟩))))
  | 104, _ => exact Or.inr (Or.inr (Or.inr (Or.inr (Or.inr ⟨_, rfl⟩))))
  | 105, _ => exact Or.inr (Or.inr (Or.inr (Or.inr (Or.inr ⟨_, rfl⟩))))
  | 106, _ => exact Or.inl rfl
  | 107, _ => exact Or.inr (Or.inr (Or.inr (Or.inr (Or.inr ⟨_, rfl⟩))))
  | 108, _ => exact Or.inl rfl
  | 109, _ => exact Or.inl rfl
  | 110, _ => exact Or.inl rfl
  | 111, _ => exact Or.inr (Or.inr (Or.inr (Or.inr (Or.inr ⟨_, rfl⟩))))
  | 112, _ => exact Or.inl rfl
  | 113, _ => exact Or.inr (Or.inr (Or.inr (Or.inl rfl)))
  | 114, _ => exact Or.inr (Or.inl rfl)
  | 115, _ => exact Or.inr (Or.inr (Or.inr (Or.inr (Or.inr ⟨_, rfl⟩))))
  | 116, _ => exact Or.inl rfl
  | k + 117, hk => omega
theorem df_7 : ∀ (G : GT) (h : AH) (a j : Nat), j < 117 → hI h a j = 0 → hL h a j = 0 → hR h a j = none → defaultValue (tyT 7 j) = fv G (tyT 7 j) h a j := by
  intro G h a j hj e1 e2 e3
  have key : ∀ ty : FieldType, (ty = .int ∨ ty = .boolean ∨ ty = .byte ∨ ty = .long ∨ (∃ C, ty = .object C) ∨ ∃ T, ty = .array T) → defaultValue ty = fv G ty h a j := by
    rintro ty (rfl | rfl | rfl | rfl | ⟨C, rfl⟩ | ⟨T, rfl⟩)
    · show Value.int 0 = .int (hI h a j); rw [e1]
    · show Value.int 0 = .int (hI h a j); rw [e1]
    · show Value.int 0 = .int (hI h a j); rw [e1]
    · show Value.long 0 = .long (hL h a j); rw [e2]
    · show Value.null = va_rf ((hR h a j).map (rho G)); rw [e3]; rfl
    · show Value.null = va_rf ((hR h a j).map (rho G)); rw [e3]; rfl
  refine key _ ?_
  exact dt_7 j hj
theorem cf_8 : CF 8 (RX8, TX8, 2) := ⟨rfl, in_X8, tyX8_ok, nmX8⟩
theorem dt_8 : ∀ j, j < 2 → (tyT 8 j = .int ∨ tyT 8 j = .boolean ∨ tyT 8 j = .byte ∨ tyT 8 j = .long ∨ (∃ C, tyT 8 j = .object C) ∨ ∃ T, tyT 8 j = .array T) := by
  intro j hj
  match j, hj with
  | 0, _ => exact Or.inl rfl
  | 1, _ => exact Or.inl rfl
  | k + 2, hk => omega
theorem df_8 : ∀ (G : GT) (h : AH) (a j : Nat), j < 2 → hI h a j = 0 → hL h a j = 0 → hR h a j = none → defaultValue (tyT 8 j) = fv G (tyT 8 j) h a j := by
  intro G h a j hj e1 e2 e3
  have key : ∀ ty : FieldType, (ty = .int ∨ ty = .boolean ∨ ty = .byte ∨ ty = .long ∨ (∃ C, ty = .object C) ∨ ∃ T, ty = .array T) → defaultValue ty = fv G ty h a j := by
    rintro ty (rfl | rfl | rfl | rfl | ⟨C, rfl⟩ | ⟨T, rfl⟩)
    · show Value.int 0 = .int (hI h a j); rw [e1]
    · show Value.int 0 = .int (hI h a j); rw [e1]
    · show Value.int 0 = .int (hI h a j); rw [e1]
    · show Value.long 0 = .long (hL h a j); rw [e2]
    · show Value.null = va_rf ((hR h a j).map (rho G)); rw [e3]; rfl
    · show Value.null = va_rf ((hR h a j).map (rho G)); rw [e3]; rfl
  refine key _ ?_
  exact dt_8 j hj
theorem cf_9 : CF 9 (RX9, TX9, 1) := ⟨rfl, in_X9, tyX9_ok, nmX9⟩
theorem dt_9 : ∀ j, j < 1 → (tyT 9 j = .int ∨ tyT 9 j = .boolean ∨ tyT 9 j = .byte ∨ tyT 9 j = .long ∨ (∃ C, tyT 9 j = .object C) ∨ ∃ T, tyT 9 j = .array T) := by
  intro j hj
  match j, hj with
  | 0, _ => exact Or.inr (Or.inr (Or.inr (Or.inr (Or.inl ⟨_, rfl⟩))))
  | k + 1, hk => omega
theorem df_9 : ∀ (G : GT) (h : AH) (a j : Nat), j < 1 → hI h a j = 0 → hL h a j = 0 → hR h a j = none → defaultValue (tyT 9 j) = fv G (tyT 9 j) h a j := by
  intro G h a j hj e1 e2 e3
  have key : ∀ ty : FieldType, (ty = .int ∨ ty = .boolean ∨ ty = .byte ∨ ty = .long ∨ (∃ C, ty = .object C) ∨ ∃ T, ty = .array T) → defaultValue ty = fv G ty h a j := by
    rintro ty (rfl | rfl | rfl | rfl | ⟨C, rfl⟩ | ⟨T, rfl⟩)
    · show Value.int 0 = .int (hI h a j); rw [e1]
    · show Value.int 0 = .int (hI h a j); rw [e1]
    · show Value.int 0 = .int (hI h a j); rw [e1]
    · show Value.long 0 = .long (hL h a j); rw [e2]
    · show Value.null = va_rf ((hR h a j).map (rho G)); rw [e3]; rfl
    · show Value.null = va_rf ((hR h a j).map (rho G)); rw [e3]; rfl
  refine key _ ?_
  exact dt_9 j hj
theorem cf_10 : CF 10 (RX10, TX10, 2) := ⟨rfl, in_X10, tyX10_ok, nmX10⟩
theorem dt_10 : ∀ j, j < 2 → (tyT 10 j = .int ∨ tyT 10 j = .boolean ∨ tyT 10 j = .byte ∨ tyT 10 j = .long ∨ (∃ C, tyT 10 j = .object C) ∨ ∃ T, tyT 10 j = .array T) := by
  intro j hj
  match j, hj with
  | 0, _ => exact Or.inl rfl
  | 1, _ => exact Or.inl rfl
  | k + 2, hk => omega
theorem df_10 : ∀ (G : GT) (h : AH) (a j : Nat), j < 2 → hI h a j = 0 → hL h a j = 0 → hR h a j = none → defaultValue (tyT 10 j) = fv G (tyT 10 j) h a j := by
  intro G h a j hj e1 e2 e3
  have key : ∀ ty : FieldType, (ty = .int ∨ ty = .boolean ∨ ty = .byte ∨ ty = .long ∨ (∃ C, ty = .object C) ∨ ∃ T, ty = .array T) → defaultValue ty = fv G ty h a j := by
    rintro ty (rfl | rfl | rfl | rfl | ⟨C, rfl⟩ | ⟨T, rfl⟩)
    · show Value.int 0 = .int (hI h a j); rw [e1]
    · show Value.int 0 = .int (hI h a j); rw [e1]
    · show Value.int 0 = .int (hI h a j); rw [e1]
    · show Value.long 0 = .long (hL h a j); rw [e2]
    · show Value.null = va_rf ((hR h a j).map (rho G)); rw [e3]; rfl
    · show Value.null = va_rf ((hR h a j).map (rho G)); rw [e3]; rfl
  refine key _ ?_
  exact dt_10 j hj
theorem cf_12 : CF 12 (RX12, TX12, 2) := ⟨rfl, in_X12, tyX12_ok, nmX12⟩
theorem dt_12 : ∀ j, j < 2 → (tyT 12 j = .int ∨ tyT 12 j = .boolean ∨ tyT 12 j = .byte ∨ tyT 12 j = .long ∨ (∃ C, tyT 12 j = .object C) ∨ ∃ T, tyT 12 j = .array T) := by
  intro j hj
  match j, hj with
  | 0, _ => exact Or.inr (Or.inr (Or.inr (Or.inr (Or.inl ⟨_, rfl⟩))))
  | 1, _ => exact Or.inr (Or.inr (Or.inr (Or.inr (Or.inl ⟨_, rfl⟩))))
  | k + 2, hk => omega
theorem df_12 : ∀ (G : GT) (h : AH) (a j : Nat), j < 2 → hI h a j = 0 → hL h a j = 0 → hR h a j = none → defaultValue (tyT 12 j) = fv G (tyT 12 j) h a j := by
  intro G h a j hj e1 e2 e3
  have key : ∀ ty : FieldType, (ty = .int ∨ ty = .boolean ∨ ty = .byte ∨ ty = .long ∨ (∃ C, ty = .object C) ∨ ∃ T, ty = .array T) → defaultValue ty = fv G ty h a j := by
    rintro ty (rfl | rfl | rfl | rfl | ⟨C, rfl⟩ | ⟨T, rfl⟩)
    · show Value.int 0 = .int (hI h a j); rw [e1]
    · show Value.int 0 = .int (hI h a j); rw [e1]
    · show Value.int 0 = .int (hI h a j); rw [e1]
    · show Value.long 0 = .long (hL h a j); rw [e2]
    · show Value.null = va_rf ((hR h a j).map (rho G)); rw [e3]; rfl
    · show Value.null = va_rf ((hR h a j).map (rho G)); rw [e3]; rfl
  refine key _ ?_
  exact dt_12 j hj
theorem cf_13 : CF 13 (RX13, TX13, 3) := ⟨rfl, in_X13, tyX13_ok, nmX13⟩
theorem dt_13 : ∀ j, j < 3 → (tyT 13 j = .int ∨ tyT 13 j = .boolean ∨ tyT 13 j = .byte ∨ tyT 13 j = .long ∨ (∃ C, tyT 13 j = .object C) ∨ ∃ T, tyT 13 j = .array T) := by
  intro j hj
  match j, hj with
  | 0, _ => exact Or.inr (Or.inl rfl)
  | 1, _ => exact Or.inr (Or.inr (Or.inr (Or.inr (Or.inl ⟨_, rfl⟩))))
  | 2, _ => exact Or.inr (Or.inr (Or.inr (Or.inr (Or.inl ⟨_, rfl⟩))))
  | k + 3, hk => omega
theorem df_13 : ∀ (G : GT) (h : AH) (a j : Nat), j < 3 → hI h a j = 0 → hL h a j = 0 → hR h a j = none → defaultValue (tyT 13 j) = fv G (tyT 13 j) h a j := by
  intro G h a j hj e1 e2 e3
  have key : ∀ ty : FieldType, (ty = .int ∨ ty = .boolean ∨ ty = .byte ∨ ty = .long ∨ (∃ C, ty = .object C) ∨ ∃ T, ty = .array T) → defaultValue ty = fv G ty h a j := by
    rintro ty (rfl | rfl | rfl | rfl | ⟨C, rfl⟩ | ⟨T, rfl⟩)
    · show Value.int 0 = .int (hI h a j); rw [e1]
    · show Value.int 0 = .int (hI h a j); rw [e1]
    · show Value.int 0 = .int (hI h a j); rw [e1]
    · show Value.long 0 = .long (hL h a j); rw [e2]
    · show Value.null = va_rf ((hR h a j).map (rho G)); rw [e3]; rfl
    · show Value.null = va_rf ((hR h a j).map (rho G)); rw [e3]; rfl
  refine key _ ?_
  exact dt_13 j hj
theorem cf_14 : CF 14 (RX14, TX14, 1) := ⟨rfl, in_X14, tyX14_ok, nmX14⟩
theorem dt_14 : ∀ j, j < 1 → (tyT 14 j = .int ∨ tyT 14 j = .boolean ∨ tyT 14 j = .byte ∨ tyT 14 j = .long ∨ (∃ C, tyT 14 j = .object C) ∨ ∃ T, tyT 14 j = .array T) := by
  intro j hj
  match j, hj with
  | 0, _ => exact Or.inr (Or.inr (Or.inr (Or.inl rfl)))
  | k + 1, hk => omega
theorem df_14 : ∀ (G : GT) (h : AH) (a j : Nat), j < 1 → hI h a j = 0 → hL h a j = 0 → hR h a j = none → defaultValue (tyT 14 j) = fv G (tyT 14 j) h a j := by
  intro G h a j hj e1 e2 e3
  have key : ∀ ty : FieldType, (ty = .int ∨ ty = .boolean ∨ ty = .byte ∨ ty = .long ∨ (∃ C, ty = .object C) ∨ ∃ T, ty = .array T) → defaultValue ty = fv G ty h a j := by
    rintro ty (rfl | rfl | rfl | rfl | ⟨C, rfl⟩ | ⟨T, rfl⟩)
    · show Value.int 0 = .int (hI h a j); rw [e1]
    · show Value.int 0 = .int (hI h a j); rw [e1]
    · show Value.int 0 = .int (hI h a j); rw [e1]
    · show Value.long 0 = .long (hL h a j); rw [e2]
    · show Value.null = va_rf ((hR h a j).map (rho G)); rw [e3]; rfl
    · show Value.null = va_rf ((hR h a j).map (rho G)); rw [e3]; rfl
  refine key _ ?_
  exact dt_14 j hj
theorem cf_15 : CF 15 (RX15, TX15, 1) := ⟨rfl, in_X15, tyX15_ok, nmX15⟩
theorem dt_15 : ∀ j, j < 1 → (tyT 15 j = .int ∨ tyT 15 j = .boolean ∨ tyT 15 j = .byte ∨ tyT 15 j = .long ∨ (∃ C, tyT 15 j = .object C) ∨ ∃ T, tyT 15 j = .array T) := by
  intro j hj
  match j, hj with
  | 0, _ => exact Or.inl rfl
  | k + 1, hk => omega
theorem df_15 : ∀ (G : GT) (h : AH) (a j : Nat), j < 1 → hI h a j = 0 → hL h a j = 0 → hR h a j = none → defaultValue (tyT 15 j) = fv G (tyT 15 j) h a j := by
  intro G h a j hj e1 e2 e3
  have key : ∀ ty : FieldType, (ty = .int ∨ ty = .boolean ∨ ty = .byte ∨ ty = .long ∨ (∃ C, ty = .object C) ∨ ∃ T, ty = .array T) → defaultValue ty = fv G ty h a j := by
    rintro ty (rfl | rfl | rfl | rfl | ⟨C, rfl⟩ | ⟨T, rfl⟩)
    · show Value.int 0 = .int (hI h a j); rw [e1]
    · show Value.int 0 = .int (hI h a j); rw [e1]
    · show Value.int 0 = .int (hI h a j); rw [e1]
    · show Value.long 0 = .long (hL h a j); rw [e2]
    · show Value.null = va_rf ((hR h a j).map (rho G)); rw [e3]; rfl
    · show Value.null = va_rf ((hR h a j).map (rho G)); rw [e3]; rfl
  refine key _ ?_
  exact dt_15 j hj
theorem cf_16 : CF 16 (RX16, TX16, 3) := ⟨rfl, in_X16, tyX16_ok, nmX16⟩
theorem dt_16 : ∀ j, j < 3 → (tyT 16 j = .int ∨ tyT 16 j = .boolean ∨ tyT 16 j = .byte ∨ tyT 16 j = .long ∨ (∃ C, tyT 16 j = .object C) ∨ ∃ T, tyT 16 j = .array T) := by
  intro j hj
  match j, hj with
  | 0, _ => exact Or.inl rfl
  | 1, _ => exact Or.inr (Or.inr (Or.inr (Or.inr (Or.inl ⟨_, rfl⟩))))
  | 2, _ => exact Or.inr (Or.inr (Or.inr (Or.inr (Or.inl ⟨_, rfl⟩))))
  | k + 3, hk => omega
theorem df_16 : ∀ (G : GT) (h : AH) (a j : Nat), j < 3 → hI h a j = 0 → hL h a j = 0 → hR h a j = none → defaultValue (tyT 16 j) = fv G (tyT 16 j) h a j := by
  intro G h a j hj e1 e2 e3
  have key : ∀ ty : FieldType, (ty = .int ∨ ty = .boolean ∨ ty = .byte ∨ ty = .long ∨ (∃ C, ty = .object C) ∨ ∃ T, ty = .array T) → defaultValue ty = fv G ty h a j := by
    rintro ty (rfl | rfl | rfl | rfl | ⟨C, rfl⟩ | ⟨T, rfl⟩)
    · show Value.int 0 = .int (hI h a j); rw [e1]
    · show Value.int 0 = .int (hI h a j); rw [e1]
    · show Value.int 0 = .int (hI h a j); rw [e1]
    · show Value.long 0 = .long (hL h a j); rw [e2]
    · show Value.null = va_rf ((hR h a j).map (rho G)); rw [e3]; rfl
    · show Value.null = va_rf ((hR h a j).map (rho G)); rw [e3]; rfl
  refine key _ ?_
  exact dt_16 j hj
theorem cf_18 : CF 18 (RX18, TX18, 2) := ⟨rfl, in_X18, tyX18_ok, nmX18⟩
theorem dt_18 : ∀ j, j < 2 → (tyT 18 j = .int ∨ tyT 18 j = .boolean ∨ tyT 18 j = .byte ∨ tyT 18 j = .long ∨ (∃ C, tyT 18 j = .object C) ∨ ∃ T, tyT 18 j = .array T) := by
  intro j hj
  match j, hj with
  | 0, _ => exact Or.inr (Or.inr (Or.inr (Or.inr (Or.inl ⟨_, rfl⟩))))
  | 1, _ => exact Or.inr (Or.inl rfl)
  | k + 2, hk => omega
theorem df_18 : ∀ (G : GT) (h : AH) (a j : Nat), j < 2 → hI h a j = 0 → hL h a j = 0 → hR h a j = none → defaultValue (tyT 18 j) = fv G (tyT 18 j) h a j := by
  intro G h a j hj e1 e2 e3
  have key : ∀ ty : FieldType, (ty = .int ∨ ty = .boolean ∨ ty = .byte ∨ ty = .long ∨ (∃ C, ty = .object C) ∨ ∃ T, ty = .array T) → defaultValue ty = fv G ty h a j := by
    rintro ty (rfl | rfl | rfl | rfl | ⟨C, rfl⟩ | ⟨T, rfl⟩)
    · show Value.int 0 = .int (hI h a j); rw [e1]
    · show Value.int 0 = .int (hI h a j); rw [e1]
    · show Value.int 0 = .int (hI h a j); rw [e1]
    · show Value.long 0 = .long (hL h a j); rw [e2]
    · show Value.null = va_rf ((hR h a j).map (rho G)); rw [e3]; rfl
    · show Value.null = va_rf ((hR h a j).map (rho G)); rw [e3]; rfl
  refine key _ ?_
  exact dt_18 j hj
theorem cf_19 : CF 19 (RX19, TX19, 1) := ⟨rfl, in_X19, tyX19_ok, nmX19⟩
theorem dt_19 : ∀ j, j < 1 → (tyT 19 j = .int ∨ tyT 19 j = .boolean ∨ tyT 19 j = .byte ∨ tyT 19 j = .long ∨ (∃ C, tyT 19 j = .object C) ∨ ∃ T, tyT 19 j = .array T) := by
  intro j hj
  match j, hj with
  | 0, _ => exact Or.inr (Or.inr (Or.inr (Or.inr (Or.inl ⟨_, rfl⟩))))
  | k + 1, hk => omega
theorem df_19 : ∀ (G : GT) (h : AH) (a j : Nat), j < 1 → hI h a j = 0 → hL h a j = 0 → hR h a j = none → defaultValue (tyT 19 j) = fv G (tyT 19 j) h a j := by
  intro G h a j hj e1 e2 e3
  have key : ∀ ty : FieldType, (ty = .int ∨ ty = .boolean ∨ ty = .byte ∨ ty = .long ∨ (∃ C, ty = .object C) ∨ ∃ T, ty = .array T) → defaultValue ty = fv G ty h a j := by
    rintro ty (rfl | rfl | rfl | rfl | ⟨C, rfl⟩ | ⟨T, rfl⟩)
    · show Value.int 0 = .int (hI h a j); rw [e1]
    · show Value.int 0 = .int (hI h a j); rw [e1]
    · show Value.int 0 = .int (hI h a j); rw [e1]
    · show Value.long 0 = .long (hL h a j); rw [e2]
    · show Value.null = va_rf ((hR h a j).map (rho G)); rw [e3]; rfl
    · show Value.null = va_rf ((hR h a j).map (rho G)); rw [e3]; rfl
  refine key _ ?_
  exact dt_19 j hj
theorem cf_20 : CF 20 (RX20, TX8, 0) := ⟨rfl, fun w h => absurd h List.not_mem_nil, fun k h => absurd h (Nat.not_lt_zero k), fun a h => absurd h (Nat.not_lt_zero a)⟩
theorem dt_20 : ∀ j, j < 0 → (tyT 20 j = .int ∨ tyT 20 j = .boolean ∨ tyT 20 j = .byte ∨ tyT 20 j = .long ∨ (∃ C, tyT 20 j = .object C) ∨ ∃ T, tyT 20 j = .array T) := by
  intro j hj; exact absurd hj (Nat.not_lt_zero j)
theorem df_20 : ∀ (G : GT) (h : AH) (a j : Nat), j < 0 → hI h a j = 0 → hL h a j = 0 → hR h a j = none → defaultValue (tyT 20 j) = fv G (tyT 20 j) h a j := by
  intro G h a j hj e1 e2 e3
  have key : ∀ ty : FieldType, (ty = .int ∨ ty = .boolean ∨ ty = .byte ∨ ty = .long ∨ (∃ C, ty = .object C) ∨ ∃ T, ty = .array T) → defaultValue ty = fv G ty h a j := by
    rintro ty (rfl | rfl | rfl | rfl | ⟨C, rfl⟩ | ⟨T, rfl⟩)
    · show Value.int 0 = .int (hI h a j); rw [e1]
    · show Value.int 0 = .int (hI h a j); rw [e1]
    · show Value.int 0 = .int (hI h a j); rw [e1]
    · show Value.long 0 = .long (hL h a j); rw [e2]
    · show Value.null = va_rf ((hR h a j).map (rho G)); rw [e3]; rfl
    · show Value.null = va_rf ((hR h a j).map (rho G)); rw [e3]; rfl
  refine key _ ?_
  exact dt_20 j hj
theorem cf_21 : CF 21 (RX21, TX21, 3) := ⟨rfl, in_X21, tyX21_ok, nmX21⟩
theorem dt_21 : ∀ j, j < 3 → (tyT 21 j = .int ∨ tyT 21 j = .boolean ∨ tyT 21 j = .byte ∨ tyT 21 j = .long ∨ (∃ C, tyT 21 j = .object C) ∨ ∃ T, tyT 21 j = .array T) := by
  intro j hj
  match j, hj with
  | 0, _ => exact Or.inr (Or.inr (Or.inr (Or.inr (Or.inl ⟨_, rfl⟩))))
  | 1, _ => exact Or.inr (Or.inr (Or.inr (Or.inr (Or.inl ⟨_, rfl⟩))))
  | 2, _ => exact Or.inl rfl
  | k + 3, hk => omega
theorem df_21 : ∀ (G : GT) (h : AH) (a j : Nat), j < 3 → hI h a j = 0 → hL h a j = 0 → hR h a j = none → defaultValue (tyT 21 j) = fv G (tyT 21 j) h a j := by
  intro G h a j hj e1 e2 e3
  have key : ∀ ty : FieldType, (ty = .int ∨ ty = .boolean ∨ ty = .byte ∨ ty = .long ∨ (∃ C, ty = .object C) ∨ ∃ T, ty = .array T) → defaultValue ty = fv G ty h a j := by
    rintro ty (rfl | rfl | rfl | rfl | ⟨C, rfl⟩ | ⟨T, rfl⟩)
    · show Value.int 0 = .int (hI h a j); rw [e1]
    · show Value.int 0 = .int (hI h a j); rw [e1]
    · show Value.int 0 = .int (hI h a j); rw [e1]
    · show Value.long 0 = .long (hL h a j); rw [e2]
    · show Value.null = va_rf ((hR h a j).map (rho G)); rw [e3]; rfl
    · show Value.null = va_rf ((hR h a j).map (rho G)); rw [e3]; rfl
  refine key _ ?_
  exact dt_21 j hj
theorem cf_22 : CF 22 (RX22, TX22, 5) := ⟨rfl, in_X22, tyX22_ok, nmX22⟩
theorem dt_22 : ∀ j, j < 5 → (tyT 22 j = .int ∨ tyT 22 j = .boolean ∨ tyT 22 j = .byte ∨ tyT 22 j = .long ∨ (∃ C, tyT 22 j = .object C) ∨ ∃ T, tyT 22 j = .array T) := by
  intro j hj
  match j, hj with
  | 0, _ => exact Or.inl rfl
  | 1, _ => exact Or.inr (Or.inr (Or.inr (Or.inr (Or.inl ⟨_, rfl⟩))))
  | 2, _ => exact Or.inr (Or.inr (Or.inr (Or.inr (Or.inl ⟨_, rfl⟩))))
  | 3, _ => exact Or.inr (Or.inr (Or.inr (Or.inl rfl)))
  | 4, _ => exact Or.inr (Or.inl rfl)
  | k + 5, hk => omega
theorem df_22 : ∀ (G : GT) (h : AH) (a j : Nat), j < 5 → hI h a j = 0 → hL h a j = 0 → hR h a j = none → defaultValue (tyT 22 j) = fv G (tyT 22 j) h a j := by
  intro G h a j hj e1 e2 e3
  have key : ∀ ty : FieldType, (ty = .int ∨ ty = .boolean ∨ ty = .byte ∨ ty = .long ∨ (∃ C, ty = .object C) ∨ ∃ T, ty = .array T) → defaultValue ty = fv G ty h a j := by
    rintro ty (rfl | rfl | rfl | rfl | ⟨C, rfl⟩ | ⟨T, rfl⟩)
    · show Value.int 0 = .int (hI h a j); rw [e1]
    · show Value.int 0 = .int (hI h a j); rw [e1]
    · show Value.int 0 = .int (hI h a j); rw [e1]
    · show Value.long 0 = .long (hL h a j); rw [e2]
    · show Value.null = va_rf ((hR h a j).map (rho G)); rw [e3]; rfl
    · show Value.null = va_rf ((hR h a j).map (rho G)); rw [e3]; rfl
  refine key _ ?_
  exact dt_22 j hj
theorem cf_23 : CF 23 (RJ2, TJ2, 3) := ⟨rfl, in_J2, tyJ2_ok, nmJ2⟩
theorem dt_23 : ∀ j, j < 3 → (tyT 23 j = .int ∨ tyT 23 j = .boolean ∨ tyT 23 j = .byte ∨ tyT 23 j = .long ∨ (∃ C, tyT 23 j = .object C) ∨ ∃ T, tyT 23 j = .array T) := by
  intro j hj
  match j, hj with
  | 0, _ => exact Or.inl rfl
  | 1, _ => exact Or.inr (Or.inr (Or.inr (Or.inr (Or.inr ⟨_, rfl⟩))))
  | 2, _ => exact Or.inl rfl
  | k + 3, hk => omega
theorem df_23 : ∀ (G : GT) (h : AH) (a j : Nat), j < 3 → hI h a j = 0 → hL h a j = 0 → hR h a j = none → defaultValue (tyT 23 j) = fv G (tyT 23 j) h a j := by
  intro G h a j hj e1 e2 e3
  have key : ∀ ty : FieldType, (ty = .int ∨ ty = .boolean ∨ ty = .byte ∨ ty = .long ∨ (∃ C, ty = .object C) ∨ ∃ T, ty = .array T) → defaultValue ty = fv G ty h a j := by
    rintro ty (rfl | rfl | rfl | rfl | ⟨C, rfl⟩ | ⟨T, rfl⟩)
    · show Value.int 0 = .int (hI h a j); rw [e1]
    · show Value.int 0 = .int (hI h a j); rw [e1]
    · show Value.int 0 = .int (hI h a j); rw [e1]
    · show Value.long 0 = .long (hL h a j); rw [e2]
    · show Value.null = va_rf ((hR h a j).map (rho G)); rw [e3]; rfl
    · show Value.null = va_rf ((hR h a j).map (rho G)); rw [e3]; rfl
  refine key _ ?_
  exact dt_23 j hj
theorem cf_24 : CF 24 (RJ9, TJ9, 4) := ⟨rfl, in_J9, tyJ9_ok, nmJ9⟩
theorem dt_24 : ∀ j, j < 4 → (tyT 24 j = .int ∨ tyT 24 j = .boolean ∨ tyT 24 j = .byte ∨ tyT 24 j = .long ∨ (∃ C, tyT 24 j = .object C) ∨ ∃ T, tyT 24 j = .array T) := by
  intro j hj
  match j, hj with
  | 0, _ => exact Or.inr (Or.inr (Or.inr (Or.inr (Or.inr ⟨_, rfl⟩))))
  | 1, _ => exact Or.inr (Or.inr (Or.inl rfl))
  | 2, _ => exact Or.inl rfl
  | 3, _ => exact Or.inr (Or.inl rfl)
  | k + 4, hk => omega
theorem df_24 : ∀ (G : GT) (h : AH) (a j : Nat), j < 4 → hI h a j = 0 → hL h a j = 0 → hR h a j = none → defaultValue (tyT 24 j) = fv G (tyT 24 j) h a j := by
  intro G h a j hj e1 e2 e3
  have key : ∀ ty : FieldType, (ty = .int ∨ ty = .boolean ∨ ty = .byte ∨ ty = .long ∨ (∃ C, ty = .object C) ∨ ∃ T, ty = .array T) → defaultValue ty = fv G ty h a j := by
    rintro ty (rfl | rfl | rfl | rfl | ⟨C, rfl⟩ | ⟨T, rfl⟩)
    · show Value.int 0 = .int (hI h a j); rw [e1]
    · show Value.int 0 = .int (hI h a j); rw [e1]
    · show Value.int 0 = .int (hI h a j); rw [e1]
    · show Value.long 0 = .long (hL h a j); rw [e2]
    · show Value.null = va_rf ((hR h a j).map (rho G)); rw [e3]; rfl
    · show Value.null = va_rf ((hR h a j).map (rho G)); rw [e3]; rfl
  refine key _ ?_
  exact dt_24 j hj
theorem cf_25 : CF 25 (RJ15, TJ15, 4) := ⟨rfl, in_J15, tyJ15_ok, nmJ15⟩
theorem dt_25 : ∀ j, j < 4 → (tyT 25 j = .int ∨ tyT 25 j = .boolean ∨ tyT 25 j = .byte ∨ tyT 25 j = .long ∨ (∃ C, tyT 25 j = .object C) ∨ ∃ T, tyT 25 j = .array T) := by
  intro j hj
  match j, hj with
  | 0, _ => exact Or.inr (Or.inr (Or.inr (Or.inr (Or.inr ⟨_, rfl⟩))))
  | 1, _ => exact Or.inr (Or.inr (Or.inl rfl))
  | 2, _ => exact Or.inr (Or.inl rfl)
  | 3, _ => exact Or.inl rfl
  | k + 4, hk => omega
theorem df_25 : ∀ (G : GT) (h : AH) (a j : Nat), j < 4 → hI h a j = 0 → hL h a j = 0 → hR h a j = none → defaultValue (tyT 25 j) = fv G (tyT 25 j) h a j := by
  intro G h a j hj e1 e2 e3
  have key : ∀ ty : FieldType, (ty = .int ∨ ty = .boolean ∨ ty = .byte ∨ ty = .long ∨ (∃ C, ty = .object C) ∨ ∃ T, ty = .array T) → defaultValue ty = fv G ty h a j := by
    rintro ty (rfl | rfl | rfl | rfl | ⟨C, rfl⟩ | ⟨T, rfl⟩)
    · show Value.int 0 = .int (hI h a j); rw [e1]
    · show Value.int 0 = .int (hI h a j); rw [e1]
    · show Value.int 0 = .int (hI h a j); rw [e1]
    · show Value.long 0 = .long (hL h a j); rw [e2]
    · show Value.null = va_rf ((hR h a j).map (rho G)); rw [e3]; rfl
    · show Value.null = va_rf ((hR h a j).map (rho G)); rw [e3]; rfl
  refine key _ ?_
  exact dt_25 j hj
