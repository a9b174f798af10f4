set_option maxRecDepth 100000
noncomputable def X2_most (a0 : Nat) (x1 : Int32) (x2 : Int32) (h : AH) : Option ((Unit ⊕ Nat) × AH) :=
if x1 = 0 then (some ((.inl (), h))) else ((isO 2 (some a0) h).bind fun a => b2 (X2_wrong a 5 x2 h) fun v1 h2 =>
(isF v1 h2).bind fun a => some ((.inr a, h2)))
noncomputable def X2_parted_32 (a0 : Nat) (h : AH) : Option ((Unit ⊕ Nat) × AH) :=
(gI 2 2 (some a0) h).bind fun v1 =>
(isO 2 (some a0) h).bind fun a => b2 (X2_wrong a 1 v1 h) fun v2 h3 =>
(isF v2 h3).bind fun a => some ((.inr a, h3))
noncomputable def X2_parted (a0 : Nat) (h : AH) : Option ((Unit ⊕ Nat) × AH) :=
(gI 2 2 (some a0) h).bind fun v4 =>
(isO 2 (some a0) h).bind fun a => b2 (X2_byteAt a (v4 - 1) h) fun v5 h6 =>
b2 (X0_isLetter v5 h6) fun v7 h8 =>
if v7 = 0 then ((gI 2 2 (some a0) h8).bind fun v9 =>
(isO 2 (some a0) h8).bind fun a => b2 (X2_byteAt a (v9 - 1) h8) fun v10 h11 =>
b2 (X0_isDigit v10 h11) fun v12 h13 =>
if v12 = 0 then (some ((.inl (), h13))) else (X2_parted_32 a0 h13)) else (X2_parted_32 a0 h8)
noncomputable def X2_word_108 (x1 : Option Nat) (h : AH) : Option ((Option Nat ⊕ Nat) × AH) :=
b2 (J9_valueOf x1 h) fun v1 h2 =>
some ((.inl v1, h2))
noncomputable def X2_word_76b (a0 : Nat) (x1 : Option Nat) (x2 : Int32) (h : AH) : Option ((Int32 × AH) ⊕ ((Option Nat ⊕ Nat) × AH)) :=
(gI 2 2 (some a0) h).bind fun v3 =>
if x2 < v3 then ((gI 2 3 (some a0) h).bind fun v4 =>
(gR 2 7 (some a0) h).bind fun v5 =>
(gR 0 1 v5 h).bind fun v6 =>
(xI 101 v6 x2 h).bind fun v7 =>
(sI 102 x1 (x2 - v4) (nCh (ji2c v7)) h).bind fun h8 =>
some (.inl ((x2 + 1), h8))) else ((X2_word_108 x1 h).bind fun o => some (.inr o))
noncomputable def X2_word_76 (a0 : Nat) (x1 : Option Nat) (x2 : Int32) (h : AH) : Option ((Option Nat ⊕ Nat) × AH) := loopC (fun s : Int32 × AH => X2_word_76b a0 x1 s.1 s.2) (x2, h)
noncomputable def X2_word_59 (a0 : Nat) (h : AH) : Option ((Option Nat ⊕ Nat) × AH) :=
(gI 2 2 (some a0) h).bind fun v9 =>
(gI 2 3 (some a0) h).bind fun v10 =>
b2 (newA 102 (v9 - v10) h) fun v11 h12 =>
(gI 2 3 (some a0) h12).bind fun v13 =>
X2_word_76 a0 v11 v13 h12
noncomputable def X2_word_32b (a0 : Nat)  (h : AH) : Option ((AH) ⊕ ((Option Nat ⊕ Nat) × AH)) :=
(gI 2 2 (some a0) h).bind fun v14 =>
(isO 2 (some a0) h).bind fun a => b2 (X2_byteAt a v14 h) fun v15 h16 =>
b2 (X0_isLetter v15 h16) fun v17 h18 =>
if v17 = 0 then ((X2_word_59 a0 h18).bind fun o => some (.inr o)) else ((gI 2 2 (some a0) h18).bind fun v19 =>
(pI 2 2 (some a0) (v19 + 1) h18).bind fun h20 =>
some (.inl (h20)))
noncomputable def X2_word_32 (a0 : Nat) (h : AH) : Option ((Option Nat ⊕ Nat) × AH) := loopC (fun s : AH => X2_word_32b a0 s) (h)
noncomputable def X2_word (a0 : Nat) (h : AH) : Option ((Option Nat ⊕ Nat) × AH) :=
(isO 2 (some a0) h).bind fun a => b2 (X2_here a h) fun v21 h22 =>
b2 (X0_isLetter v21 h22) fun v23 h24 =>
if v23 = 0 then ((gI 2 2 (some a0) h24).bind fun v29 =>
(isO 2 (some a0) h24).bind fun a => b2 (X2_wrong a 1 v29 h24) fun v30 h31 =>
(isF v30 h31).bind fun a => some ((.inr a, h31))) else ((isO 2 (some a0) h24).bind fun a => bX (X2_parted a h24) (fun _ h26 =>
(gI 2 2 (some a0) h26).bind fun v27 =>
(pI 2 3 (some a0) v27 h26).bind fun h28 =>
X2_word_32 a0 h28) (fun b h_ => some ((.inr b, h_))))
noncomputable def X2_name (a0 : Nat) (h : AH) : Option ((Option Nat ⊕ Nat) × AH) :=
(isO 2 (some a0) h).bind fun a => bX (X2_word a h) (fun v1 h2 =>
b2 (X0_find v1 (hR h2 120 9) h2) fun v3 h4 =>
if v3 = (-1) then ((isO 24 v1 h4).bind fun a => b2 (J9_length a h4) fun v5 h6 =>
if 6 < v5 then ((gI 2 3 (some a0) h6).bind fun v7 =>
(isO 2 (some a0) h6).bind fun a => b2 (X2_wrong a 1 (v7 + 6) h6) fun v8 h9 =>
(isF v8 h9).bind fun a => some ((.inr a, h9))) else (some ((.inl v1, h6)))) else ((gI 2 3 (some a0) h4).bind fun v10 =>
(isO 2 (some a0) h4).bind fun a => b2 (X2_wrong a 1 v10 h4) fun v11 h12 =>
(isF v11 h12).bind fun a => some ((.inr a, h12)))) (fun b h_ => some ((.inr b, h_)))
noncomputable def X2_aWord_66 (a0 : Nat) (h : AH) : Option ((Unit ⊕ Nat) × AH) :=
(gI 2 3 (some a0) h).bind fun v1 =>
(isO 2 (some a0) h).bind fun a => b2 (X2_wrong a 3 v1 h) fun v2 h3 =>
(isF v2 h3).bind fun a => some ((.inr a, h3))
noncomputable def X2_aWord_23 (a0 : Nat) (x1 : Int32) (s0 : Option Nat) (s1 : Int32) (h : AH) : Option ((Unit ⊕ Nat) × AH) :=
(isO 2 s0 h).bind fun a => bX (X2_most a s1 x1 h) (fun _ h5 =>
b2 (newO 9 1 h5) fun v6 h7 =>
(isO 2 (some a0) h7).bind fun a => bX (X2_name a h7) (fun v8 h9 =>
(nn v6).bind fun a => (X9_init a v8 h9).bind fun h10 =>
(gR 2 6 (some a0) h10).bind fun v11 =>
(gR 9 0 v6 h10).bind fun v12 =>
(isO 1 v11 h10).bind fun a => b2 (X1_word a v12 h10) fun v13 h14 =>
if v13 = (-1) then ((gR 2 6 (some a0) h14).bind fun v15 =>
(isO 1 v15 h14).bind fun a => b2 (X1_isIn a 0 v6 h14) fun v16 h17 =>
if v16 = 0 then (X2_aWord_66 a0 h17) else ((gR 2 6 (some a0) h17).bind fun v18 =>
(gR 1 5 v18 h17).bind fun v19 =>
(isO 23 v19 h17).bind fun a => b2 (J2_add a v6 h17) fun v20 h21 =>
some ((.inl (), h21)))) else (X2_aWord_66 a0 h14)) (fun b h_ => some ((.inr b, h_)))) (fun b h_ => some ((.inr b, h_)))
noncomputable def X2_aWord (a0 : Nat) (x1 : Int32) (h : AH) : Option ((Unit ⊕ Nat) × AH) :=
(gR 2 6 (some a0) h).bind fun v22 =>
(gR 1 5 v22 h).bind fun v23 =>
(isO 23 v23 h).bind fun a => b2 (J2_size a h) fun v24 h25 =>
if v24 = 8 then (X2_aWord_23 a0 x1 (some a0) 1 h25) else (X2_aWord_23 a0 x1 (some a0) 0 h25)
noncomputable def X2_number_2_61 (a0 : Nat) (h : AH) : Option ((Int32 ⊕ Nat) × AH) :=
(gI 2 2 (some a0) h).bind fun v1 =>
(isO 2 (some a0) h).bind fun a => b2 (X2_wrong a 1 v1 h) fun v2 h3 =>
(isF v2 h3).bind fun a => some ((.inr a, h3))
noncomputable def X2_number_2_101 (a0 : Nat) (x1 : Int32) (x2 : Int32) (x3 : Int32) (h : AH) : Option ((Int32 ⊕ Nat) × AH) :=
b2 (X0_is x3 x1 x2 h) fun v4 h5 =>
if v4 = 0 then ((gI 2 3 (some a0) h5).bind fun v6 =>
(isO 2 (some a0) h5).bind fun a => b2 (X2_wrong a 2 v6 h5) fun v7 h8 =>
(isF v7 h8).bind fun a => some ((.inr a, h8))) else (some ((.inl x3, h5)))
noncomputable def X2_number_2_34b (a0 : Nat) (x1 : Int32) (x2 : Int32) (x3 : Int32) (h : AH) : Option ((Int32 × AH) ⊕ ((Int32 ⊕ Nat) × AH)) :=
(gI 2 2 (some a0) h).bind fun v9 =>
(isO 2 (some a0) h).bind fun a => b2 (X2_byteAt a v9 h) fun v10 h11 =>
b2 (X0_isDigit v10 h11) fun v12 h13 =>
if v12 = 0 then ((X2_number_2_101 a0 x1 x2 x3 h13).bind fun o => some (.inr o)) else ((gI 2 2 (some a0) h13).bind fun v14 =>
(gI 2 3 (some a0) h13).bind fun v15 =>
if (v14 - v15) = 4 then ((X2_number_2_61 a0 h13).bind fun o => some (.inr o)) else ((gI 2 2 (some a0) h13).bind fun v16 =>
(isO 2 (some a0) h13).bind fun a => b2 (X2_byteAt a v16 h13) fun v17 h18 =>
(gI 2 2 (some a0) h18).bind fun v19 =>
(pI 2 2 (some a0) (v19 + 1) h18).bind fun h20 =>
some (.inl ((((10 * x3) + v17) - 48), h20))))
noncomputable def X2_number_2_34 (a0 : Nat) (x1 : Int32) (x2 : Int32) (x3 : Int32) (h : AH) : Option ((Int32 ⊕ Nat) × AH) := loopC (fun s : Int32 × AH => X2_number_2_34b a0 x1 x2 s.1 s.2) (x3, h)
noncomputable def X2_number_2 (a0 : Nat) (x1 : Int32) (x2 : Int32) (h : AH) : Option ((Int32 ⊕ Nat) × AH) :=
(isO 2 (some a0) h).bind fun a => b2 (X2_here a h) fun v21 h22 =>
b2 (X0_isDigit v21 h22) fun v23 h24 =>
if v23 = 0 then ((gI 2 2 (some a0) h24).bind fun v29 =>
(isO 2 (some a0) h24).bind fun a => b2 (X2_wrong a 1 v29 h24) fun v30 h31 =>
(isF v30 h31).bind fun a => some ((.inr a, h31))) else ((isO 2 (some a0) h24).bind fun a => bX (X2_parted a h24) (fun _ h26 =>
(gI 2 2 (some a0) h26).bind fun v27 =>
(pI 2 3 (some a0) v27 h26).bind fun h28 =>
X2_number_2_34 a0 x1 x2 0 h28) (fun b h_ => some ((.inr b, h_))))
noncomputable def X2_word_2 (a0 : Nat) (x1 : Option Nat) (h : AH) : Option ((Unit ⊕ Nat) × AH) :=
(isO 2 (some a0) h).bind fun a => bX (X2_word a h) (fun v1 h2 =>
(isO 24 v1 h2).bind fun a => b2 (J9_equals a x1 h2) fun v3 h4 =>
if v3 = 0 then ((gI 2 3 (some a0) h4).bind fun v5 =>
(isO 2 (some a0) h4).bind fun a => b2 (X2_wrong a 1 v5 h4) fun v6 h7 =>
(isF v6 h7).bind fun a => some ((.inr a, h7))) else (some ((.inl (), h4)))) (fun b h_ => some ((.inr b, h_)))
noncomputable def X2_number (a0 : Nat) (x1 : Option Nat) (x2 : Int32) (x3 : Int32) (h : AH) : Option ((Int32 ⊕ Nat) × AH) :=
(isO 2 (some a0) h).bind fun a => bX (X2_word_2 a x1 h) (fun _ h2 =>
(isO 2 (some a0) h2).bind fun a => bX (X2_number_2 a x2 x3 h2) (fun v3 h4 =>
some ((.inl v3, h4))) (fun b h_ => some ((.inr b, h_)))) (fun b h_ => some ((.inr b, h_)))
noncomputable def X2_board_22 (a0 : Nat) (x1 : Int32) (s0 : Option Nat) (s1 : Int32) (h : AH) : Option ((Unit ⊕ Nat) × AH) :=
(isO 2 s0 h).bind fun a => bX (X2_most a s1 x1 h) (fun _ h2 =>
(gR 2 6 (some a0) h2).bind fun v3 =>
(isO 2 (some a0) h2).bind fun a => bX (X2_name a h2) (fun v4 h5 =>
(isO 1 v3 h5).bind fun a => b2 (X1_word a v4 h5) fun v6 h7 =>
if v6 = (-1) then ((gI 2 3 (some a0) h7).bind fun v27 =>
(isO 2 (some a0) h7).bind fun a => b2 (X2_wrong a 3 v27 h7) fun v28 h29 =>
(isF v28 h29).bind fun a => some ((.inr a, h29))) else ((isO 2 (some a0) h7).bind fun a => bX (X2_number a (some 22) 0 1 h7) (fun v8 h9 =>
(gR 2 6 (some a0) h9).bind fun v10 =>
(gR 2 6 (some a0) h9).bind fun v11 =>
(gR 1 5 v11 h9).bind fun v12 =>
(isO 23 v12 h9).bind fun a => b2 (J2_get a v6 h9) fun v13 h14 =>
(cst [9] v13 h14).bind fun _ =>
(isO 1 v10 h14).bind fun a => b2 (X1_isIn a v8 v13 h14) fun v15 h16 =>
if v15 = 0 then ((gI 2 3 (some a0) h16).bind fun v24 =>
(isO 2 (some a0) h16).bind fun a => b2 (X2_wrong a 2 v24 h16) fun v25 h26 =>
(isF v25 h26).bind fun a => some ((.inr a, h26))) else ((gR 2 6 (some a0) h16).bind fun v17 =>
(gR 1 6 v17 h16).bind fun v18 =>
b2 (newO 10 2 h16) fun v19 h20 =>
(nn v19).bind fun a => (X10_init a v6 v8 h20).bind fun h21 =>
(isO 23 v18 h21).bind fun a => b2 (J2_add a v19 h21) fun v22 h23 =>
some ((.inl (), h23)))) (fun b h_ => some ((.inr b, h_))))) (fun b h_ => some ((.inr b, h_)))) (fun b h_ => some ((.inr b, h_)))
noncomputable def X2_board (a0 : Nat) (x1 : Int32) (h : AH) : Option ((Unit ⊕ Nat) × AH) :=
(gR 2 6 (some a0) h).bind fun v30 =>
(gR 1 6 v30 h).bind fun v31 =>
(isO 23 v31 h).bind fun a => b2 (J2_size a h) fun v32 h33 =>
if v32 = 4 then (X2_board_22 a0 x1 (some a0) 1 h33) else (X2_board_22 a0 x1 (some a0) 0 h33)
noncomputable def X2_letter_158b (a0 : Nat) (x2 : Int32) (x3 : Int32) (x5 : Int32) (x6 : Int32) (x4 : Int32) (x7 : Int32) (h : AH) : Option ((Int32 × Int32 × AH) ⊕ ((Int32 × Int32 × AH) ⊕ ((Unit ⊕ Nat) × AH))) :=
if x7 < 3 then (some (.inl ((x4 ||| (jshl ((jshr x6 (2 - x7)) &&& 1) ((3 * x5) + x7))), (x7 + 1), h))) else (some (.inr (.inl (x4, (x5 + 1), h))))
noncomputable def X2_letter_158 (a0 : Nat) (x2 : Int32) (x3 : Int32) (x4 : Int32) (x5 : Int32) (x6 : Int32) (x7 : Int32) (h : AH) : Option ((Int32 × Int32 × AH) ⊕ ((Unit ⊕ Nat) × AH)) := loopC (fun s : Int32 × Int32 × AH => X2_letter_158b a0 x2 x3 x5 x6 s.1 s.2.1 s.2.2) (x4, x7, h)
noncomputable def X2_letter_198 (a0 : Nat) (x2 : Int32) (x3 : Int32) (x4 : Int32) (h : AH) : Option ((Unit ⊕ Nat) × AH) :=
(gR 2 6 (some a0) h).bind fun v1 =>
(gR 1 4 v1 h).bind fun v2 =>
(isO 23 v2 h).bind fun a => b2 (J2_get a x3 h) fun v3 h4 =>
(cst [23] v3 h4).bind fun _ =>
b2 (newO 8 2 h4) fun v5 h6 =>
(nn v5).bind fun a => (X8_init a x2 x4 h6).bind fun h7 =>
(isO 23 v3 h7).bind fun a => b2 (J2_add a v5 h7) fun v8 h9 =>
some ((.inl (), h9))
noncomputable def X2_letter_140b (a0 : Nat) (x2 : Int32) (x3 : Int32) (x4 : Int32) (x5 : Int32) (h : AH) : Option ((Int32 × Int32 × AH) ⊕ ((Unit ⊕ Nat) × AH)) :=
if x5 < 5 then ((isO 2 (some a0) h).bind fun a => bX (X2_number_2 a 0 7 h) (fun v10 h11 =>
X2_letter_158 a0 x2 x3 x4 x5 v10 0 h11) (fun b h_ => some (.inr ((.inr b, h_))))) else ((X2_letter_198 a0 x2 x3 x4 h).bind fun o => some (.inr o))
noncomputable def X2_letter_140 (a0 : Nat) (x2 : Int32) (x3 : Int32) (x4 : Int32) (x5 : Int32) (h : AH) : Option ((Unit ⊕ Nat) × AH) := loopC (fun s : Int32 × Int32 × AH => X2_letter_140b a0 x2 x3 s.1 s.2.1 s.2.2) (x4, x5, h)
noncomputable def X2_letter_98 (a0 : Nat) (x2 : Int32) (x3 : Int32) (s0 : Option Nat) (s1 : Int32) (h : AH) : Option ((Unit ⊕ Nat) × AH) :=
(gI 2 3 (some a0) h).bind fun v12 =>
(isO 2 s0 h).bind fun a => bX (X2_most a s1 v12 h) (fun _ h14 =>
(gR 2 6 (some a0) h14).bind fun v15 =>
(isO 1 v15 h14).bind fun a => b2 (X1_letter a x3 x2 h14) fun v16 h17 =>
if v16 = (-1) then ((isO 2 (some a0) h17).bind fun a => bX (X2_word_2 a (some 26) h17) (fun _ h19 =>
X2_letter_140 a0 x2 x3 0 0 h19) (fun b h_ => some ((.inr b, h_)))) else ((gI 2 3 (some a0) h17).bind fun v20 =>
(isO 2 (some a0) h17).bind fun a => b2 (X2_wrong a 2 v20 h17) fun v21 h22 =>
(isF v21 h22).bind fun a => some ((.inr a, h22)))) (fun b h_ => some ((.inr b, h_)))
noncomputable def X2_letter (a0 : Nat) (h : AH) : Option ((Unit ⊕ Nat) × AH) :=
(isO 2 (some a0) h).bind fun a => bX (X2_word a h) (fun v23 h24 =>
b2 (X0_find v23 (hR h24 120 9) h24) fun v25 h26 =>
if v25 = (-1) then ((isO 24 v23 h26).bind fun a => b2 (J9_length a h26) fun v27 h28 =>
if 1 < v27 then ((gI 2 3 (some a0) h28).bind fun v39 =>
(isO 2 (some a0) h28).bind fun a => b2 (X2_wrong a 1 (v39 + 1) h28) fun v40 h41 =>
(isF v40 h41).bind fun a => some ((.inr a, h41))) else ((isO 24 v23 h28).bind fun a => b2 (J9_charAt a 0 h28) fun v29 h30 =>
(isO 2 (some a0) h30).bind fun a => bX (X2_number a (some 22) 0 1 h30) (fun v31 h32 =>
(gR 2 6 (some a0) h32).bind fun v33 =>
(gR 1 4 v33 h32).bind fun v34 =>
(isO 23 v34 h32).bind fun a => b2 (J2_get a v31 h32) fun v35 h36 =>
(cst [23] v35 h36).bind fun _ =>
(isO 23 v35 h36).bind fun a => b2 (J2_size a h36) fun v37 h38 =>
if v37 = 12 then (X2_letter_98 a0 ((v29 - 97) + 1) v31 (some a0) 1 h38) else (X2_letter_98 a0 ((v29 - 97) + 1) v31 (some a0) 0 h38)) (fun b h_ => some ((.inr b, h_))))) else ((gI 2 3 (some a0) h26).bind fun v42 =>
(isO 2 (some a0) h26).bind fun a => b2 (X2_wrong a 1 v42 h26) fun v43 h44 =>
(isF v43 h44).bind fun a => some ((.inr a, h44)))) (fun b h_ => some ((.inr b, h_)))
noncomputable def X2_laid_86 (a0 : Nat) (x2 : Int32) (x4 : Int32) (h : AH) : Option ((Int32 ⊕ Nat) × AH) :=
if x4 = 0 then ((isO 2 (some a0) h).bind fun a => bX (X2_letter a h) (fun _ h3 =>
some ((.inl 1, h3))) (fun b h_ => some ((.inr b, h_)))) else (if x4 = 1 then ((isO 2 (some a0) h).bind fun a => bX (X2_aWord a x2 h) (fun _ h6 =>
some ((.inl 1, h6))) (fun b h_ => some ((.inr b, h_)))) else (if x4 = 2 then ((isO 2 (some a0) h).bind fun a => bX (X2_board a x2 h) (fun _ h9 =>
some ((.inl 1, h9))) (fun b h_ => some ((.inr b, h_)))) else (some ((.inl 0, h)))))
noncomputable def X2_laid (a0 : Nat) (x1 : Option Nat) (x2 : Int32) (h : AH) : Option ((Int32 ⊕ Nat) × AH) :=
(isO 24 x1 h).bind fun a => b2 (J9_hashCode a h) fun v10 h11 =>
if v10 = (-1106172890) then ((isO 24 x1 h11).bind fun a => b2 (J9_equals a (some 34) h11) fun v13 h14 =>
if v13 = 0 then (X2_laid_86 a0 x2 (-1) h14) else (X2_laid_86 a0 x2 0 h14)) else (if v10 = 3655434 then ((isO 24 x1 h11).bind fun a => b2 (J9_equals a (some 66) h11) fun v16 h17 =>
if v16 = 0 then (X2_laid_86 a0 x2 (-1) h17) else (X2_laid_86 a0 x2 1 h17)) else (if v10 = 93908710 then ((isO 24 x1 h11).bind fun a => b2 (J9_equals a (some 10) h11) fun v19 h20 =>
if v19 = 0 then (X2_laid_86 a0 x2 (-1) h20) else (X2_laid_86 a0 x2 2 h20)) else (X2_laid_86 a0 x2 (-1) h11)))
noncomputable def X2_product_20b (pa : PaT) (a0 : Nat) (x1 : Option Nat) (x2 : Int32) (h : AH) : Option ((Int32 × AH) ⊕ ((Option Nat ⊕ Nat) × AH)) :=
if x2 = 0 then (some (.inr ((.inl x1, h)))) else ((isO 2 (some a0) h).bind fun a => b2 (X2_takes a 42 h) fun v1 h2 =>
if v1 = 0 then ((isO 2 (some a0) h2).bind fun a => b2 (X2_takes a 47 h2) fun v3 h4 =>
if v3 = 0 then (some (.inl (0, h4))) else ((isO 2 (some a0) h4).bind fun a => bX (pa a h4) (fun v5 h6 =>
(isO 12 x1 h6).bind fun a => (X12_add a 47 v5 h6).bind fun h7 =>
some (.inl (x2, h7))) (fun b h_ => some (.inr ((.inr b, h_)))))) else ((isO 2 (some a0) h2).bind fun a => bX (pa a h2) (fun v8 h9 =>
(isO 12 x1 h9).bind fun a => (X12_add a 42 v8 h9).bind fun h10 =>
some (.inl (x2, h10))) (fun b h_ => some (.inr ((.inr b, h_))))))
noncomputable def X2_product_20 (pa : PaT) (a0 : Nat) (x1 : Option Nat) (x2 : Int32) (h : AH) : Option ((Option Nat ⊕ Nat) × AH) := loopC (fun s : Int32 × AH => X2_product_20b pa a0 x1 s.1 s.2) (x2, h)
noncomputable def X2_product (pa : PaT) (a0 : Nat) (h : AH) : Option ((Option Nat ⊕ Nat) × AH) :=
b2 (newO 12 2 h) fun v11 h12 =>
(nn v11).bind fun a => (X12_init a h12).bind fun h13 =>
(isO 2 (some a0) h13).bind fun a => bX (pa a h13) (fun v14 h15 =>
(isO 12 v11 h15).bind fun a => (X12_add a 42 v14 h15).bind fun h16 =>
X2_product_20 pa a0 v11 1 h16) (fun b h_ => some ((.inr b, h_)))
noncomputable def X2_sum_20b (pa : PaT) (a0 : Nat) (x1 : Option Nat) (x2 : Int32) (h : AH) : Option ((Int32 × AH) ⊕ ((Option Nat ⊕ Nat) × AH)) :=
if x2 = 0 then (some (.inr ((.inl x1, h)))) else ((isO 2 (some a0) h).bind fun a => b2 (X2_takes a 43 h) fun v1 h2 =>
if v1 = 0 then ((isO 2 (some a0) h2).bind fun a => b2 (X2_takes a 45 h2) fun v3 h4 =>
if v3 = 0 then (some (.inl (0, h4))) else ((isO 2 (some a0) h4).bind fun a => bX (X2_product pa a h4) (fun v5 h6 =>
(isO 12 x1 h6).bind fun a => (X12_add a 45 v5 h6).bind fun h7 =>
some (.inl (x2, h7))) (fun b h_ => some (.inr ((.inr b, h_)))))) else ((isO 2 (some a0) h2).bind fun a => bX (X2_product pa a h2) (fun v8 h9 =>
(isO 12 x1 h9).bind fun a => (X12_add a 43 v8 h9).bind fun h10 =>
some (.inl (x2, h10))) (fun b h_ => some (.inr ((.inr b, h_))))))
noncomputable def X2_sum_20 (pa : PaT) (a0 : Nat) (x1 : Option Nat) (x2 : Int32) (h : AH) : Option ((Option Nat ⊕ Nat) × AH) := loopC (fun s : Int32 × AH => X2_sum_20b pa a0 x1 s.1 s.2) (x2, h)
noncomputable def X2_sum (pa : PaT) (a0 : Nat) (h : AH) : Option ((Option Nat ⊕ Nat) × AH) :=
b2 (newO 12 2 h) fun v11 h12 =>
(nn v11).bind fun a => (X12_init a h12).bind fun h13 =>
(isO 2 (some a0) h13).bind fun a => bX (X2_product pa a h13) (fun v14 h15 =>
(isO 12 v11 h15).bind fun a => (X12_add a 43 v14 h15).bind fun h16 =>
X2_sum_20 pa a0 v11 1 h16) (fun b h_ => some ((.inr b, h_)))
noncomputable def X2_passes (a0 : Nat) (x1 : Option Nat) (h : AH) : Option ((Int32 ⊕ Nat) × AH) :=
(gI 2 2 (some a0) h).bind fun v1 =>
(isO 2 (some a0) h).bind fun a => b2 (X2_here a h) fun v2 h3 =>
b2 (X0_isLetter v2 h3) fun v4 h5 =>
if v4 = 0 then (some ((.inl 0, h5))) else ((isO 2 (some a0) h5).bind fun a => bX (X2_word a h5) (fun v6 h7 =>
(isO 24 v6 h7).bind fun a => b2 (J9_equals a x1 h7) fun v8 h9 =>
if v8 = 0 then ((pI 2 2 (some a0) v1 h9).bind fun h10 =>
some ((.inl 0, h10))) else (some ((.inl 1, h9)))) (fun b h_ => some ((.inr b, h_))))
noncomputable def X2_both_23b (pf : PaT) (a0 : Nat) (x1 : Option Nat)  (h : AH) : Option ((AH) ⊕ ((Option Nat ⊕ Nat) × AH)) :=
(isO 2 (some a0) h).bind fun a => bX (X2_passes a (some 4) h) (fun v1 h2 =>
if v1 = 0 then (some (.inr ((.inl x1, h2)))) else ((gR 18 0 x1 h2).bind fun v3 =>
(isO 2 (some a0) h2).bind fun a => bX (pf a h2) (fun v4 h5 =>
(isO 23 v3 h5).bind fun a => b2 (J2_add a v4 h5) fun v6 h7 =>
some (.inl (h7))) (fun b h_ => some (.inr ((.inr b, h_)))))) (fun b h_ => some (.inr ((.inr b, h_))))
noncomputable def X2_both_23 (pf : PaT) (a0 : Nat) (x1 : Option Nat) (h : AH) : Option ((Option Nat ⊕ Nat) × AH) := loopC (fun s : AH => X2_both_23b pf a0 x1 s) (h)
noncomputable def X2_both (pf : PaT) (a0 : Nat) (h : AH) : Option ((Option Nat ⊕ Nat) × AH) :=
b2 (newO 18 2 h) fun v8 h9 =>
(nn v8).bind fun a => (X18_init a 1 h9).bind fun h10 =>
(gR 18 0 v8 h10).bind fun v11 =>
(isO 2 (some a0) h10).bind fun a => bX (pf a h10) (fun v12 h13 =>
(isO 23 v11 h13).bind fun a => b2 (J2_add a v12 h13) fun v14 h15 =>
X2_both_23 pf a0 v8 h15) (fun b h_ => some ((.inr b, h_)))
noncomputable def X2_test_23b (pf : PaT) (a0 : Nat) (x1 : Option Nat)  (h : AH) : Option ((AH) ⊕ ((Option Nat ⊕ Nat) × AH)) :=
(isO 2 (some a0) h).bind fun a => bX (X2_passes a (some 56) h) (fun v1 h2 =>
if v1 = 0 then (some (.inr ((.inl x1, h2)))) else ((gR 18 0 x1 h2).bind fun v3 =>
(isO 2 (some a0) h2).bind fun a => bX (X2_both pf a h2) (fun v4 h5 =>
(isO 23 v3 h5).bind fun a => b2 (J2_add a v4 h5) fun v6 h7 =>
some (.inl (h7))) (fun b h_ => some (.inr ((.inr b, h_)))))) (fun b h_ => some (.inr ((.inr b, h_))))
noncomputable def X2_test_23 (pf : PaT) (a0 : Nat) (x1 : Option Nat) (h : AH) : Option ((Option Nat ⊕ Nat) × AH) := loopC (fun s : AH => X2_test_23b pf a0 x1 s) (h)
noncomputable def X2_test (pf : PaT) (a0 : Nat) (h : AH) : Option ((Option Nat ⊕ Nat) × AH) :=
b2 (newO 18 2 h) fun v8 h9 =>
(nn v8).bind fun a => (X18_init a 0 h9).bind fun h10 =>
(gR 18 0 v8 h10).bind fun v11 =>
(isO 2 (some a0) h10).bind fun a => bX (X2_both pf a h10) (fun v12 h13 =>
(isO 23 v11 h13).bind fun a => b2 (J2_add a v12 h13) fun v14 h15 =>
X2_test_23 pf a0 v8 h15) (fun b h_ => some ((.inr b, h_)))
noncomputable def X2_more_184 (pa : PaT) (pf : PaT) (a0 : Nat) (x2 : Int32) (s0 : Option Nat) (s1 : Int32) (h : AH) : Option ((Unit ⊕ Nat) × AH) :=
(isO 2 s0 h).bind fun a => bX (X2_most a s1 x2 h) (fun _ h2 =>
(pI 2 5 (some a0) 7 h2).bind fun h3 =>
(gR 2 6 (some a0) h3).bind fun v4 =>
(isO 2 (some a0) h3).bind fun a => bX (X2_sum pa a h3) (fun v5 h6 =>
(pR 1 7 v4 v5 h6).bind fun h7 =>
some ((.inl (), h7))) (fun b h_ => some ((.inr b, h_)))) (fun b h_ => some ((.inr b, h_)))
noncomputable def X2_more_224 (pa : PaT) (pf : PaT) (a0 : Nat) (x2 : Int32) (s0 : Option Nat) (s1 : Int32) (h : AH) : Option ((Unit ⊕ Nat) × AH) :=
(isO 2 s0 h).bind fun a => bX (X2_most a s1 x2 h) (fun _ h9 =>
(pI 2 5 (some a0) 248 h9).bind fun h10 =>
(gR 2 6 (some a0) h10).bind fun v11 =>
(isO 2 (some a0) h10).bind fun a => bX (X2_test pf a h10) (fun v12 h13 =>
(pR 1 8 v11 v12 h13).bind fun h14 =>
some ((.inl (), h14))) (fun b h_ => some ((.inr b, h_)))) (fun b h_ => some ((.inr b, h_)))
noncomputable def X2_more_132 (pa : PaT) (pf : PaT) (a0 : Nat) (x2 : Int32) (x4 : Int32) (h : AH) : Option ((Unit ⊕ Nat) × AH) :=
if x4 = 0 then ((gR 2 6 (some a0) h).bind fun v16 =>
(gR 1 7 v16 h).bind fun v17 =>
if v17 = none then (X2_more_184 pa pf a0 x2 (some a0) 0 h) else (X2_more_184 pa pf a0 x2 (some a0) 1 h)) else (if x4 = 1 then ((gR 2 6 (some a0) h).bind fun v19 =>
(gR 1 8 v19 h).bind fun v20 =>
if v20 = none then (X2_more_224 pa pf a0 x2 (some a0) 0 h) else (X2_more_224 pa pf a0 x2 (some a0) 1 h)) else (if x4 = 2 then ((gR 2 6 (some a0) h).bind fun v22 =>
(isO 2 (some a0) h).bind fun a => bX (X2_number_2 a 0 99 h) (fun v23 h24 =>
(pI 1 1 v22 v23 h24).bind fun h25 =>
some ((.inl (), h25))) (fun b h_ => some ((.inr b, h_)))) else (if x4 = 3 then ((gR 2 6 (some a0) h).bind fun v27 =>
(isO 2 (some a0) h).bind fun a => bX (X2_number_2 a 0 99 h) (fun v28 h29 =>
(pI 1 2 v27 v28 h29).bind fun h30 =>
some ((.inl (), h30))) (fun b h_ => some ((.inr b, h_)))) else (if x4 = 4 then ((gR 2 6 (some a0) h).bind fun v32 =>
(isO 2 (some a0) h).bind fun a => bX (X2_number_2 a 0 100 h) (fun v33 h34 =>
(pI 1 3 v32 v33 h34).bind fun h35 =>
some ((.inl (), h35))) (fun b h_ => some ((.inr b, h_)))) else ((isO 2 (some a0) h).bind fun a => b2 (X2_wrong a 1 x2 h) fun v36 h37 =>
(isF v36 h37).bind fun a => some ((.inr a, h37)))))))
noncomputable def X2_more (pa : PaT) (pf : PaT) (a0 : Nat) (x1 : Option Nat) (x2 : Int32) (h : AH) : Option ((Unit ⊕ Nat) × AH) :=
(isO 24 x1 h).bind fun a => b2 (J9_hashCode a h) fun v38 h39 =>
if v38 = (-677614758) then ((isO 24 x1 h39).bind fun a => b2 (J9_equals a (some 18) h39) fun v41 h42 =>
if v41 = 0 then (X2_more_132 pa pf a0 x2 (-1) h42) else (X2_more_132 pa pf a0 x2 2 h42)) else (if v38 = 3194844 then ((isO 24 x1 h39).bind fun a => b2 (J9_equals a (some 20) h39) fun v44 h45 =>
if v44 = 0 then (X2_more_132 pa pf a0 x2 (-1) h45) else (X2_more_132 pa pf a0 x2 4 h45)) else (if v38 = 3492756 then ((isO 24 x1 h39).bind fun a => b2 (J9_equals a (some 60) h39) fun v47 h48 =>
if v47 = 0 then (X2_more_132 pa pf a0 x2 (-1) h48) else (X2_more_132 pa pf a0 x2 1 h48)) else (if v38 = 93819220 then ((isO 24 x1 h39).bind fun a => b2 (J9_equals a (some 8) h39) fun v50 h51 =>
if v50 = 0 then (X2_more_132 pa pf a0 x2 (-1) h51) else (X2_more_132 pa pf a0 x2 3 h51)) else (if v38 = 95774492 then ((isO 24 x1 h39).bind fun a => b2 (J9_equals a (some 14) h39) fun v53 h54 =>
if v53 = 0 then (X2_more_132 pa pf a0 x2 (-1) h54) else (X2_more_132 pa pf a0 x2 0 h54)) else (X2_more_132 pa pf a0 x2 (-1) h39)))))
noncomputable def X2_must (a0 : Nat) (x1 : Int32) (h : AH) : Option ((Unit ⊕ Nat) × AH) :=
(isO 2 (some a0) h).bind fun a => b2 (X2_here a h) fun v1 h2 =>
if v1 = x1 then ((gI 2 2 (some a0) h2).bind fun v3 =>
(pI 2 2 (some a0) (v3 + 1) h2).bind fun h4 =>
some ((.inl (), h4))) else ((gI 2 2 (some a0) h2).bind fun v5 =>
(isO 2 (some a0) h2).bind fun a => b2 (X2_wrong a 1 v5 h2) fun v6 h7 =>
(isF v6 h7).bind fun a => some ((.inr a, h7)))
noncomputable def X2_all_98 (pa : PaT) (pf : PaT) (a0 : Nat) (h : AH) : Option ((AH) ⊕ ((Option Nat ⊕ Nat) × AH)) :=
(isO 2 (some a0) h).bind fun a => bX (X2_must a 59 h) (fun _ h2 =>
some (.inl (h2))) (fun b h_ => some (.inr ((.inr b, h_))))
noncomputable def X2_all_52 (pa : PaT) (pf : PaT) (a0 : Nat) (s0 : Option Nat) (s1 : Int32) (h : AH) : Option ((AH) ⊕ ((Option Nat ⊕ Nat) × AH)) :=
(gI 2 2 (some a0) h).bind fun v3 =>
(isO 2 s0 h).bind fun a => bX (X2_most a s1 v3 h) (fun _ h5 =>
(gR 2 6 (some a0) h5).bind fun v6 =>
(gI 1 0 v6 h5).bind fun v7 =>
(pI 1 0 v6 (v7 + 1) h5).bind fun h8 =>
(isO 2 (some a0) h8).bind fun a => bX (X2_word a h8) (fun v9 h10 =>
(gI 2 3 (some a0) h10).bind fun v11 =>
(isO 2 (some a0) h10).bind fun a => bX (X2_laid a v9 v11 h10) (fun v12 h13 =>
if v12 = 0 then ((gI 2 3 (some a0) h13).bind fun v14 =>
(isO 2 (some a0) h13).bind fun a => bX (X2_more pa pf a v9 v14 h13) (fun _ h16 =>
X2_all_98 pa pf a0 h16) (fun b h_ => some (.inr ((.inr b, h_))))) else (X2_all_98 pa pf a0 h13)) (fun b h_ => some (.inr ((.inr b, h_))))) (fun b h_ => some (.inr ((.inr b, h_))))) (fun b h_ => some (.inr ((.inr b, h_))))
noncomputable def X2_all_107 (pa : PaT) (pf : PaT) (a0 : Nat) (h : AH) : Option ((Option Nat ⊕ Nat) × AH) :=
(gR 2 6 (some a0) h).bind fun v17 =>
some ((.inl v17, h))
noncomputable def X2_all_26b (pa : PaT) (pf : PaT) (a0 : Nat)  (h : AH) : Option ((AH) ⊕ ((Option Nat ⊕ Nat) × AH)) :=
(isO 2 (some a0) h).bind fun a => b2 (X2_here a h) fun v18 h19 =>
if v18 = (-1) then ((X2_all_107 pa pf a0 h19).bind fun o => some (.inr o)) else ((gR 2 6 (some a0) h19).bind fun v20 =>
(gI 1 0 v20 h19).bind fun v21 =>
if v21 = 60 then (X2_all_52 pa pf a0 (some a0) 1 h19) else (X2_all_52 pa pf a0 (some a0) 0 h19))
noncomputable def X2_all_26 (pa : PaT) (pf : PaT) (a0 : Nat) (h : AH) : Option ((Option Nat ⊕ Nat) × AH) := loopC (fun s : AH => X2_all_26b pa pf a0 s) (h)
noncomputable def X2_all (pa : PaT) (pf : PaT) (a0 : Nat) (x1 : Int32) (h : AH) : Option ((Option Nat ⊕ Nat) × AH) :=
b2 (newO 1 9 h) fun v22 h23 =>
(nn v22).bind fun a => (X1_init a h23).bind fun h24 =>
(pR 2 6 (some a0) v22 h24).bind fun h25 =>
(pI 2 1 (some a0) x1 h25).bind fun h26 =>
(pI 2 2 (some a0) 0 h26).bind fun h27 =>
(pI 2 4 (some a0) 0 h27).bind fun h28 =>
X2_all_26 pa pf a0 h28
noncomputable def X0_shop (pa : PaT) (pf : PaT) (a0 : Nat) (h : AH) : Option (Int32 × AH) :=
(pI 0 3 (some a0) 0 h).bind fun h1 =>
(pI 0 4 (some a0) (-1) h1).bind fun h2 =>
(gR 0 5 (some a0) h2).bind fun v3 =>
(isO 0 (some a0) h2).bind fun a => b2 (X0_taken a h2) fun v4 h5 =>
(isO 2 v3 h5).bind fun a => bX (X2_all pa pf a v4 h5) (fun v6 h7 =>
(pR 0 0 (some a0) v6 h7).bind fun h14 =>
(gR 0 9 (some a0) h14).bind fun v15 =>
(isO 5 v15 h14).bind fun a => (X5_begins a h14).bind fun h16 =>
(pI 0 13 (some a0) 0 h16).bind fun h17 =>
(gR 0 0 (some a0) h17).bind fun v18 =>
(gI 1 0 v18 h17).bind fun v19 =>
some ((v19, h17))) (fun b h_ =>
(gI 3 6 (some b) h_).bind fun v8 =>
(pI 0 3 (some a0) v8 h_).bind fun h9 =>
(gI 3 7 (some b) h9).bind fun v10 =>
(pI 0 4 (some a0) v10 h9).bind fun h11 =>
(isO 0 (some a0) h11).bind fun a => b2 (X0_refuses a 1 h11) fun v12 h13 =>
some ((v12, h13)))
noncomputable def X2_question_82 (pa : PaT) (pf : PaT) (a0 : Nat) (s0 : Option Nat) (h : AH) : Option ((Option Nat ⊕ Nat) × AH) :=
(isO 2 (some a0) h).bind fun a => b2 (X2_here a h) fun v1 h2 =>
if v1 = (-1) then (some ((.inl s0, h2))) else ((gI 2 2 (some a0) h2).bind fun v3 =>
(isO 2 (some a0) h2).bind fun a => b2 (X2_wrong a 1 v3 h2) fun v4 h5 =>
(isF v4 h5).bind fun a => some ((.inr a, h5)))
noncomputable def X2_question (pa : PaT) (pf : PaT) (a0 : Nat) (x1 : Int32) (h : AH) : Option ((Option Nat ⊕ Nat) × AH) :=
(pI 2 1 (some a0) x1 h).bind fun h6 =>
(pI 2 2 (some a0) 0 h6).bind fun h7 =>
(pI 2 4 (some a0) 0 h7).bind fun h8 =>
(pI 2 5 (some a0) 900 h8).bind fun h9 =>
(isO 2 (some a0) h9).bind fun a => bX (X2_word a h9) (fun v10 h11 =>
b2 (X0_find v10 (hR h11 120 8) h11) fun v12 h13 =>
if v12 = (-1) then ((gI 2 3 (some a0) h13).bind fun v24 =>
(isO 2 (some a0) h13).bind fun a => b2 (X2_wrong a 1 v24 h13) fun v25 h26 =>
(isF v25 h26).bind fun a => some ((.inr a, h26))) else (if v12 < 3 then (b2 (newO 22 5 h13) fun v19 h20 =>
(isO 2 (some a0) h20).bind fun a => bX (X2_test pf a h20) (fun v21 h22 =>
(nn v19).bind fun a => (X22_init a v12 v21 none h22).bind fun h23 =>
X2_question_82 pa pf a0 v19 h23) (fun b h_ => some ((.inr b, h_)))) else (b2 (newO 22 5 h13) fun v14 h15 =>
(isO 2 (some a0) h15).bind fun a => bX (X2_sum pa a h15) (fun v16 h17 =>
(nn v14).bind fun a => (X22_init a v12 none v16 h17).bind fun h18 =>
X2_question_82 pa pf a0 v14 h18) (fun b h_ => some ((.inr b, h_)))))) (fun b h_ => some ((.inr b, h_)))
noncomputable def X0_ask_173 (va : VaT) (th : ThT) (pa : PaT) (pf : PaT) (x2 : Option Nat) (h : AH) : Option (Int64 × AH) :=
(isO 22 x2 h).bind fun a => b2 (X22_answer a h) fun v1 h2 =>
some ((v1, h2))
noncomputable def X0_ask_53b (va : VaT) (th : ThT) (pa : PaT) (pf : PaT) (a0 : Nat) (x2 : Option Nat)  (h : AH) : Option ((AH) ⊕ (Int64 × AH)) :=
(gI 0 15 (some a0) h).bind fun v3 =>
(isO 0 (some a0) h).bind fun a => b2 (X0_words a h) fun v4 h5 =>
if v3 < v4 then ((gR 0 7 (some a0) h5).bind fun v6 =>
(gR 4 0 v6 h5).bind fun v7 =>
(gI 0 15 (some a0) h5).bind fun v8 =>
(isO 0 (some a0) h5).bind fun a => b2 (X0_inkOf a v8 h5) fun v9 h10 =>
(sL 103 v7 2 (Int32.toInt64 v9) h10).bind fun h11 =>
(gR 0 7 (some a0) h11).bind fun v12 =>
(gR 4 0 v12 h11).bind fun v13 =>
(gR 0 9 (some a0) h11).bind fun v14 =>
(gI 5 0 v14 h11).bind fun v15 =>
(sL 103 v13 7 (Int32.toInt64 v15) h11).bind fun h16 =>
(gR 0 7 (some a0) h16).bind fun v17 =>
(gR 4 0 v17 h16).bind fun v18 =>
(gI 0 15 (some a0) h16).bind fun v19 =>
(sL 103 v18 8 (Int32.toInt64 v19) h16).bind fun h20 =>
(gR 0 7 (some a0) h20).bind fun v21 =>
(gR 4 0 v21 h20).bind fun v22 =>
(gR 0 0 (some a0) h20).bind fun v23 =>
(gR 1 5 v23 h20).bind fun v24 =>
(gI 0 15 (some a0) h20).bind fun v25 =>
(isO 23 v24 h20).bind fun a => b2 (J2_get a v25 h20) fun v26 h27 =>
(cst [9] v26 h27).bind fun _ =>
(isO 9 v26 h27).bind fun a => b2 (X9_size a h27) fun v28 h29 =>
(sL 103 v22 9 (Int32.toInt64 v28) h29).bind fun h30 =>
(gI 0 15 (some a0) h30).bind fun v31 =>
(gR 0 7 (some a0) h30).bind fun v32 =>
(isO 22 x2 h30).bind fun a => (X22_meets va th a v31 v32 h30).bind fun h33 =>
(gI 0 15 (some a0) h33).bind fun v34 =>
(pI 0 15 (some a0) (v34 + 1) h33).bind fun h35 =>
some (.inl (h35))) else ((X0_ask_173 va th pa pf x2 h5).bind fun o => some (.inr o))
noncomputable def X0_ask_53 (va : VaT) (th : ThT) (pa : PaT) (pf : PaT) (a0 : Nat) (x2 : Option Nat) (h : AH) : Option (Int64 × AH) := loopC (fun s : AH => X0_ask_53b va th pa pf a0 x2 s) (h)
noncomputable def X0_ask (va : VaT) (th : ThT) (pa : PaT) (pf : PaT) (a0 : Nat) (h : AH) : Option (Int64 × AH) :=
(isO 0 (some a0) h).bind fun a => b2 (X0_taken a h) fun v36 h37 =>
(pI 0 3 (some a0) 0 h37).bind fun h38 =>
(pI 0 4 (some a0) (-1) h38).bind fun h39 =>
(gR 0 5 (some a0) h39).bind fun v40 =>
(isO 2 v40 h39).bind fun a => bX (X2_question pa pf a v36 h39) (fun v41 h42 =>
(pI 0 15 (some a0) 0 h42).bind fun h47 =>
X0_ask_53 va th pa pf a0 v41 h47) (fun b h_ =>
(gI 3 6 (some b) h_).bind fun v43 =>
(pI 0 3 (some a0) v43 h_).bind fun h44 =>
(gI 3 7 (some b) h44).bind fun v45 =>
(pI 0 4 (some a0) v45 h44).bind fun h46 =>
some (((-1000000000000000), h46)))
noncomputable def X2_opens (a0 : Nat) (x1 : Int32) (h : AH) : Option ((Unit ⊕ Nat) × AH) :=
(gI 2 4 (some a0) h).bind fun v1 =>
if v1 = 6 then ((isO 2 (some a0) h).bind fun a => b2 (X2_wrong a 4 x1 h) fun v4 h5 =>
(isF v4 h5).bind fun a => some ((.inr a, h5))) else ((gI 2 4 (some a0) h).bind fun v2 =>
(pI 2 4 (some a0) (v2 + 1) h).bind fun h3 =>
some ((.inl (), h3)))
noncomputable def X2_looked (pa : PaT) (a0 : Nat) (x1 : Int32) (h : AH) : Option ((Option Nat ⊕ Nat) × AH) :=
(gI 2 3 (some a0) h).bind fun v1 =>
(isO 2 (some a0) h).bind fun a => bX (X2_opens a v1 h) (fun _ h3 =>
b2 (newO 16 3 h3) fun v4 h5 =>
(gR 2 7 (some a0) h5).bind fun v6 =>
(isO 2 (some a0) h5).bind fun a => bX (pa a h5) (fun v7 h8 =>
(nn v4).bind fun a => (X16_init a v6 x1 v7 h8).bind fun h9 =>
(gI 2 4 (some a0) h9).bind fun v10 =>
(pI 2 4 (some a0) (v10 - 1) h9).bind fun h11 =>
some ((.inl v4, h11))) (fun b h_ => some ((.inr b, h_)))) (fun b h_ => some ((.inr b, h_)))
noncomputable def X2_within_77 (pa : PaT) (a0 : Nat) (x3 : Option Nat) (h : AH) : Option ((Option Nat ⊕ Nat) × AH) :=
(isO 2 (some a0) h).bind fun a => bX (X2_must a 41 h) (fun _ h2 =>
(gI 2 4 (some a0) h2).bind fun v3 =>
(pI 2 4 (some a0) (v3 - 1) h2).bind fun h4 =>
some ((.inl x3, h4))) (fun b h_ => some ((.inr b, h_)))
noncomputable def X2_within_68 (pa : PaT) (a0 : Nat) (x2 : Option Nat) (s0 : Option Nat) (s1 : Option Nat) (s2 : Int32) (h : AH) : Option ((Option Nat ⊕ Nat) × AH) :=
(isO 2 (some a0) h).bind fun a => bX (X2_sum pa a h) (fun v5 h6 =>
(nn s1).bind fun a => (X13_init a s2 x2 v5 h6).bind fun h7 =>
X2_within_77 pa a0 s0 h7) (fun b h_ => some ((.inr b, h_)))
noncomputable def X2_within (pa : PaT) (a0 : Nat) (x1 : Int32) (h : AH) : Option ((Option Nat ⊕ Nat) × AH) :=
(isO 2 (some a0) h).bind fun a => b2 (X2_here a h) fun v8 h9 =>
if v8 = 40 then ((gI 2 2 (some a0) h9).bind fun v10 =>
(isO 2 (some a0) h9).bind fun a => bX (X2_opens a v10 h9) (fun _ h12 =>
(gI 2 2 (some a0) h12).bind fun v13 =>
(pI 2 2 (some a0) (v13 + 1) h12).bind fun h14 =>
(isO 2 (some a0) h14).bind fun a => bX (X2_sum pa a h14) (fun v15 h16 =>
if 0 < x1 then ((isO 2 (some a0) h16).bind fun a => bX (X2_must a 44 h16) (fun _ h18 =>
b2 (newO 13 3 h18) fun v19 h20 =>
if x1 = 2 then (X2_within_68 pa a0 v15 v19 v19 1 h20) else (X2_within_68 pa a0 v15 v19 v19 0 h20)) (fun b h_ => some ((.inr b, h_)))) else (X2_within_77 pa a0 v15 h16)) (fun b h_ => some ((.inr b, h_)))) (fun b h_ => some ((.inr b, h_)))) else ((gI 2 2 (some a0) h9).bind fun v21 =>
(isO 2 (some a0) h9).bind fun a => b2 (X2_wrong a 1 v21 h9) fun v22 h23 =>
(isF v22 h23).bind fun a => some ((.inr a, h23)))
noncomputable def X2_atom_159 (pa : PaT)  (s0 : Option Nat) (s1 : Int32) (h : AH) : Option ((Option Nat ⊕ Nat) × AH) :=
(isO 2 s0 h).bind fun a => bX (X2_within pa a s1 h) (fun v1 h2 =>
some ((.inl v1, h2))) (fun b h_ => some ((.inr b, h_)))
noncomputable def X2_atom_143 (pa : PaT) (a0 : Nat) (x1 : Option Nat) (h : AH) : Option ((Option Nat ⊕ Nat) × AH) :=
(isO 24 x1 h).bind fun a => b2 (J9_equals a (some 42) h) fun v3 h4 =>
if v3 = 0 then (X2_atom_159 pa (some a0) 2 h4) else (X2_atom_159 pa (some a0) 1 h4)
noncomputable def X2_atom_101 (pa : PaT) (a0 : Nat) (x1 : Option Nat) (s0 : Int32) (h : AH) : Option ((Option Nat ⊕ Nat) × AH) :=
if s0 = (-1) then ((isO 24 x1 h).bind fun a => b2 (J9_equals a (some 42) h) fun v5 h6 =>
if v5 = 0 then ((isO 24 x1 h6).bind fun a => b2 (J9_equals a (some 40) h6) fun v7 h8 =>
if v7 = 0 then ((gI 2 3 (some a0) h8).bind fun v9 =>
(isO 2 (some a0) h8).bind fun a => b2 (X2_wrong a 1 v9 h8) fun v10 h11 =>
(isF v10 h11).bind fun a => some ((.inr a, h11))) else (X2_atom_143 pa a0 x1 h8)) else (X2_atom_143 pa a0 x1 h6)) else ((isO 2 (some a0) h).bind fun a => bX (X2_looked pa a s0 h) (fun v12 h13 =>
some ((.inl v12, h13))) (fun b h_ => some ((.inr b, h_))))
noncomputable def X2_atom_80 (pa : PaT) (a0 : Nat) (x1 : Option Nat) (h : AH) : Option ((Option Nat ⊕ Nat) × AH) :=
(gI 2 5 (some a0) h).bind fun v14 =>
if v14 = 900 then (b2 (X0_find x1 (hR h 120 7) h) fun v15 h16 =>
X2_atom_101 pa a0 x1 v15 h16) else (X2_atom_101 pa a0 x1 (-1) h)
noncomputable def X2_atom (pa : PaT) (a0 : Nat) (h : AH) : Option ((Option Nat ⊕ Nat) × AH) :=
(isO 2 (some a0) h).bind fun a => b2 (X2_here a h) fun v17 h18 =>
if v17 = 40 then ((isO 2 (some a0) h18).bind fun a => bX (X2_within pa a 0 h18) (fun v38 h39 =>
some ((.inl v38, h39))) (fun b h_ => some ((.inr b, h_)))) else ((isO 2 (some a0) h18).bind fun a => b2 (X2_here a h18) fun v19 h20 =>
b2 (X0_isDigit v19 h20) fun v21 h22 =>
if v21 = 0 then ((isO 2 (some a0) h22).bind fun a => bX (X2_word a h22) (fun v23 h24 =>
b2 (X0_find v23 (hR h24 120 6) h24) fun v25 h26 =>
if v25 = (-1) then (X2_atom_80 pa a0 v23 h26) else ((gI 2 5 (some a0) h26).bind fun v27 =>
b2 (X0_has v27 v25 h26) fun v28 h29 =>
if v28 = 0 then (X2_atom_80 pa a0 v23 h29) else (b2 (newO 15 1 h29) fun v30 h31 =>
(nn v30).bind fun a => (X15_init a v25 h31).bind fun h32 =>
some ((.inl v30, h32))))) (fun b h_ => some ((.inr b, h_)))) else (b2 (newO 14 1 h22) fun v33 h34 =>
(isO 2 (some a0) h34).bind fun a => bX (X2_number_2 a 0 9999 h34) (fun v35 h36 =>
(nn v33).bind fun a => (X14_init a (Int32.toInt64 v35) h36).bind fun h37 =>
some ((.inl v33, h37))) (fun b h_ => some ((.inr b, h_)))))
noncomputable def X2_fact_148 (pa : PaT) (pf : PaT) (a0 : Nat) (x1 : Option Nat) (x2 : Int32) (h : AH) : Option ((Option Nat ⊕ Nat) × AH) :=
(gI 2 2 (some a0) h).bind fun v1 =>
(pI 2 2 (some a0) (v1 + 1) h).bind fun h2 =>
b2 (newO 21 3 h2) fun v3 h4 =>
(isO 2 (some a0) h4).bind fun a => bX (X2_sum pa a h4) (fun v5 h6 =>
(nn v3).bind fun a => (X21_init a x1 x2 v5 h6).bind fun h7 =>
some ((.inl v3, h7))) (fun b h_ => some ((.inr b, h_)))
noncomputable def X2_fact (pa : PaT) (pf : PaT) (a0 : Nat) (h : AH) : Option ((Option Nat ⊕ Nat) × AH) :=
(isO 2 (some a0) h).bind fun a => b2 (X2_here a h) fun v8 h9 =>
if v8 = 91 then ((gI 2 2 (some a0) h9).bind fun v34 =>
(isO 2 (some a0) h9).bind fun a => bX (X2_opens a v34 h9) (fun _ h36 =>
(gI 2 2 (some a0) h36).bind fun v37 =>
(pI 2 2 (some a0) (v37 + 1) h36).bind fun h38 =>
(isO 2 (some a0) h38).bind fun a => bX (X2_test pf a h38) (fun v39 h40 =>
(isO 2 (some a0) h40).bind fun a => bX (X2_must a 93 h40) (fun _ h42 =>
(gI 2 4 (some a0) h42).bind fun v43 =>
(pI 2 4 (some a0) (v43 - 1) h42).bind fun h44 =>
some ((.inl v39, h44))) (fun b h_ => some ((.inr b, h_)))) (fun b h_ => some ((.inr b, h_)))) (fun b h_ => some ((.inr b, h_)))) else ((isO 2 (some a0) h9).bind fun a => bX (X2_passes a (some 50) h9) (fun v10 h11 =>
if v10 = 0 then ((isO 2 (some a0) h11).bind fun a => bX (X2_passes a (some 2) h11) (fun v12 h13 =>
if v12 = 0 then ((isO 2 (some a0) h13).bind fun a => bX (X2_sum pa a h13) (fun v14 h15 =>
(isO 2 (some a0) h15).bind fun a => b2 (X2_here a h15) fun v16 h17 =>
if v16 = 60 then (X2_fact_148 pa pf a0 v14 v16 h17) else (if v16 = 62 then (X2_fact_148 pa pf a0 v14 v16 h17) else (if v16 = 61 then (X2_fact_148 pa pf a0 v14 v16 h17) else ((gI 2 2 (some a0) h17).bind fun v18 =>
(isO 2 (some a0) h17).bind fun a => b2 (X2_wrong a 1 v18 h17) fun v19 h20 =>
(isF v19 h20).bind fun a => some ((.inr a, h20)))))) (fun b h_ => some ((.inr b, h_)))) else (b2 (newO 20 0 h13) fun v21 h22 =>
(nn v21).bind fun a => (X20_init a h22).bind fun h23 =>
some ((.inl v21, h23)))) (fun b h_ => some ((.inr b, h_)))) else ((gI 2 3 (some a0) h11).bind fun v24 =>
(isO 2 (some a0) h11).bind fun a => bX (X2_opens a v24 h11) (fun _ h26 =>
b2 (newO 19 1 h26) fun v27 h28 =>
(isO 2 (some a0) h28).bind fun a => bX (pf a h28) (fun v29 h30 =>
(nn v27).bind fun a => (X19_init a v29 h30).bind fun h31 =>
(gI 2 4 (some a0) h31).bind fun v32 =>
(pI 2 4 (some a0) (v32 - 1) h31).bind fun h33 =>
some ((.inl v27, h33))) (fun b h_ => some ((.inr b, h_)))) (fun b h_ => some ((.inr b, h_))))) (fun b h_ => some ((.inr b, h_))))
