set_option maxRecDepth 100000
/-! ===== the start ===== -/
abbrev F1 : List Cond := flatC (Jvm.Cond.and given_1 narrow_1)
/-- the texts: class and entry of a constant, bytes, hash, hashIsZero -/
def txT : List (String × Nat × List Int32 × Int32 × Int32) := [("java/lang/String", 7, [], 0, 1), ("TurnedBoards", 452, [97, 108, 108], 96673, 0), ("TurnedBoards", 448, [97, 110, 100], 96727, 0), ("TurnedBoards", 414, [97, 116], 3123, 0), ("TurnedBoards", 443, [98, 108, 97, 110, 107], 93819220, 0), ("TurnedBoards", 438, [98, 111, 97, 114, 100], 93908710, 0), ("TurnedBoards", 397, [99, 111, 108, 117, 109, 110], (-1354837162), 0), ("TurnedBoards", 440, [100, 111, 117, 98, 116], 95774492, 0), ("TurnedBoards", 418, [102, 105, 114, 115, 116], 97440432, 0), ("TurnedBoards", 455, [102, 111, 114, 103, 105, 118, 101], (-677614758), 0), ("TurnedBoards", 445, [104, 97, 105, 108], 3194844, 0), ("TurnedBoards", 435, [104, 97, 110, 100], 3194991, 0), ("TurnedBoards", 396, [105, 110, 107], 104422, 0), ("TurnedBoards", 436, [105, 115], 3370, 0), ("TurnedBoards", 420, [108, 97, 115, 116], 3314326, 0), ("TurnedBoards", 428, [108, 101, 97, 115, 116], 102846057, 0), ("TurnedBoards", 394, [108, 101, 115, 115], 3318169, 0), ("TurnedBoards", 433, [108, 101, 116, 116, 101, 114], (-1106172890), 0), ("TurnedBoards", 413, [108, 105, 110, 101], 3321844, 0), ("TurnedBoards", 407, [108, 111, 110, 103], 3327612, 0), ("TurnedBoards", 454, [109, 97, 120], 107876, 0), ("TurnedBoards", 453, [109, 105, 110], 108114, 0), ("TurnedBoards", 392, [109, 111, 114, 101], 3357525, 0), ("TurnedBoards", 426, [109, 111, 115, 116], 3357571, 0), ("TurnedBoards", 402, [110, 101, 97, 114], 3377192, 0), ("TurnedBoards", 450, [110, 111, 116], 109267, 0), ("TurnedBoards", 405, [110, 117, 109, 98, 101, 114], (-1034364087), 0), ("TurnedBoards", 422, [111, 102, 116, 101, 110], 105664230, 0), ("TurnedBoards", 446, [111, 114], 3555, 0), ("TurnedBoards", 401, [112, 108, 97, 99, 101], 106748167, 0), ("TurnedBoards", 441, [114, 97, 105, 110], 3492756, 0), ("TurnedBoards", 399, [114, 111, 119], 113114, 0), ("TurnedBoards", 424, [116, 111, 116, 97, 108], 110549828, 0), ("TurnedBoards", 437, [119, 111, 114, 100], 3655434, 0), ("TurnedBoards", 404, [121, 101, 97, 114], 3704893, 0)]
def txG (i : Nat) : String × Nat × List Int32 × Int32 × Int32 := txT.getD i ("", 0, [], 0, 0)
abbrev txB (i : Nat) : List Int32 := (txG i).2.2.1
def tmS (i : Nat) : Term := .string (txG i).1 (txG i).2.1
def tmV (i : Nat) : Term := .field (tmS i) "java/lang/String" "value" "[B"
def tx_OWN : List Nat := [17, 11, 13, 33, 5, 7, 30, 4, 10, 22, 16, 12, 6, 31, 29, 24, 34, 26, 19, 18, 3, 28, 2, 25, 1, 21, 20, 9]
def tx_ASKED : List Nat := [22, 16, 12, 6, 31, 29, 24, 34, 26, 19]
def tx_LOOKED : List Nat := [18, 3]
def tx_TOLD_OF : List Nat := [8, 14, 27, 32, 23, 15]
/-- the static rows of texts: abstract address, name, texts -/
def rwT (a : Nat) : String × List Nat := match a with
  | 110 => ("OWN", tx_OWN)
  | 111 => ("ASKED", tx_ASKED)
  | 112 => ("LOOKED", tx_LOOKED)
  | _ => ("TOLD_OF", tx_TOLD_OF)
def tmR (a : Nat) : Term := .static "TurnedBoards" (rwT a).1 "[Ljava/lang/String;"
def tmE (a : Nat) : Term := .static "java/util/ArrayList" (if a = 114 then "EMPTY_ELEMENTDATA" else "DEFAULTCAPACITY_EMPTY_ELEMENTDATA") "[Ljava/lang/Object;"
def trm (a : Nat) : Term := if a < 70 then (if a % 2 = 0 then tmS (a / 2) else tmV (a / 2)) else if 110 ≤ a ∧ a ≤ 113 then tmR a else if a = 114 ∨ a = 115 then tmE a else if a = 116 then .mirror "[Ljava/lang/Object;" else if a = 121 then .static "java/lang/Throwable" "UNASSIGNED_STACK" "[Ljava/lang/StackTraceElement;" else if a = 122 then .static "java/lang/Throwable" "SUPPRESSED_SENTINEL" "Ljava/util/List;" else if a = 123 then .static "jdk/internal/util/ArraysSupport" "JLA" "Ljdk/internal/access/JavaLangAccess;" else if a = 124 then .static "jdk/internal/util/Preconditions" "SIOOBE_FORMATTER" "Ljava/util/function/BiFunction;" else .arg 0
def adOf (A : Array Value) (s : State) (a : Nat) : Nat := match (trm a).eval A s none [] s with
  | some (.ref q) => q
  | _ => 0
theorem adOf_of {A : Array Value} {s : State} {a q : Nat} (h : (trm a).eval A s none [] s = some (.ref q)) : adOf A s a = q := by rw [adOf, h]
/-! the first abstract heap -/
def K0 (L a : Nat) : Nat × Nat := if a < 70 then (if a % 2 = 0 then (24, 0) else (101, (txB (a / 2)).length)) else if 110 ≤ a ∧ a ≤ 113 then (105, (rwT a).2.length) else if a = 114 ∨ a = 115 then (104, 0) else if a = 119 then (100, L) else (999, 0)
def I0s (i k : Nat) : Int32 := match k with
  | 2 => (txG i).2.2.2.1
  | 3 => (txG i).2.2.2.2
  | _ => 0
def I0z (k : Nat) : Int32 := match k with
  | 0 => 1
  | 1 => 1
  | 3 => 8
  | _ => 0
def I0 (xs : Nat → Int32) (a k : Nat) : Int32 := if a < 70 then (if a % 2 = 0 then I0s (a / 2) k else (txB (a / 2)).getD k 0) else if a = 119 then xs k else if a = 120 then I0z k else 0
def R0z (n1 n2 n4 : Option Nat) (k : Nat) : Option Nat := match k with
  | 4 => some 114
  | 5 => some 115
  | 6 => some 111
  | 7 => some 112
  | 8 => some 113
  | 9 => some 110
  | 10 => n1
  | 11 => n2
  | 12 => some 123
  | 13 => n4
  | _ => none
def R0 (n1 n2 n4 : Option Nat) (a k : Nat) : Option Nat := if a < 70 then (if a % 2 = 0 ∧ k = 0 then some (a + 1) else none) else if 110 ≤ a ∧ a ≤ 113 then some (2 * (rwT a).2.getD k 0) else if a = 120 then R0z n1 n2 n4 k else none
def H0 (L : Nat) (xs : Nat → Int32) (n1 n2 n4 : Option Nat) : AH := (K0 L, I0 xs, fun _ _ => 0, R0 n1 n2 n4, NC, 0)
/-! what the Statement gives -/
theorem in_F (ws : List Cond) (ps : List Nat) (hp : ps.filterMap (fun i => F1[i]?) = ws) : ∀ w ∈ ws, w ∈ F1 := by
  subst hp
  intro w hw
  obtain ⟨i, -, hi⟩ := List.mem_filterMap.mp hw
  exact List.mem_of_getElem? hi
def wtS (i : Nat) : List Cond := [Cond.exactly (tmS i) "java/lang/String", Cond.eq (.field (tmS i) "java/lang/String" "coder" "B") (.int 0), Cond.eq (.field (tmS i) "java/lang/String" "hash" "I") (.int (txG i).2.2.2.1), Cond.eq (.field (tmS i) "java/lang/String" "hashIsZero" "Z") (.int (txG i).2.2.2.2), Cond.arrayOf (tmV i) .byte, Cond.eq (.length (tmV i)) (.int (Int32.ofNat (txB i).length))] ++ (List.range (txB i).length).map (fun j => Cond.eq (.elem (tmV i) (.int (Int32.ofNat j))) (.int ((txB i).getD j 0)))
def wtR (a : Nat) : List Cond := [Cond.arrayOf (tmR a) (.object "java/lang/String"), Cond.eq (.length (tmR a)) (.int (Int32.ofNat (rwT a).2.length))] ++ (List.range (rwT a).2.length).map (fun j => Cond.eq (.elem (tmR a) (.int (Int32.ofNat j))) (tmS ((rwT a).2.getD j 0)))
def wtE (a : Nat) : List Cond := [Cond.arrayOf (tmE a) (.object "java/lang/Object"), Cond.eq (.length (tmE a)) (.int 0)]

theorem nS_0 : ∀ w ∈ wtS 0, w ∈ F1 := in_F _ [198, 199, 202, 203, 200, 201] (by decide +kernel)
theorem nS_1 : ∀ w ∈ wtS 1, w ∈ F1 := in_F _ [615, 616, 622, 623, 617, 618, 619, 620, 621] (by decide +kernel)
theorem nS_2 : ∀ w ∈ wtS 2, w ∈ F1 := in_F _ [595, 596, 602, 603, 597, 598, 599, 600, 601] (by decide +kernel)
theorem nS_3 : ∀ w ∈ wtS 3, w ∈ F1 := in_F _ [578, 579, 584, 585, 580, 581, 582, 583] (by decide +kernel)
theorem nS_4 : ∀ w ∈ wtS 4, w ∈ F1 := in_F _ [442, 443, 451, 452, 444, 445, 446, 447, 448, 449, 450] (by decide +kernel)
theorem nS_5 : ∀ w ∈ wtS 5, w ∈ F1 := in_F _ [407, 408, 416, 417, 409, 410, 411, 412, 413, 414, 415] (by decide +kernel)
theorem nS_6 : ∀ w ∈ wtS 6, w ∈ F1 := in_F _ [494, 495, 504, 505, 496, 497, 498, 499, 500, 501, 502, 503] (by decide +kernel)
theorem nS_7 : ∀ w ∈ wtS 7, w ∈ F1 := in_F _ [419, 420, 428, 429, 421, 422, 423, 424, 425, 426, 427] (by decide +kernel)
theorem nS_8 : ∀ w ∈ wtS 8, w ∈ F1 := in_F _ [659, 660, 668, 669, 661, 662, 663, 664, 665, 666, 667] (by decide +kernel)
theorem nS_9 : ∀ w ∈ wtS 9, w ∈ F1 := in_F _ [645, 646, 656, 657, 647, 648, 649, 650, 651, 652, 653, 654, 655] (by decide +kernel)
theorem nS_10 : ∀ w ∈ wtS 10, w ∈ F1 := in_F _ [454, 455, 462, 463, 456, 457, 458, 459, 460, 461] (by decide +kernel)
theorem nS_11 : ∀ w ∈ wtS 11, w ∈ F1 := in_F _ [376, 377, 384, 385, 378, 379, 380, 381, 382, 383] (by decide +kernel)
theorem nS_12 : ∀ w ∈ wtS 12, w ∈ F1 := in_F _ [485, 486, 492, 493, 487, 488, 489, 490, 491] (by decide +kernel)
theorem nS_13 : ∀ w ∈ wtS 13, w ∈ F1 := in_F _ [387, 388, 393, 394, 389, 390, 391, 392] (by decide +kernel)
theorem nS_14 : ∀ w ∈ wtS 14, w ∈ F1 := in_F _ [670, 671, 678, 679, 672, 673, 674, 675, 676, 677] (by decide +kernel)
theorem nS_15 : ∀ w ∈ wtS 15, w ∈ F1 := in_F _ [712, 713, 721, 722, 714, 715, 716, 717, 718, 719, 720] (by decide +kernel)
theorem nS_16 : ∀ w ∈ wtS 16, w ∈ F1 := in_F _ [475, 476, 483, 484, 477, 478, 479, 480, 481, 482] (by decide +kernel)
theorem nS_17 : ∀ w ∈ wtS 17, w ∈ F1 := in_F _ [363, 364, 373, 374, 365, 366, 367, 368, 369, 370, 371, 372] (by decide +kernel)
theorem nS_18 : ∀ w ∈ wtS 18, w ∈ F1 := in_F _ [568, 569, 576, 577, 570, 571, 572, 573, 574, 575] (by decide +kernel)
theorem nS_19 : ∀ w ∈ wtS 19, w ∈ F1 := in_F _ [558, 559, 566, 567, 560, 561, 562, 563, 564, 565] (by decide +kernel)
theorem nS_20 : ∀ w ∈ wtS 20, w ∈ F1 := in_F _ [635, 636, 642, 643, 637, 638, 639, 640, 641] (by decide +kernel)
theorem nS_21 : ∀ w ∈ wtS 21, w ∈ F1 := in_F _ [625, 626, 632, 633, 627, 628, 629, 630, 631] (by decide +kernel)
theorem nS_22 : ∀ w ∈ wtS 22, w ∈ F1 := in_F _ [465, 466, 473, 474, 467, 468, 469, 470, 471, 472] (by decide +kernel)
theorem nS_23 : ∀ w ∈ wtS 23, w ∈ F1 := in_F _ [702, 703, 710, 711, 704, 705, 706, 707, 708, 709] (by decide +kernel)
theorem nS_24 : ∀ w ∈ wtS 24, w ∈ F1 := in_F _ [526, 527, 534, 535, 528, 529, 530, 531, 532, 533] (by decide +kernel)
theorem nS_25 : ∀ w ∈ wtS 25, w ∈ F1 := in_F _ [605, 606, 612, 613, 607, 608, 609, 610, 611] (by decide +kernel)
theorem nS_26 : ∀ w ∈ wtS 26, w ∈ F1 := in_F _ [546, 547, 556, 557, 548, 549, 550, 551, 552, 553, 554, 555] (by decide +kernel)
theorem nS_27 : ∀ w ∈ wtS 27, w ∈ F1 := in_F _ [680, 681, 689, 690, 682, 683, 684, 685, 686, 687, 688] (by decide +kernel)
theorem nS_28 : ∀ w ∈ wtS 28, w ∈ F1 := in_F _ [586, 587, 592, 593, 588, 589, 590, 591] (by decide +kernel)
theorem nS_29 : ∀ w ∈ wtS 29, w ∈ F1 := in_F _ [515, 516, 524, 525, 517, 518, 519, 520, 521, 522, 523] (by decide +kernel)
theorem nS_30 : ∀ w ∈ wtS 30, w ∈ F1 := in_F _ [431, 432, 439, 440, 433, 434, 435, 436, 437, 438] (by decide +kernel)
theorem nS_31 : ∀ w ∈ wtS 31, w ∈ F1 := in_F _ [506, 507, 513, 514, 508, 509, 510, 511, 512] (by decide +kernel)
theorem nS_32 : ∀ w ∈ wtS 32, w ∈ F1 := in_F _ [691, 692, 700, 701, 693, 694, 695, 696, 697, 698, 699] (by decide +kernel)
theorem nS_33 : ∀ w ∈ wtS 33, w ∈ F1 := in_F _ [396, 397, 404, 405, 398, 399, 400, 401, 402, 403] (by decide +kernel)
theorem nS_34 : ∀ w ∈ wtS 34, w ∈ F1 := in_F _ [536, 537, 544, 545, 538, 539, 540, 541, 542, 543] (by decide +kernel)
theorem nR_110 : ∀ w ∈ wtR 110, w ∈ F1 := in_F _ [22, 23, 24, 25, 26, 27, 28, 29, 30, 31, 32, 33, 34, 35, 36, 37, 38, 39, 40, 41, 42, 43, 44, 45, 46, 47, 48, 49, 50, 51] (by decide +kernel)
theorem nR_111 : ∀ w ∈ wtR 111, w ∈ F1 := in_F _ [53, 54, 55, 56, 57, 58, 59, 60, 61, 62, 63, 64] (by decide +kernel)
theorem nR_112 : ∀ w ∈ wtR 112, w ∈ F1 := in_F _ [66, 67, 68, 69] (by decide +kernel)
theorem nR_113 : ∀ w ∈ wtR 113, w ∈ F1 := in_F _ [71, 72, 73, 74, 75, 76, 77, 78] (by decide +kernel)
theorem nE_114 : ∀ w ∈ wtE 114, w ∈ F1 := in_F _ [5, 7] (by decide +kernel)
theorem nE_115 : ∀ w ∈ wtE 115, w ∈ F1 := in_F _ [9, 11] (by decide +kernel)
theorem nS : ∀ i, i < 35 → ∀ w ∈ wtS i, w ∈ F1 := by
  intro i hi
  match i, hi with
  | 0, _ => exact nS_0
  | 1, _ => exact nS_1
  | 2, _ => exact nS_2
  | 3, _ => exact nS_3
  | 4, _ => exact nS_4
  | 5, _ => exact nS_5
  | 6, _ => exact nS_6
  | 7, _ => exact nS_7
  | 8, _ => exact nS_8
  | 9, _ => exact nS_9
  | 10, _ => exact nS_10
  | 11, _ => exact nS_11
  | 12, _ => exact nS_12
  | 13, _ => exact nS_13
  | 14, _ => exact nS_14
  | 15, _ => exact nS_15
  | 16, _ => exact nS_16
  | 17, _ => exact nS_17
  | 18, _ => exact nS_18
  | 19, _ => exact nS_19
  | 20, _ => exact nS_20
  | 21, _ => exact nS_21
  | 22, _ => exact nS_22
  | 23, _ => exact nS_23
  | 24, _ => exact nS_24
  | 25, _ => exact nS_25
  | 26, _ => exact nS_26
  | 27, _ => exact nS_27
  | 28, _ => exact nS_28
  | 29, _ => exact nS_29
  | 30, _ => exact nS_30
  | 31, _ => exact nS_31
  | 32, _ => exact nS_32
  | 33, _ => exact nS_33
  | 34, _ => exact nS_34
  | n + 35, h => exact absurd h (by omega)
theorem nR : ∀ i, i < 4 → ∀ w ∈ wtR (110 + i), w ∈ F1 := by
  intro i hi
  match i, hi with
  | 0, _ => exact nR_110
  | 1, _ => exact nR_111
  | 2, _ => exact nR_112
  | 3, _ => exact nR_113
  | n + 4, h => exact absurd h (by omega)
theorem nE : ∀ i, i < 2 → ∀ w ∈ wtE (114 + i), w ∈ F1 := by
  intro i hi
  match i, hi with
  | 0, _ => exact nE_114
  | 1, _ => exact nE_115
  | n + 2, h => exact absurd h (by omega)
theorem st_len : ∀ i, i < 35 → (txB i).length < 100 := by decide +kernel
theorem st_rl : ∀ i, i < 4 → (rwT (110 + i)).2.length < 100 ∧ ∀ j, j < (rwT (110 + i)).2.length → (rwT (110 + i)).2.getD j 0 < 35 := by decide +kernel
theorem st_str (i : Nat) (hi : i < 35) : Cond.exactly (tmS i) "java/lang/String" ∈ F1 ∧ Cond.eq (.field (tmS i) "java/lang/String" "coder" "B") (.int 0) ∈ F1 ∧ Cond.eq (.field (tmS i) "java/lang/String" "hash" "I") (.int (txG i).2.2.2.1) ∈ F1 ∧ Cond.eq (.field (tmS i) "java/lang/String" "hashIsZero" "Z") (.int (txG i).2.2.2.2) ∈ F1 ∧
    Cond.arrayOf (tmV i) .byte ∈ F1 ∧ Cond.eq (.length (tmV i)) (.int (Int32.ofNat (txB i).length)) ∈ F1 ∧ (∀ j, j < (txB i).length → Cond.eq (.elem (tmV i) (.int (Int32.ofNat j))) (.int ((txB i).getD j 0)) ∈ F1) ∧ (txB i).length < 100 := by
  have h := nS i hi
  refine ⟨h _ (by simp [wtS]), h _ (by simp [wtS]), h _ (by simp [wtS]), h _ (by simp [wtS]), h _ (by simp [wtS]), h _ (by simp [wtS]), fun j hj => h _ ?_, st_len i hi⟩
  exact List.mem_append_right _ (List.mem_map.mpr ⟨j, List.mem_range.mpr hj, rfl⟩)
theorem st_row (i : Nat) (hi : i < 4) : Cond.arrayOf (tmR (110 + i)) (.object "java/lang/String") ∈ F1 ∧ Cond.eq (.length (tmR (110 + i))) (.int (Int32.ofNat (rwT (110 + i)).2.length)) ∈ F1 ∧ (∀ j, j < (rwT (110 + i)).2.length → Cond.eq (.elem (tmR (110 + i)) (.int (Int32.ofNat j))) (tmS ((rwT (110 + i)).2.getD j 0)) ∈ F1 ∧ (rwT (110 + i)).2.getD j 0 < 35) ∧ (rwT (110 + i)).2.length < 100 := by
  have h := nR i hi
  refine ⟨h _ (by simp [wtR]), h _ (by simp [wtR]), fun j hj => ⟨h _ ?_, (st_rl i hi).2 j hj⟩, (st_rl i hi).1⟩
  exact List.mem_append_right _ (List.mem_map.mpr ⟨j, List.mem_range.mpr hj, rfl⟩)
theorem st_emp (i : Nat) (hi : i < 2) : Cond.arrayOf (tmE (114 + i)) (.object "java/lang/Object") ∈ F1 ∧ Cond.eq (.length (tmE (114 + i))) (.int 0) ∈ F1 := by
  have h := nE i hi
  exact ⟨h _ (by simp [wtE]), h _ (by simp [wtE])⟩
section ST
variable {A : Array Value} {s : State}
theorem st_slot {t : Term} {q i : Nat} {o n d : String} {v : Value} {cell : Cell} (ht : t.eval A s none [] s = some (.ref q)) (hc : s.heap[q]? = some cell) (hv : (Term.field t o n d).eval A s none [] s = some v) (hs : SlotIs s o n d i) : cell.slots[i]? = some v ∧ cell.vm ≠ .unknown := by
  obtain ⟨cf, kf, fi, fd, hi, rfl⟩ := hs
  obtain ⟨-, c2, g2, g3, -, -, g6⟩ := Term.field_spec hi ht hv
  cases hc.symm.trans g2
  exact ⟨g6, g3⟩
theorem st_S (hw : ∀ w ∈ F1, w.before A s = true) {i : Nat} (hi : i < 35) : ∃ cell, (tmS i).eval A s none [] s = some (.ref (adOf A s (2 * i))) ∧ s.heap[adOf A s (2 * i)]? = some cell ∧ cell.vm.isStatics = false ∧ s.vm.findClass "java/lang/String" = some cell.cls := by
  have he : trm (2 * i) = tmS i := by rw [trm, if_pos (by omega), if_pos (by omega), show 2 * i / 2 = i from by omega]
  obtain ⟨a, c, cell, k, q1, q2, q3, q4, q5, q6, -⟩ := Cond.exactly_spec (args := A) (first := s) (o := none) (s := s) (idx := []) (hw _ (st_str i hi).1)
  have hq : adOf A s (2 * i) = a := adOf_of (by rw [he]; exact q1)
  rw [hq]
  exact ⟨cell, q1, q3, q5, by rw [q6]; exact q2⟩
theorem st_V (hw : ∀ w ∈ F1, w.before A s = true) {i : Nat} (hi : i < 35) : (tmV i).eval A s none [] s = some (.ref (adOf A s (2 * i + 1))) ∧ va_T .byte (adOf A s (2 * i + 1)) (txB i).length (fun j => .int ((txB i).getD j 0)) (fun _ => False) s s.heap := by
  have he : trm (2 * i + 1) = tmV i := by rw [trm, if_pos (by omega), if_neg (by omega), show (2 * i + 1) / 2 = i from by omega]
  obtain ⟨-, -, -, -, h1, h2, h3, h4⟩ := st_str i hi
  obtain ⟨t, ht, hT⟩ := va_Tof (f := fun j => .int ((txB i).getD j 0)) (A := fun _ => False) (Nat.lt_trans h4 (by decide)) (hw _ h1) (va_eqt (hw _ h2)) (fun j hj => va_eqt (hw _ (h3 j hj))) (fun _ _ => id)
  have hq : adOf A s (2 * i + 1) = t := adOf_of (by rw [he]; exact ht)
  rw [hq]; exact ⟨ht, hT⟩
theorem st_R (hw : ∀ w ∈ F1, w.before A s = true) {i : Nat} (hi : i < 4) : (tmR (110 + i)).eval A s none [] s = some (.ref (adOf A s (110 + i))) ∧ va_T (.object "java/lang/String") (adOf A s (110 + i)) (rwT (110 + i)).2.length (fun j => .ref (adOf A s (2 * (rwT (110 + i)).2.getD j 0))) (fun _ => False) s s.heap := by
  have he : trm (110 + i) = tmR (110 + i) := by rw [trm, if_neg (by omega), if_pos (by omega)]
  obtain ⟨h1, h2, h3, h4⟩ := st_row i hi
  obtain ⟨t, ht, hT⟩ := va_Tof (f := fun j => .ref (adOf A s (2 * (rwT (110 + i)).2.getD j 0))) (A := fun _ => False) (Nat.lt_trans h4 (by decide)) (hw _ h1) (va_eqt (hw _ h2)) (fun j hj => by
    obtain ⟨_, h5, -⟩ := st_S hw (h3 j hj).2
    exact va_eqv (hw _ (h3 j hj).1) h5) (fun _ _ => id)
  have hq : adOf A s (110 + i) = t := adOf_of (by rw [he]; exact ht)
  rw [hq]; exact ⟨ht, hT⟩
theorem st_E (hw : ∀ w ∈ F1, w.before A s = true) {i : Nat} (hi : i < 2) : (tmE (114 + i)).eval A s none [] s = some (.ref (adOf A s (114 + i))) ∧ va_T (.object "java/lang/Object") (adOf A s (114 + i)) 0 (fun _ => .null) (fun _ => False) s s.heap := by
  have he : trm (114 + i) = tmE (114 + i) := by rw [trm, if_neg (by omega), if_neg (by omega), if_pos (by omega)]
  obtain ⟨h1, h2⟩ := st_emp i hi
  obtain ⟨t, ht, hT⟩ := va_Tof (N := 0) (f := fun _ => .null) (A := fun _ => False) (by decide) (hw _ h1) (va_eqt (hw _ h2)) (fun j hj => absurd hj (Nat.not_lt_zero _)) (fun _ _ => id)
  have hq : adOf A s (114 + i) = t := adOf_of (by rw [he]; exact ht)
  rw [hq]; exact ⟨ht, hT⟩
theorem st_arr {G : GT} {h : AH} {a N t : Nat} {f : Nat → Value} (hG : g_s G = s) (hT : va_T (atT t) (rho G a) N f (fun _ => False) s s.heap) (hk : hK h a = (t, N)) (ht : 100 ≤ t) (ha : a < NC) (hf : ∀ j, j < N → fv G (atT t) h a j = f j) : ∃ c, s.heap[rho G a]? = some c ∧ cellOf G h a c := by
  subst hG
  obtain ⟨cell, h1, h2, h3, h4, h5, h6, -⟩ := hT
  refine ⟨cell, h1, h3, h2.1, fun z => absurd ha (Nat.not_lt.mpr z), ?_, ?_⟩
  · rw [hk]
    intro q hq
    have := clT_lt hq
    omega
  · rw [hk]
    intro _
    exact ⟨⟨h2, fun z => absurd ha (Nat.not_lt.mpr z)⟩, ⟨h4, h5, fun z => absurd ha (Nat.not_lt.mpr z)⟩, fun j hj => by rw [h6 j hj, hf j hj]⟩
def G0 (A : Array Value) (s : State) (dC : Nat → ClassId) (dI : Nat → Nat → Nat) (dA : Nat → ClassId) : GT := (s, dC, dI, dA, s.heap.size, adOf A s)
theorem st_kn (hts : ∀ w ∈ lw_tbl, w.before A s = true) : ∀ ci : Nat, ∃ p : ClassId × (Nat → Nat), ∀ q, clT[ci]? = some q → u_Kn s q.1 q.2.1 q.2.2 p.1 p.2 := by
  have ha : ∀ w ∈ lw_all, w.before A s = true := fun w h => hts w (lw_all_tbl h)
  intro ci
  match ci with
  | 0 => obtain ⟨cC, iS, h⟩ := u_known ha cf_0.2.1 (ha _ q210); exact ⟨(cC, iS), fun q hq => by cases hq; exact h⟩
  | 1 => obtain ⟨cC, iS, h⟩ := u_known ha cf_1.2.1 (ha _ q218); exact ⟨(cC, iS), fun q hq => by cases hq; exact h⟩
  | 2 => obtain ⟨cC, iS, h⟩ := u_known ha cf_2.2.1 (ha _ q375); exact ⟨(cC, iS), fun q hq => by cases hq; exact h⟩
  | 3 => obtain ⟨cC, iS, h⟩ := u_known ha cf_3.2.1 (ha _ q381); exact ⟨(cC, iS), fun q hq => by cases hq; exact h⟩
  | 4 => obtain ⟨cC, iS, h⟩ := u_known ha cf_4.2.1 (ha _ q479); exact ⟨(cC, iS), fun q hq => by cases hq; exact h⟩
  | 5 => obtain ⟨cC, iS, h⟩ := u_known ha cf_5.2.1 (ha _ q493); exact ⟨(cC, iS), fun q hq => by cases hq; exact h⟩
  | 6 => obtain ⟨cC, iS, h⟩ := u_known ha cf_6.2.1 (ha _ q541); exact ⟨(cC, iS), fun q hq => by cases hq; exact h⟩
  | 7 => obtain ⟨cC, iS, h⟩ := u_known ha cf_7.2.1 (ha _ q1800); exact ⟨(cC, iS), fun q hq => by cases hq; exact h⟩
  | 8 => obtain ⟨cC, iS, h⟩ := u_known ha cf_8.2.1 (ha _ q940); exact ⟨(cC, iS), fun q hq => by cases hq; exact h⟩
  | 9 => obtain ⟨cC, iS, h⟩ := u_known ha cf_9.2.1 (ha _ q963); exact ⟨(cC, iS), fun q hq => by cases hq; exact h⟩
  | 10 => obtain ⟨cC, iS, h⟩ := u_known ha cf_10.2.1 (ha _ q1004); exact ⟨(cC, iS), fun q hq => by cases hq; exact h⟩
  | 11 => obtain ⟨cC, iS, h⟩ := u_known ha cf_8.2.1 (ha _ q940); exact ⟨(cC, iS), fun q hq => by cases hq; exact h⟩
  | 12 => obtain ⟨cC, iS, h⟩ := u_known ha cf_12.2.1 (ha _ q1032); exact ⟨(cC, iS), fun q hq => by cases hq; exact h⟩
  | 13 => obtain ⟨cC, iS, h⟩ := u_known ha cf_13.2.1 (ha _ q1093); exact ⟨(cC, iS), fun q hq => by cases hq; exact h⟩
  | 14 => obtain ⟨cC, iS, h⟩ := u_known ha cf_14.2.1 (ha _ q1109); exact ⟨(cC, iS), fun q hq => by cases hq; exact h⟩
  | 15 => obtain ⟨cC, iS, h⟩ := u_known ha cf_15.2.1 (ha _ q1124); exact ⟨(cC, iS), fun q hq => by cases hq; exact h⟩
  | 16 => obtain ⟨cC, iS, h⟩ := u_known ha cf_16.2.1 (ha _ q1140); exact ⟨(cC, iS), fun q hq => by cases hq; exact h⟩
  | 17 => obtain ⟨cC, iS, h⟩ := u_known ha cf_8.2.1 (ha _ q940); exact ⟨(cC, iS), fun q hq => by cases hq; exact h⟩
  | 18 => obtain ⟨cC, iS, h⟩ := u_known ha cf_18.2.1 (ha _ q1220); exact ⟨(cC, iS), fun q hq => by cases hq; exact h⟩
  | 19 => obtain ⟨cC, iS, h⟩ := u_known ha cf_19.2.1 (ha _ q1252); exact ⟨(cC, iS), fun q hq => by cases hq; exact h⟩
  | 20 => obtain ⟨cC, iS, h⟩ := u_known ha cf_20.2.1 (ha _ q1263); exact ⟨(cC, iS), fun q hq => by cases hq; exact h⟩
  | 21 => obtain ⟨cC, iS, h⟩ := u_known ha cf_21.2.1 (ha _ q1270); exact ⟨(cC, iS), fun q hq => by cases hq; exact h⟩
  | 22 => obtain ⟨cC, iS, h⟩ := u_known ha cf_22.2.1 (ha _ q1722); exact ⟨(cC, iS), fun q hq => by cases hq; exact h⟩
  | 23 => obtain ⟨cC, iS, h⟩ := u_known ha cf_23.2.1 (ha _ q224); exact ⟨(cC, iS), fun q hq => by cases hq; exact h⟩
  | 24 => obtain ⟨cC, iS, h⟩ := u_known ha cf_24.2.1 (ha _ q706); exact ⟨(cC, iS), fun q hq => by cases hq; exact h⟩
  | 25 => obtain ⟨cC, iS, h⟩ := u_known ha cf_25.2.1 (ha _ q1043); exact ⟨(cC, iS), fun q hq => by cases hq; exact h⟩
  | n + 26 => exact ⟨(0, fun _ => 0), fun q hq => by rw [List.getElem?_eq_none (show 26 ≤ n + 26 from Nat.le_add_left _ _)] at hq; cases hq⟩
theorem st_ak (hts : ∀ w ∈ lw_tbl, w.before A s = true) (dC : Nat → ClassId) (dI : Nat → Nat → Nat) : ∀ t : Nat, ∃ cA : ClassId, 100 ≤ t → t ≤ 107 → ∀ dA : Nat → ClassId, dA t = cA → AK (G0 A s dC dI dA) s t := by
  have ha : ∀ w ∈ lw_all, w.before A s = true := fun w h => hts w (lw_all_tbl h)
  have pr : ∀ (t : Nat) (ty : FieldType), atT t = ty → (∀ C, ty ≠ .object C) → (∀ T, ty ≠ .array T) → (Cond.arrayClass ty).before A s = true → ∃ cA : ClassId, 100 ≤ t → t ≤ 107 → ∀ dA : Nat → ClassId, dA t = cA → AK (G0 A s dC dI dA) s t := by
    intro t ty e n1 n2 h
    obtain ⟨c, k, cc, h1, h2, h3⟩ := Cond.arrayClass_spec h
    refine ⟨c, fun _ _ dA hd => ⟨k, cc, ?_, ?_, ?_, fun C hC => absurd (e.symm.trans hC) (n1 C), fun T hT => absurd (e.symm.trans hT) (n2 T)⟩⟩
    · rw [e]; exact h1.trans (congrArg some hd.symm)
    · show s.vm.classes[dA t]? = _; rw [hd]; exact h2
    · rw [e]; exact h3
  have pO : ∀ (t : Nat) (C : String), atT t = .object C → (Cond.arrayOver (.object C)).before A s = true → ∃ cA : ClassId, 100 ≤ t → t ≤ 107 → ∀ dA : Nat → ClassId, dA t = cA → AK (G0 A s dC dI dA) s t := by
    intro t C e h
    obtain ⟨comp, c, k, h1, h2, h3, h4, h5⟩ := Cond.arrayOver_spec h
    refine ⟨c, fun _ _ dA hd => ⟨k, comp, ?_, ?_, ?_, fun C' hC => ?_, fun T hT => by rw [e] at hT; cases hT⟩⟩
    · rw [e]; exact h5.trans (congrArg some hd.symm)
    · show s.vm.classes[dA t]? = _; rw [hd]; exact h3
    · rw [e]; exact h4
    · rw [e] at hC; cases hC; exact h1
  have pA : ∀ (t : Nat) (T : FieldType), atT t = .array T → (Cond.arrayOver (.array T)).before A s = true → ∃ cA : ClassId, 100 ≤ t → t ≤ 107 → ∀ dA : Nat → ClassId, dA t = cA → AK (G0 A s dC dI dA) s t := by
    intro t T e h
    obtain ⟨comp, c, k, h1, h2, h3, h4, h5⟩ := arrayOverA_spec h
    refine ⟨c, fun _ _ dA hd => ⟨k, comp, ?_, ?_, ?_, fun C' hC => (by rw [e] at hC; cases hC), fun T' hT => ?_⟩⟩
    · rw [e]; exact h5.trans (congrArg some hd.symm)
    · show s.vm.classes[dA t]? = _; rw [hd]; exact h3
    · rw [e]; exact h4
    · rw [e] at hT; cases hT; exact h1
  intro t
  by_cases hb : 100 ≤ t ∧ t ≤ 107
  · have ht : t = 100 ∨ t = 101 ∨ t = 102 ∨ t = 103 ∨ t = 104 ∨ t = 105 ∨ t = 106 ∨ t = 107 := by omega
    rcases ht with rfl | rfl | rfl | rfl | rfl | rfl | rfl | rfl
    · exact pr 100 .int rfl (fun _ z => by cases z) (fun _ z => by cases z) (ha _ q539)
    · exact pr 101 .byte rfl (fun _ z => by cases z) (fun _ z => by cases z) (ha _ q452)
    · exact pr 102 .char rfl (fun _ z => by cases z) (fun _ z => by cases z) (ha _ q779)
    · exact pr 103 .long rfl (fun _ z => by cases z) (fun _ z => by cases z) (ha _ q491)
    · exact pO 104 _ rfl (hts _ q236)
    · exact pO 105 _ rfl (hts _ q2802)
    · exact pA 106 _ rfl (hts _ q499)
    · exact pO 107 _ rfl (hts _ q581)
  · exact ⟨0, fun z1 z2 => absurd ⟨z1, z2⟩ hb⟩
theorem rho_lo {G : GT} {a : Nat} (h : a < NC) : rho G a = g_ad G a := by rw [rho, if_pos h]
theorem K0_S {L i : Nat} (hi : i < 35) : K0 L (2 * i) = (24, 0) := by rw [K0, if_pos (by omega), if_pos (by omega)]
theorem K0_V {L i : Nat} (hi : i < 35) : K0 L (2 * i + 1) = (101, (txB i).length) := by rw [K0, if_pos (by omega), if_neg (by omega), show (2 * i + 1) / 2 = i from by omega]
theorem K0_R {L i : Nat} (hi : i < 4) : K0 L (110 + i) = (105, (rwT (110 + i)).2.length) := by rw [K0, if_neg (by omega), if_pos (by omega)]
theorem K0_E {L i : Nat} (hi : i < 2) : K0 L (114 + i) = (104, 0) := by rw [K0, if_neg (by omega), if_neg (by omega), if_pos (by omega)]
theorem K0_X {L : Nat} : K0 L 119 = (100, L) := rfl
theorem st_cellS (hw : ∀ w ∈ F1, w.before A s = true) {dC : Nat → ClassId} {dI : Nat → Nat → Nat} {dA : Nat → ClassId} (hKn : u_Kn s RJ9 TJ9 4 (dC 24) (dI 24)) {i : Nat} (hi : i < 35) (L : Nat) (xs : Nat → Int32) (n1 n2 n4 : Option Nat) : ∃ c, s.heap[rho (G0 A s dC dI dA) (2 * i)]? = some c ∧ cellOf (G0 A s dC dI dA) (H0 L xs n1 n2 n4) (2 * i) c := by
  have hNC : NC = 128 := rfl
  obtain ⟨cell, q1, q2, q3, q4⟩ := st_S hw hi
  obtain ⟨-, w1, w2, w3, -⟩ := st_str i hi
  have hV := (st_V hw hi).1
  have hr : rho (G0 A s dC dI dA) (2 * i) = adOf A s (2 * i) := rho_lo (by omega)
  have hr1 : rho (G0 A s dC dI dA) (2 * i + 1) = adOf A s (2 * i + 1) := rho_lo (by omega)
  have s0 := st_slot q1 q2 hV (hKn.1 0 (by decide))
  have s1 := st_slot q1 q2 (va_eqt (hw _ w1)) (hKn.1 1 (by decide))
  have s2 := st_slot q1 q2 (va_eqt (hw _ w2)) (hKn.1 2 (by decide))
  have s3 := st_slot q1 q2 (va_eqt (hw _ w3)) (hKn.1 3 (by decide))
  rw [hr]
  have hk : hK (H0 L xs n1 n2 n4) (2 * i) = (24, 0) := K0_S hi
  refine ⟨cell, q2, s0.2, fun q z => (by rw [z] at q3; cases q3), fun z => absurd z (by omega), ?_, ?_⟩
  · rw [hk]
    intro q hq
    cases hq
    refine ⟨Option.some.inj (q4.symm.trans hKn.2.1), fun k hk4 => ?_⟩
    have hk4 : k < 4 := hk4
    have hI : ∀ j, hI (H0 L xs n1 n2 n4) (2 * i) j = I0s i j := by
      intro j
      show I0 xs (2 * i) j = _
      rw [I0, if_pos (by omega), if_pos (by omega), show 2 * i / 2 = i from by omega]
    match k, hk4 with
    | 0, _ =>
      refine s0.1.trans (congrArg some ?_)
      show _ = va_rf ((R0 n1 n2 n4 (2 * i) 0).map (rho (G0 A s dC dI dA)))
      rw [R0, if_pos (by omega), if_pos ⟨by omega, rfl⟩]
      show _ = Value.ref (rho (G0 A s dC dI dA) (2 * i + 1))
      rw [hr1]
    | 1, _ => exact s1.1.trans (congrArg some (congrArg Value.int (hI 1).symm))
    | 2, _ => exact s2.1.trans (congrArg some (congrArg Value.int (hI 2).symm))
    | 3, _ => exact s3.1.trans (congrArg some (congrArg Value.int (hI 3).symm))
    | n + 4, h => exact absurd h (by omega)
  · rw [hk]
    intro z
    exact absurd z (by decide)
theorem st_cells (hw : ∀ w ∈ F1, w.before A s = true) {b L : Nat} {xs : Nat → Int32} (hA : A = #[.ref b]) (hX : va_X b L xs s s.heap) {dC : Nat → ClassId} {dI : Nat → Nat → Nat} {dA : Nat → ClassId} (hKn : u_Kn s RJ9 TJ9 4 (dC 24) (dI 24)) (n1 n2 n4 : Option Nat) (a : Nat) (ha : (hK (H0 L xs n1 n2 n4) a).1 ≠ 999) : ∃ c, s.heap[rho (G0 A s dC dI dA) a]? = some c ∧ cellOf (G0 A s dC dI dA) (H0 L xs n1 n2 n4) a c := by
  have hNC : NC = 128 := rfl
  have ha : (K0 L a).1 ≠ 999 := ha
  by_cases h1 : a < 70
  · by_cases h2 : a % 2 = 0
    · obtain ⟨i, rfl⟩ : ∃ i, a = 2 * i := ⟨a / 2, by omega⟩
      exact st_cellS hw hKn (by omega) L xs n1 n2 n4
    · obtain ⟨i, rfl⟩ : ∃ i, a = 2 * i + 1 := ⟨a / 2, by omega⟩
      have hi : i < 35 := by omega
      refine st_arr (t := 101) rfl (by rw [rho_lo (by omega)]; exact (st_V hw hi).2) (K0_V hi) (by decide) (by omega) (fun j hj => ?_)
      show Value.int (I0 xs (2 * i + 1) j) = _
      rw [I0, if_pos (by omega), if_neg (by omega), show (2 * i + 1) / 2 = i from by omega]
  by_cases h2 : 110 ≤ a ∧ a ≤ 113
  · obtain ⟨i, rfl⟩ : ∃ i, a = 110 + i := ⟨a - 110, by omega⟩
    have hi : i < 4 := by omega
    refine st_arr (t := 105) rfl (by rw [rho_lo (by omega)]; exact (st_R hw hi).2) (K0_R hi) (by decide) (by omega) (fun j hj => ?_)
    show va_rf ((R0 n1 n2 n4 (110 + i) j).map (rho (G0 A s dC dI dA))) = _
    have hj2 := (st_rl i hi).2 j hj
    rw [R0, if_neg (by omega), if_pos (by omega)]
    show Value.ref (rho (G0 A s dC dI dA) (2 * (rwT (110 + i)).2.getD j 0)) = _
    rw [rho_lo (by omega)]
    rfl
  by_cases h3 : a = 114 ∨ a = 115
  · obtain ⟨i, rfl⟩ : ∃ i, a = 114 + i := ⟨a - 114, by omega⟩
    have hi : i < 2 := by omega
    exact st_arr (t := 104) rfl (by rw [rho_lo (by omega)]; exact (st_E hw hi).2) (K0_E hi) (by decide) (by omega) (fun j hj => absurd hj (Nat.not_lt_zero _))
  by_cases h4 : a = 119
  · subst h4
    subst hA
    obtain ⟨scr, x1, x2, x3, x4, x5⟩ := hX
    have hr : rho (G0 #[.ref b] s dC dI dA) 119 = b := (rho_lo (by decide)).trans (show adOf #[.ref b] s 119 = b from adOf_of (by show (Term.arg 0).eval #[.ref b] s none [] s = _; simp [Term.eval]))
    refine st_arr (t := 100) (N := L) (f := fun j => .int (xs j)) rfl ⟨scr, by rw [hr]; exact x1, x2, x3, Nat.le_of_eq x4.symm, congrArg Nat.toInt32 x4, x5, id⟩ rfl (by decide) (by decide) (fun j hj => rfl)
  · exact absurd (show (K0 L a).1 = 999 by rw [K0, if_neg h1, if_neg h2, if_neg h3, if_neg h4]) ha
theorem st_ad (hw : ∀ w ∈ F1, w.before A s = true) {b : Nat} (hA : A = #[.ref b]) (hb : b < s.heap.size) (a : Nat) (ha : a < NC) (hk : ¬ noK a) : adOf A s a < s.heap.size := by
  have hNC : NC = 128 := rfl
  by_cases h1 : a < 70
  · by_cases h2 : a % 2 = 0
    · obtain ⟨i, rfl⟩ : ∃ i, a = 2 * i := ⟨a / 2, by omega⟩
      obtain ⟨cell, -, q2, -⟩ := st_S hw (i := i) (by omega)
      exact (Array.getElem?_eq_some_iff.mp q2).1
    · obtain ⟨i, rfl⟩ : ∃ i, a = 2 * i + 1 := ⟨a / 2, by omega⟩
      obtain ⟨cell, q2, -⟩ := (st_V hw (i := i) (by omega)).2
      exact (Array.getElem?_eq_some_iff.mp q2).1
  by_cases h2 : 110 ≤ a ∧ a ≤ 113
  · obtain ⟨i, rfl⟩ : ∃ i, a = 110 + i := ⟨a - 110, by omega⟩
    obtain ⟨cell, q2, -⟩ := (st_R hw (i := i) (by omega)).2
    exact (Array.getElem?_eq_some_iff.mp q2).1
  by_cases h3 : a = 114 ∨ a = 115
  · obtain ⟨i, rfl⟩ : ∃ i, a = 114 + i := ⟨a - 114, by omega⟩
    obtain ⟨cell, q2, -⟩ := (st_E hw (i := i) (by omega)).2
    exact (Array.getElem?_eq_some_iff.mp q2).1
  · have he : trm a = .arg 0 := by
      rw [trm, if_neg h1, if_neg h2, if_neg h3, if_neg (by omega), if_neg (by omega), if_neg (by omega), if_neg (by omega), if_neg (by omega)]
    rw [adOf_of (q := b) (by rw [he, hA]; simp [Term.eval])]
    exact hb
theorem st_opt {a : Nat} {C n d : String} (ht : trm a = .static C n d) (h : (Cond.isRef (.static C n d)).before A s = true) : ∃ r : Option Nat, (r = none ∨ r = some a) ∧ (Term.static C n d).eval A s none [] s = some (va_rf (r.map (adOf A s))) := by
  obtain ⟨v, h1, h2⟩ := Cond.isRef_spec h
  cases v with
  | null => exact ⟨none, Or.inl rfl, h1⟩
  | ref q => exact ⟨some a, Or.inr rfl, by rw [h1]; exact congrArg (fun z => some (Value.ref z)) (adOf_of (by rw [ht]; exact h1)).symm⟩
  | _ => simp [Value.isRef] at h2
def wtZ : List Cond := [Cond.eq (.static "java/lang/String" "COMPACT_STRINGS" "Z") (.int 1), Cond.eq (.static "java/lang/StringUTF16" "$assertionsDisabled" "Z") (.int 1), Cond.eq (.static "java/lang/StringUTF16" "HI_BYTE_SHIFT" "I") (.int 0), Cond.eq (.static "java/lang/StringUTF16" "LO_BYTE_SHIFT" "I") (.int 8), Cond.isRef (.static "java/lang/Throwable" "UNASSIGNED_STACK" "[Ljava/lang/StackTraceElement;"), Cond.isRef (.static "java/lang/Throwable" "SUPPRESSED_SENTINEL" "Ljava/util/List;"), Cond.exactly (.static "jdk/internal/util/ArraysSupport" "JLA" "Ljdk/internal/access/JavaLangAccess;") "java/lang/System$2", Cond.isRef (.static "jdk/internal/util/Preconditions" "SIOOBE_FORMATTER" "Ljava/util/function/BiFunction;"), Cond.isRef (.mirror "[Ljava/lang/Object;")]
theorem nZ : ∀ w ∈ wtZ, w ∈ F1 := in_F _ [15, 16, 17, 18, 13, 14, 20, 19, 197] (by decide +kernel)
theorem st_StC (hw : ∀ w ∈ F1, w.before A s = true) (hts : ∀ w ∈ lw_tbl, w.before A s = true) : ∃ n1 n2 n4 : Option Nat, (n1 = none ∨ n1 = some 121) ∧ (n2 = none ∨ n2 = some 122) ∧ (n4 = none ∨ n4 = some 124) ∧ ∀ (L : Nat) (xs : Nat → Int32) (dC : Nat → ClassId) (dI : Nat → Nat → Nat) (dA : Nat → ClassId), StC (G0 A s dC dI dA) (H0 L xs n1 n2 n4) := by
  have hz : ∀ w ∈ wtZ, w.before A s = true := fun w h => hw w (nZ w h)
  have ha : ∀ w ∈ lw_all, w.before A s = true := fun w h => hts w (lw_all_tbl h)
  obtain ⟨n1, e1, v1⟩ := st_opt (a := 121) rfl (hz _ (by simp [wtZ]))
  obtain ⟨n2, e2, v2⟩ := st_opt (a := 122) rfl (hz _ (by simp [wtZ]))
  obtain ⟨n4, e4, v4⟩ := st_opt (a := 124) rfl (hz _ (by simp [wtZ]))
  obtain ⟨j, cJ, cellJ, kJ, v3, -⟩ := Cond.exactly_spec (args := A) (first := s) (o := none) (s := s) (idx := []) (hz (Cond.exactly (.static "jdk/internal/util/ArraysSupport" "JLA" "Ljdk/internal/access/JavaLangAccess;") "java/lang/System$2") (by simp [wtZ]))
  have hj : adOf A s 123 = j := adOf_of (by show (Term.static "jdk/internal/util/ArraysSupport" "JLA" "Ljdk/internal/access/JavaLangAccess;").eval A s none [] s = _; exact v3)
  rw [← hj] at v3
  refine ⟨n1, n2, n4, e1, e2, e4, fun L xs dC dI dA => ?_⟩
  have w1 : va_rf (n1.map (adOf A s)) = va_rf (n1.map (rho (G0 A s dC dI dA))) := by rcases e1 with rfl | rfl <;> rfl
  have w2 : va_rf (n2.map (adOf A s)) = va_rf (n2.map (rho (G0 A s dC dI dA))) := by rcases e2 with rfl | rfl <;> rfl
  have w4 : va_rf (n4.map (adOf A s)) = va_rf (n4.map (rho (G0 A s dC dI dA))) := by rcases e4 with rfl | rfl <;> rfl
  rw [w1] at v1
  rw [w2] at v2
  rw [w4] at v4
  unfold StC stT
  simp only [List.forall_mem_cons]
  exact ⟨va_Zof (C := "java/lang/String") (n := "COMPACT_STRINGS") (d := "Z") (v := .int 1) (hts _ q716) (ha _ q186) (va_eqi (hz _ (by simp [wtZ]))) (fun _ _ => id),
    va_Zof (C := "java/lang/StringUTF16") (n := "$assertionsDisabled") (d := "Z") (v := .int 1) (hts _ q737) (ha _ q187) (va_eqi (hz _ (by simp [wtZ]))) (fun _ _ => id),
    va_Zof (C := "java/lang/StringUTF16") (n := "HI_BYTE_SHIFT") (d := "I") (v := .int 0) (hts _ q742) (ha _ q187) (va_eqi (hz _ (by simp [wtZ]))) (fun _ _ => id),
    va_Zof (C := "java/lang/StringUTF16") (n := "LO_BYTE_SHIFT") (d := "I") (v := .int 8) (hts _ q744) (ha _ q187) (va_eqi (hz _ (by simp [wtZ]))) (fun _ _ => id),
    va_Zof (C := "java/util/ArrayList") (n := "EMPTY_ELEMENTDATA") (d := "[Ljava/lang/Object;") (v := .ref (adOf A s 114)) (hts _ q238) (ha _ q172) ((st_E hw (i := 0) (by decide)).1) (fun _ _ => id),
    va_Zof (C := "java/util/ArrayList") (n := "DEFAULTCAPACITY_EMPTY_ELEMENTDATA") (d := "[Ljava/lang/Object;") (v := .ref (adOf A s 115)) (hts _ q274) (ha _ q172) ((st_E hw (i := 1) (by decide)).1) (fun _ _ => id),
    va_Zof (C := "TurnedBoards") (n := "ASKED") (d := "[Ljava/lang/String;") (v := .ref (adOf A s 111)) (hts _ q1119) (ha _ q168) ((st_R hw (i := 1) (by decide)).1) (fun _ _ => id),
    va_Zof (C := "TurnedBoards") (n := "LOOKED") (d := "[Ljava/lang/String;") (v := .ref (adOf A s 112)) (hts _ q1134) (ha _ q168) ((st_R hw (i := 2) (by decide)).1) (fun _ _ => id),
    va_Zof (C := "TurnedBoards") (n := "TOLD_OF") (d := "[Ljava/lang/String;") (v := .ref (adOf A s 113)) (hts _ q1720) (ha _ q168) ((st_R hw (i := 3) (by decide)).1) (fun _ _ => id),
    va_Zof (C := "TurnedBoards") (n := "OWN") (d := "[Ljava/lang/String;") (v := .ref (adOf A s 110)) (hts _ q852) (ha _ q168) ((st_R hw (i := 0) (by decide)).1) (fun _ _ => id),
    va_Zof (C := "java/lang/Throwable") (n := "UNASSIGNED_STACK") (d := "[Ljava/lang/StackTraceElement;") (v := _) (hts _ q407) (ha _ q178) (v1) (fun _ _ => id),
    va_Zof (C := "java/lang/Throwable") (n := "SUPPRESSED_SENTINEL") (d := "Ljava/util/List;") (v := _) (hts _ q409) (ha _ q178) (v2) (fun _ _ => id),
    va_Zof (C := "jdk/internal/util/ArraysSupport") (n := "JLA") (d := "Ljdk/internal/access/JavaLangAccess;") (v := .ref (adOf A s 123)) (hts _ q806) (ha _ q173) (v3) (fun _ _ => id),
    va_Zof (C := "jdk/internal/util/Preconditions") (n := "SIOOBE_FORMATTER") (d := "Ljava/util/function/BiFunction;") (v := _) (hts _ q758) (ha _ q188) (v4) (fun _ _ => id), fun _ h => by cases h⟩
end ST
