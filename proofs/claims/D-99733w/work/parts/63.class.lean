set_option maxRecDepth 100000
/-! ===== the class: its own cells ===== -/
def ckK : List (Nat × Nat × Nat) := [(128, 0, 0), (140, 101, 1600), (141, 2, 0), (142, 3, 0), (143, 4, 0), (144, 103, 10), (145, 4, 0), (146, 103, 10), (147, 100, 6), (256, 6, 0), (257, 106, 7), (258, 100, 7), (259, 100, 7), (260, 100, 7), (261, 100, 7), (262, 100, 7), (263, 100, 7), (264, 100, 7), (265, 100, 12), (266, 100, 12), (267, 107, 20), (1348, 101, 59)]
def ckR : List (Nat × Nat × Nat) := [(128, 1, 140), (128, 5, 141), (128, 6, 143), (128, 7, 145), (128, 8, 147), (128, 9, 148), (128, 10, 202), (128, 11, 256), (128, 12, 267), (128, 16, 1348), (141, 0, 142), (141, 7, 128), (143, 0, 144), (145, 0, 146), (256, 6, 257), (256, 7, 265), (256, 8, 266), (256, 9, 128), (257, 0, 258), (257, 1, 259), (257, 2, 260), (257, 3, 261), (257, 4, 262), (257, 5, 263), (257, 6, 264)]
/-- kinds and references of the class's own cells (the shop and what is permuted apart) -/
def CKK (K : Nat → Nat × Nat) (R : Nat → Nat → Option Nat) : Prop := (∀ e ∈ ckK, K e.1 = e.2) ∧ ∀ e ∈ ckR, R e.1 e.2.1 = some e.2.2
section Own
variable {h : AH}
theorem ck_128 (H : CKK (hK h) (hR h)) : hK h 128 = (0, 0) := H.1 (128, 0, 0) (List.mem_of_getElem? (i := 0) rfl)
theorem ci_128 {k : Nat} (H : CKK (hK h) (hR h)) : gI 0 k (some 128) h = some (hI h 128 k) := gI_e (ck_128 H)
theorem bci_128 {β : Type} {f : Int32 → Option β} {k : Nat} (H : CKK (hK h) (hR h)) : (gI 0 k (some 128) h).bind f = f (hI h 128 k) := by rw [ci_128 H]; rfl
theorem cp_128 {k : Nat} {v : Int32} (H : CKK (hK h) (hR h)) : pI 0 k (some 128) v h = some (wI 128 k v h) := pI_e (ck_128 H) (by decide)
theorem bcp_128 {β : Type} {f : AH → Option β} {k : Nat} {v : Int32} (H : CKK (hK h) (hR h)) : (pI 0 k (some 128) v h).bind f = f (wI 128 k v h) := by rw [cp_128 H]; rfl
theorem co_128 (H : CKK (hK h) (hR h)) : isO 0 (some 128) h = some (128) := isO_e (ck_128 H)
theorem bco_128 {β : Type} {f : Nat → Option β} (H : CKK (hK h) (hR h)) : (isO 0 (some 128) h).bind f = f (128) := by rw [co_128 H]; rfl
theorem ck_140 (H : CKK (hK h) (hR h)) : hK h 140 = (101, 1600) := H.1 (140, 101, 1600) (List.mem_of_getElem? (i := 1) rfl)
theorem cx_140 {n : Nat} (H : CKK (hK h) (hR h)) (hn : n < 1600) : xI 101 (some 140) (nI n) h = some (hI h 140 n) := xI_e (ck_140 H) hn (by decide)
theorem bcx_140 {β : Type} {f : Int32 → Option β} {n : Nat} (H : CKK (hK h) (hR h)) (hn : n < 1600) : (xI 101 (some 140) (nI n) h).bind f = f (hI h 140 n) := by rw [cx_140 H hn]; rfl
theorem cs_140 {n : Nat} {v : Int32} (H : CKK (hK h) (hR h)) (hn : n < 1600) : sI 101 (some 140) (nI n) v h = some (wI 140 n v h) := sI_e (ck_140 H) (by decide) hn (by decide)
theorem bcs_140 {β : Type} {f : AH → Option β} {n : Nat} {v : Int32} (H : CKK (hK h) (hR h)) (hn : n < 1600) : (sI 101 (some 140) (nI n) v h).bind f = f (wI 140 n v h) := by rw [cs_140 H hn]; rfl
theorem cxl_140 {n : Nat} (H : CKK (hK h) (hR h)) (hn : (OfNat.ofNat n : Nat) < 1600) : xI 101 (some 140) (no_index (OfNat.ofNat n)) h = some (hI h 140 (OfNat.ofNat n)) := cx_140 H hn
theorem bcxl_140 {β : Type} {f : Int32 → Option β} {n : Nat} (H : CKK (hK h) (hR h)) (hn : (OfNat.ofNat n : Nat) < 1600) : (xI 101 (some 140) (no_index (OfNat.ofNat n)) h).bind f = f (hI h 140 (OfNat.ofNat n)) := by rw [cxl_140 H hn]; rfl
theorem csl_140 {n : Nat} {v : Int32} (H : CKK (hK h) (hR h)) (hn : (OfNat.ofNat n : Nat) < 1600) : sI 101 (some 140) (no_index (OfNat.ofNat n)) v h = some (wI 140 (OfNat.ofNat n) v h) := cs_140 H hn
theorem bcsl_140 {β : Type} {f : AH → Option β} {n : Nat} {v : Int32} (H : CKK (hK h) (hR h)) (hn : (OfNat.ofNat n : Nat) < 1600) : (sI 101 (some 140) (no_index (OfNat.ofNat n)) v h).bind f = f (wI 140 (OfNat.ofNat n) v h) := by rw [csl_140 H hn]; rfl
theorem ck_141 (H : CKK (hK h) (hR h)) : hK h 141 = (2, 0) := H.1 (141, 2, 0) (List.mem_of_getElem? (i := 2) rfl)
theorem ci_141 {k : Nat} (H : CKK (hK h) (hR h)) : gI 2 k (some 141) h = some (hI h 141 k) := gI_e (ck_141 H)
theorem bci_141 {β : Type} {f : Int32 → Option β} {k : Nat} (H : CKK (hK h) (hR h)) : (gI 2 k (some 141) h).bind f = f (hI h 141 k) := by rw [ci_141 H]; rfl
theorem cp_141 {k : Nat} {v : Int32} (H : CKK (hK h) (hR h)) : pI 2 k (some 141) v h = some (wI 141 k v h) := pI_e (ck_141 H) (by decide)
theorem bcp_141 {β : Type} {f : AH → Option β} {k : Nat} {v : Int32} (H : CKK (hK h) (hR h)) : (pI 2 k (some 141) v h).bind f = f (wI 141 k v h) := by rw [cp_141 H]; rfl
theorem co_141 (H : CKK (hK h) (hR h)) : isO 2 (some 141) h = some (141) := isO_e (ck_141 H)
theorem bco_141 {β : Type} {f : Nat → Option β} (H : CKK (hK h) (hR h)) : (isO 2 (some 141) h).bind f = f (141) := by rw [co_141 H]; rfl
theorem ck_142 (H : CKK (hK h) (hR h)) : hK h 142 = (3, 0) := H.1 (142, 3, 0) (List.mem_of_getElem? (i := 3) rfl)
theorem ci_142 {k : Nat} (H : CKK (hK h) (hR h)) : gI 3 k (some 142) h = some (hI h 142 k) := gI_e (ck_142 H)
theorem bci_142 {β : Type} {f : Int32 → Option β} {k : Nat} (H : CKK (hK h) (hR h)) : (gI 3 k (some 142) h).bind f = f (hI h 142 k) := by rw [ci_142 H]; rfl
theorem cp_142 {k : Nat} {v : Int32} (H : CKK (hK h) (hR h)) : pI 3 k (some 142) v h = some (wI 142 k v h) := pI_e (ck_142 H) (by decide)
theorem bcp_142 {β : Type} {f : AH → Option β} {k : Nat} {v : Int32} (H : CKK (hK h) (hR h)) : (pI 3 k (some 142) v h).bind f = f (wI 142 k v h) := by rw [cp_142 H]; rfl
theorem co_142 (H : CKK (hK h) (hR h)) : isO 3 (some 142) h = some (142) := isO_e (ck_142 H)
theorem bco_142 {β : Type} {f : Nat → Option β} (H : CKK (hK h) (hR h)) : (isO 3 (some 142) h).bind f = f (142) := by rw [co_142 H]; rfl
theorem ck_143 (H : CKK (hK h) (hR h)) : hK h 143 = (4, 0) := H.1 (143, 4, 0) (List.mem_of_getElem? (i := 4) rfl)
theorem ci_143 {k : Nat} (H : CKK (hK h) (hR h)) : gI 4 k (some 143) h = some (hI h 143 k) := gI_e (ck_143 H)
theorem bci_143 {β : Type} {f : Int32 → Option β} {k : Nat} (H : CKK (hK h) (hR h)) : (gI 4 k (some 143) h).bind f = f (hI h 143 k) := by rw [ci_143 H]; rfl
theorem cp_143 {k : Nat} {v : Int32} (H : CKK (hK h) (hR h)) : pI 4 k (some 143) v h = some (wI 143 k v h) := pI_e (ck_143 H) (by decide)
theorem bcp_143 {β : Type} {f : AH → Option β} {k : Nat} {v : Int32} (H : CKK (hK h) (hR h)) : (pI 4 k (some 143) v h).bind f = f (wI 143 k v h) := by rw [cp_143 H]; rfl
theorem co_143 (H : CKK (hK h) (hR h)) : isO 4 (some 143) h = some (143) := isO_e (ck_143 H)
theorem bco_143 {β : Type} {f : Nat → Option β} (H : CKK (hK h) (hR h)) : (isO 4 (some 143) h).bind f = f (143) := by rw [co_143 H]; rfl
theorem ck_144 (H : CKK (hK h) (hR h)) : hK h 144 = (103, 10) := H.1 (144, 103, 10) (List.mem_of_getElem? (i := 5) rfl)
theorem cx_144 {n : Nat} (H : CKK (hK h) (hR h)) (hn : n < 10) : xL 103 (some 144) (nI n) h = some (hL h 144 n) := xL_e (ck_144 H) hn (by decide)
theorem bcx_144 {β : Type} {f : Int64 → Option β} {n : Nat} (H : CKK (hK h) (hR h)) (hn : n < 10) : (xL 103 (some 144) (nI n) h).bind f = f (hL h 144 n) := by rw [cx_144 H hn]; rfl
theorem cs_144 {n : Nat} {v : Int64} (H : CKK (hK h) (hR h)) (hn : n < 10) : sL 103 (some 144) (nI n) v h = some (wL 144 n v h) := sL_e (ck_144 H) (by decide) hn (by decide)
theorem bcs_144 {β : Type} {f : AH → Option β} {n : Nat} {v : Int64} (H : CKK (hK h) (hR h)) (hn : n < 10) : (sL 103 (some 144) (nI n) v h).bind f = f (wL 144 n v h) := by rw [cs_144 H hn]; rfl
theorem cxl_144 {n : Nat} (H : CKK (hK h) (hR h)) (hn : (OfNat.ofNat n : Nat) < 10) : xL 103 (some 144) (no_index (OfNat.ofNat n)) h = some (hL h 144 (OfNat.ofNat n)) := cx_144 H hn
theorem bcxl_144 {β : Type} {f : Int64 → Option β} {n : Nat} (H : CKK (hK h) (hR h)) (hn : (OfNat.ofNat n : Nat) < 10) : (xL 103 (some 144) (no_index (OfNat.ofNat n)) h).bind f = f (hL h 144 (OfNat.ofNat n)) := by rw [cxl_144 H hn]; rfl
theorem csl_144 {n : Nat} {v : Int64} (H : CKK (hK h) (hR h)) (hn : (OfNat.ofNat n : Nat) < 10) : sL 103 (some 144) (no_index (OfNat.ofNat n)) v h = some (wL 144 (OfNat.ofNat n) v h) := cs_144 H hn
theorem bcsl_144 {β : Type} {f : AH → Option β} {n : Nat} {v : Int64} (H : CKK (hK h) (hR h)) (hn : (OfNat.ofNat n : Nat) < 10) : (sL 103 (some 144) (no_index (OfNat.ofNat n)) v h).bind f = f (wL 144 (OfNat.ofNat n) v h) := by rw [csl_144 H hn]; rfl
theorem ck_145 (H : CKK (hK h) (hR h)) : hK h 145 = (4, 0) := H.1 (145, 4, 0) (List.mem_of_getElem? (i := 6) rfl)
theorem ci_145 {k : Nat} (H : CKK (hK h) (hR h)) : gI 4 k (some 145) h = some (hI h 145 k) := gI_e (ck_145 H)
theorem bci_145 {β : Type} {f : Int32 → Option β} {k : Nat} (H : CKK (hK h) (hR h)) : (gI 4 k (some 145) h).bind f = f (hI h 145 k) := by rw [ci_145 H]; rfl
theorem cp_145 {k : Nat} {v : Int32} (H : CKK (hK h) (hR h)) : pI 4 k (some 145) v h = some (wI 145 k v h) := pI_e (ck_145 H) (by decide)
theorem bcp_145 {β : Type} {f : AH → Option β} {k : Nat} {v : Int32} (H : CKK (hK h) (hR h)) : (pI 4 k (some 145) v h).bind f = f (wI 145 k v h) := by rw [cp_145 H]; rfl
theorem co_145 (H : CKK (hK h) (hR h)) : isO 4 (some 145) h = some (145) := isO_e (ck_145 H)
theorem bco_145 {β : Type} {f : Nat → Option β} (H : CKK (hK h) (hR h)) : (isO 4 (some 145) h).bind f = f (145) := by rw [co_145 H]; rfl
theorem ck_146 (H : CKK (hK h) (hR h)) : hK h 146 = (103, 10) := H.1 (146, 103, 10) (List.mem_of_getElem? (i := 7) rfl)
theorem cx_146 {n : Nat} (H : CKK (hK h) (hR h)) (hn : n < 10) : xL 103 (some 146) (nI n) h = some (hL h 146 n) := xL_e (ck_146 H) hn (by decide)
theorem bcx_146 {β : Type} {f : Int64 → Option β} {n : Nat} (H : CKK (hK h) (hR h)) (hn : n < 10) : (xL 103 (some 146) (nI n) h).bind f = f (hL h 146 n) := by rw [cx_146 H hn]; rfl
theorem cs_146 {n : Nat} {v : Int64} (H : CKK (hK h) (hR h)) (hn : n < 10) : sL 103 (some 146) (nI n) v h = some (wL 146 n v h) := sL_e (ck_146 H) (by decide) hn (by decide)
theorem bcs_146 {β : Type} {f : AH → Option β} {n : Nat} {v : Int64} (H : CKK (hK h) (hR h)) (hn : n < 10) : (sL 103 (some 146) (nI n) v h).bind f = f (wL 146 n v h) := by rw [cs_146 H hn]; rfl
theorem cxl_146 {n : Nat} (H : CKK (hK h) (hR h)) (hn : (OfNat.ofNat n : Nat) < 10) : xL 103 (some 146) (no_index (OfNat.ofNat n)) h = some (hL h 146 (OfNat.ofNat n)) := cx_146 H hn
theorem bcxl_146 {β : Type} {f : Int64 → Option β} {n : Nat} (H : CKK (hK h) (hR h)) (hn : (OfNat.ofNat n : Nat) < 10) : (xL 103 (some 146) (no_index (OfNat.ofNat n)) h).bind f = f (hL h 146 (OfNat.ofNat n)) := by rw [cxl_146 H hn]; rfl
theorem csl_146 {n : Nat} {v : Int64} (H : CKK (hK h) (hR h)) (hn : (OfNat.ofNat n : Nat) < 10) : sL 103 (some 146) (no_index (OfNat.ofNat n)) v h = some (wL 146 (OfNat.ofNat n) v h) := cs_146 H hn
theorem bcsl_146 {β : Type} {f : AH → Option β} {n : Nat} {v : Int64} (H : CKK (hK h) (hR h)) (hn : (OfNat.ofNat n : Nat) < 10) : (sL 103 (some 146) (no_index (OfNat.ofNat n)) v h).bind f = f (wL 146 (OfNat.ofNat n) v h) := by rw [csl_146 H hn]; rfl
theorem ck_147 (H : CKK (hK h) (hR h)) : hK h 147 = (100, 6) := H.1 (147, 100, 6) (List.mem_of_getElem? (i := 8) rfl)
theorem cx_147 {n : Nat} (H : CKK (hK h) (hR h)) (hn : n < 6) : xI 100 (some 147) (nI n) h = some (hI h 147 n) := xI_e (ck_147 H) hn (by decide)
theorem bcx_147 {β : Type} {f : Int32 → Option β} {n : Nat} (H : CKK (hK h) (hR h)) (hn : n < 6) : (xI 100 (some 147) (nI n) h).bind f = f (hI h 147 n) := by rw [cx_147 H hn]; rfl
theorem cs_147 {n : Nat} {v : Int32} (H : CKK (hK h) (hR h)) (hn : n < 6) : sI 100 (some 147) (nI n) v h = some (wI 147 n v h) := sI_e (ck_147 H) (by decide) hn (by decide)
theorem bcs_147 {β : Type} {f : AH → Option β} {n : Nat} {v : Int32} (H : CKK (hK h) (hR h)) (hn : n < 6) : (sI 100 (some 147) (nI n) v h).bind f = f (wI 147 n v h) := by rw [cs_147 H hn]; rfl
theorem cxl_147 {n : Nat} (H : CKK (hK h) (hR h)) (hn : (OfNat.ofNat n : Nat) < 6) : xI 100 (some 147) (no_index (OfNat.ofNat n)) h = some (hI h 147 (OfNat.ofNat n)) := cx_147 H hn
theorem bcxl_147 {β : Type} {f : Int32 → Option β} {n : Nat} (H : CKK (hK h) (hR h)) (hn : (OfNat.ofNat n : Nat) < 6) : (xI 100 (some 147) (no_index (OfNat.ofNat n)) h).bind f = f (hI h 147 (OfNat.ofNat n)) := by rw [cxl_147 H hn]; rfl
theorem csl_147 {n : Nat} {v : Int32} (H : CKK (hK h) (hR h)) (hn : (OfNat.ofNat n : Nat) < 6) : sI 100 (some 147) (no_index (OfNat.ofNat n)) v h = some (wI 147 (OfNat.ofNat n) v h) := cs_147 H hn
theorem bcsl_147 {β : Type} {f : AH → Option β} {n : Nat} {v : Int32} (H : CKK (hK h) (hR h)) (hn : (OfNat.ofNat n : Nat) < 6) : (sI 100 (some 147) (no_index (OfNat.ofNat n)) v h).bind f = f (wI 147 (OfNat.ofNat n) v h) := by rw [csl_147 H hn]; rfl
theorem ck_256 (H : CKK (hK h) (hR h)) : hK h 256 = (6, 0) := H.1 (256, 6, 0) (List.mem_of_getElem? (i := 9) rfl)
theorem ci_256 {k : Nat} (H : CKK (hK h) (hR h)) : gI 6 k (some 256) h = some (hI h 256 k) := gI_e (ck_256 H)
theorem bci_256 {β : Type} {f : Int32 → Option β} {k : Nat} (H : CKK (hK h) (hR h)) : (gI 6 k (some 256) h).bind f = f (hI h 256 k) := by rw [ci_256 H]; rfl
theorem cp_256 {k : Nat} {v : Int32} (H : CKK (hK h) (hR h)) : pI 6 k (some 256) v h = some (wI 256 k v h) := pI_e (ck_256 H) (by decide)
theorem bcp_256 {β : Type} {f : AH → Option β} {k : Nat} {v : Int32} (H : CKK (hK h) (hR h)) : (pI 6 k (some 256) v h).bind f = f (wI 256 k v h) := by rw [cp_256 H]; rfl
theorem co_256 (H : CKK (hK h) (hR h)) : isO 6 (some 256) h = some (256) := isO_e (ck_256 H)
theorem bco_256 {β : Type} {f : Nat → Option β} (H : CKK (hK h) (hR h)) : (isO 6 (some 256) h).bind f = f (256) := by rw [co_256 H]; rfl
theorem ck_257 (H : CKK (hK h) (hR h)) : hK h 257 = (106, 7) := H.1 (257, 106, 7) (List.mem_of_getElem? (i := 10) rfl)
theorem ck_258 (H : CKK (hK h) (hR h)) : hK h 258 = (100, 7) := H.1 (258, 100, 7) (List.mem_of_getElem? (i := 11) rfl)
theorem cx_258 {n : Nat} (H : CKK (hK h) (hR h)) (hn : n < 7) : xI 100 (some 258) (nI n) h = some (hI h 258 n) := xI_e (ck_258 H) hn (by decide)
theorem bcx_258 {β : Type} {f : Int32 → Option β} {n : Nat} (H : CKK (hK h) (hR h)) (hn : n < 7) : (xI 100 (some 258) (nI n) h).bind f = f (hI h 258 n) := by rw [cx_258 H hn]; rfl
theorem cs_258 {n : Nat} {v : Int32} (H : CKK (hK h) (hR h)) (hn : n < 7) : sI 100 (some 258) (nI n) v h = some (wI 258 n v h) := sI_e (ck_258 H) (by decide) hn (by decide)
theorem bcs_258 {β : Type} {f : AH → Option β} {n : Nat} {v : Int32} (H : CKK (hK h) (hR h)) (hn : n < 7) : (sI 100 (some 258) (nI n) v h).bind f = f (wI 258 n v h) := by rw [cs_258 H hn]; rfl
theorem cxl_258 {n : Nat} (H : CKK (hK h) (hR h)) (hn : (OfNat.ofNat n : Nat) < 7) : xI 100 (some 258) (no_index (OfNat.ofNat n)) h = some (hI h 258 (OfNat.ofNat n)) := cx_258 H hn
theorem bcxl_258 {β : Type} {f : Int32 → Option β} {n : Nat} (H : CKK (hK h) (hR h)) (hn : (OfNat.ofNat n : Nat) < 7) : (xI 100 (some 258) (no_index (OfNat.ofNat n)) h).bind f = f (hI h 258 (OfNat.ofNat n)) := by rw [cxl_258 H hn]; rfl
theorem csl_258 {n : Nat} {v : Int32} (H : CKK (hK h) (hR h)) (hn : (OfNat.ofNat n : Nat) < 7) : sI 100 (some 258) (no_index (OfNat.ofNat n)) v h = some (wI 258 (OfNat.ofNat n) v h) := cs_258 H hn
theorem bcsl_258 {β : Type} {f : AH → Option β} {n : Nat} {v : Int32} (H : CKK (hK h) (hR h)) (hn : (OfNat.ofNat n : Nat) < 7) : (sI 100 (some 258) (no_index (OfNat.ofNat n)) v h).bind f = f (wI 258 (OfNat.ofNat n) v h) := by rw [csl_258 H hn]; rfl
theorem ck_259 (H : CKK (hK h) (hR h)) : hK h 259 = (100, 7) := H.1 (259, 100, 7) (List.mem_of_getElem? (i := 12) rfl)
theorem cx_259 {n : Nat} (H : CKK (hK h) (hR h)) (hn : n < 7) : xI 100 (some 259) (nI n) h = some (hI h 259 n) := xI_e (ck_259 H) hn (by decide)
theorem bcx_259 {β : Type} {f : Int32 → Option β} {n : Nat} (H : CKK (hK h) (hR h)) (hn : n < 7) : (xI 100 (some 259) (nI n) h).bind f = f (hI h 259 n) := by rw [cx_259 H hn]; rfl
theorem cs_259 {n : Nat} {v : Int32} (H : CKK (hK h) (hR h)) (hn : n < 7) : sI 100 (some 259) (nI n) v h = some (wI 259 n v h) := sI_e (ck_259 H) (by decide) hn (by decide)
theorem bcs_259 {β : Type} {f : AH → Option β} {n : Nat} {v : Int32} (H : CKK (hK h) (hR h)) (hn : n < 7) : (sI 100 (some 259) (nI n) v h).bind f = f (wI 259 n v h) := by rw [cs_259 H hn]; rfl
theorem cxl_259 {n : Nat} (H : CKK (hK h) (hR h)) (hn : (OfNat.ofNat n : Nat) < 7) : xI 100 (some 259) (no_index (OfNat.ofNat n)) h = some (hI h 259 (OfNat.ofNat n)) := cx_259 H hn
theorem bcxl_259 {β : Type} {f : Int32 → Option β} {n : Nat} (H : CKK (hK h) (hR h)) (hn : (OfNat.ofNat n : Nat) < 7) : (xI 100 (some 259) (no_index (OfNat.ofNat n)) h).bind f = f (hI h 259 (OfNat.ofNat n)) := by rw [cxl_259 H hn]; rfl
theorem csl_259 {n : Nat} {v : Int32} (H : CKK (hK h) (hR h)) (hn : (OfNat.ofNat n : Nat) < 7) : sI 100 (some 259) (no_index (OfNat.ofNat n)) v h = some (wI 259 (OfNat.ofNat n) v h) := cs_259 H hn
theorem bcsl_259 {β : Type} {f : AH → Option β} {n : Nat} {v : Int32} (H : CKK (hK h) (hR h)) (hn : (OfNat.ofNat n : Nat) < 7) : (sI 100 (some 259) (no_index (OfNat.ofNat n)) v h).bind f = f (wI 259 (OfNat.ofNat n) v h) := by rw [csl_259 H hn]; rfl
theorem ck_260 (H : CKK (hK h) (hR h)) : hK h 260 = (100, 7) := H.1 (260, 100, 7) (List.mem_of_getElem? (i := 13) rfl)
theorem cx_260 {n : Nat} (H : CKK (hK h) (hR h)) (hn : n < 7) : xI 100 (some 260) (nI n) h = some (hI h 260 n) := xI_e (ck_260 H) hn (by decide)
theorem bcx_260 {β : Type} {f : Int32 → Option β} {n : Nat} (H : CKK (hK h) (hR h)) (hn : n < 7) : (xI 100 (some 260) (nI n) h).bind f = f (hI h 260 n) := by rw [cx_260 H hn]; rfl
theorem cs_260 {n : Nat} {v : Int32} (H : CKK (hK h) (hR h)) (hn : n < 7) : sI 100 (some 260) (nI n) v h = some (wI 260 n v h) := sI_e (ck_260 H) (by decide) hn (by decide)
theorem bcs_260 {β : Type} {f : AH → Option β} {n : Nat} {v : Int32} (H : CKK (hK h) (hR h)) (hn : n < 7) : (sI 100 (some 260) (nI n) v h).bind f = f (wI 260 n v h) := by rw [cs_260 H hn]; rfl
theorem cxl_260 {n : Nat} (H : CKK (hK h) (hR h)) (hn : (OfNat.ofNat n : Nat) < 7) : xI 100 (some 260) (no_index (OfNat.ofNat n)) h = some (hI h 260 (OfNat.ofNat n)) := cx_260 H hn
theorem bcxl_260 {β : Type} {f : Int32 → Option β} {n : Nat} (H : CKK (hK h) (hR h)) (hn : (OfNat.ofNat n : Nat) < 7) : (xI 100 (some 260) (no_index (OfNat.ofNat n)) h).bind f = f (hI h 260 (OfNat.ofNat n)) := by rw [cxl_260 H hn]; rfl
theorem csl_260 {n : Nat} {v : Int32} (H : CKK (hK h) (hR h)) (hn : (OfNat.ofNat n : Nat) < 7) : sI 100 (some 260) (no_index (OfNat.ofNat n)) v h = some (wI 260 (OfNat.ofNat n) v h) := cs_260 H hn
theorem bcsl_260 {β : Type} {f : AH → Option β} {n : Nat} {v : Int32} (H : CKK (hK h) (hR h)) (hn : (OfNat.ofNat n : Nat) < 7) : (sI 100 (some 260) (no_index (OfNat.ofNat n)) v h).bind f = f (wI 260 (OfNat.ofNat n) v h) := by rw [csl_260 H hn]; rfl
theorem ck_261 (H : CKK (hK h) (hR h)) : hK h 261 = (100, 7) := H.1 (261, 100, 7) (List.mem_of_getElem? (i := 14) rfl)
theorem cx_261 {n : Nat} (H : CKK (hK h) (hR h)) (hn : n < 7) : xI 100 (some 261) (nI n) h = some (hI h 261 n) := xI_e (ck_261 H) hn (by decide)
theorem bcx_261 {β : Type} {f : Int32 → Option β} {n : Nat} (H : CKK (hK h) (hR h)) (hn : n < 7) : (xI 100 (some 261) (nI n) h).bind f = f (hI h 261 n) := by rw [cx_261 H hn]; rfl
theorem cs_261 {n : Nat} {v : Int32} (H : CKK (hK h) (hR h)) (hn : n < 7) : sI 100 (some 261) (nI n) v h = some (wI 261 n v h) := sI_e (ck_261 H) (by decide) hn (by decide)
theorem bcs_261 {β : Type} {f : AH → Option β} {n : Nat} {v : Int32} (H : CKK (hK h) (hR h)) (hn : n < 7) : (sI 100 (some 261) (nI n) v h).bind f = f (wI 261 n v h) := by rw [cs_261 H hn]; rfl
theorem cxl_261 {n : Nat} (H : CKK (hK h) (hR h)) (hn : (OfNat.ofNat n : Nat) < 7) : xI 100 (some 261) (no_index (OfNat.ofNat n)) h = some (hI h 261 (OfNat.ofNat n)) := cx_261 H hn
theorem bcxl_261 {β : Type} {f : Int32 → Option β} {n : Nat} (H : CKK (hK h) (hR h)) (hn : (OfNat.ofNat n : Nat) < 7) : (xI 100 (some 261) (no_index (OfNat.ofNat n)) h).bind f = f (hI h 261 (OfNat.ofNat n)) := by rw [cxl_261 H hn]; rfl
theorem csl_261 {n : Nat} {v : Int32} (H : CKK (hK h) (hR h)) (hn : (OfNat.ofNat n : Nat) < 7) : sI 100 (some 261) (no_index (OfNat.ofNat n)) v h = some (wI 261 (OfNat.ofNat n) v h) := cs_261 H hn
theorem bcsl_261 {β : Type} {f : AH → Option β} {n : Nat} {v : Int32} (H : CKK (hK h) (hR h)) (hn : (OfNat.ofNat n : Nat) < 7) : (sI 100 (some 261) (no_index (OfNat.ofNat n)) v h).bind f = f (wI 261 (OfNat.ofNat n) v h) := by rw [csl_261 H hn]; rfl
theorem ck_262 (H : CKK (hK h) (hR h)) : hK h 262 = (100, 7) := H.1 (262, 100, 7) (List.mem_of_getElem? (i := 15) rfl)
theorem cx_262 {n : Nat} (H : CKK (hK h) (hR h)) (hn : n < 7) : xI 100 (some 262) (nI n) h = some (hI h 262 n) := xI_e (ck_262 H) hn (by decide)
theorem bcx_262 {β : Type} {f : Int32 → Option β} {n : Nat} (H : CKK (hK h) (hR h)) (hn : n < 7) : (xI 100 (some 262) (nI n) h).bind f = f (hI h 262 n) := by rw [cx_262 H hn]; rfl
theorem cs_262 {n : Nat} {v : Int32} (H : CKK (hK h) (hR h)) (hn : n < 7) : sI 100 (some 262) (nI n) v h = some (wI 262 n v h) := sI_e (ck_262 H) (by decide) hn (by decide)
theorem bcs_262 {β : Type} {f : AH → Option β} {n : Nat} {v : Int32} (H : CKK (hK h) (hR h)) (hn : n < 7) : (sI 100 (some 262) (nI n) v h).bind f = f (wI 262 n v h) := by rw [cs_262 H hn]; rfl
theorem cxl_262 {n : Nat} (H : CKK (hK h) (hR h)) (hn : (OfNat.ofNat n : Nat) < 7) : xI 100 (some 262) (no_index (OfNat.ofNat n)) h = some (hI h 262 (OfNat.ofNat n)) := cx_262 H hn
theorem bcxl_262 {β : Type} {f : Int32 → Option β} {n : Nat} (H : CKK (hK h) (hR h)) (hn : (OfNat.ofNat n : Nat) < 7) : (xI 100 (some 262) (no_index (OfNat.ofNat n)) h).bind f = f (hI h 262 (OfNat.ofNat n)) := by rw [cxl_262 H hn]; rfl
theorem csl_262 {n : Nat} {v : Int32} (H : CKK (hK h) (hR h)) (hn : (OfNat.ofNat n : Nat) < 7) : sI 100 (some 262) (no_index (OfNat.ofNat n)) v h = some (wI 262 (OfNat.ofNat n) v h) := cs_262 H hn
theorem bcsl_262 {β : Type} {f : AH → Option β} {n : Nat} {v : Int32} (H : CKK (hK h) (hR h)) (hn : (OfNat.ofNat n : Nat) < 7) : (sI 100 (some 262) (no_index (OfNat.ofNat n)) v h).bind f = f (wI 262 (OfNat.ofNat n) v h) := by rw [csl_262 H hn]; rfl
theorem ck_263 (H : CKK (hK h) (hR h)) : hK h 263 = (100, 7) := H.1 (263, 100, 7) (List.mem_of_getElem? (i := 16) rfl)
theorem cx_263 {n : Nat} (H : CKK (hK h) (hR h)) (hn : n < 7) : xI 100 (some 263) (nI n) h = some (hI h 263 n) := xI_e (ck_263 H) hn (by decide)
theorem bcx_263 {β : Type} {f : Int32 → Option β} {n : Nat} (H : CKK (hK h) (hR h)) (hn : n < 7) : (xI 100 (some 263) (nI n) h).bind f = f (hI h 263 n) := by rw [cx_263 H hn]; rfl
theorem cs_263 {n : Nat} {v : Int32} (H : CKK (hK h) (hR h)) (hn : n < 7) : sI 100 (some 263) (nI n) v h = some (wI 263 n v h) := sI_e (ck_263 H) (by decide) hn (by decide)
theorem bcs_263 {β : Type} {f : AH → Option β} {n : Nat} {v : Int32} (H : CKK (hK h) (hR h)) (hn : n < 7) : (sI 100 (some 263) (nI n) v h).bind f = f (wI 263 n v h) := by rw [cs_263 H hn]; rfl
theorem cxl_263 {n : Nat} (H : CKK (hK h) (hR h)) (hn : (OfNat.ofNat n : Nat) < 7) : xI 100 (some 263) (no_index (OfNat.ofNat n)) h = some (hI h 263 (OfNat.ofNat n)) := cx_263 H hn
theorem bcxl_263 {β : Type} {f : Int32 → Option β} {n : Nat} (H : CKK (hK h) (hR h)) (hn : (OfNat.ofNat n : Nat) < 7) : (xI 100 (some 263) (no_index (OfNat.ofNat n)) h).bind f = f (hI h 263 (OfNat.ofNat n)) := by rw [cxl_263 H hn]; rfl
theorem csl_263 {n : Nat} {v : Int32} (H : CKK (hK h) (hR h)) (hn : (OfNat.ofNat n : Nat) < 7) : sI 100 (some 263) (no_index (OfNat.ofNat n)) v h = some (wI 263 (OfNat.ofNat n) v h) := cs_263 H hn
theorem bcsl_263 {β : Type} {f : AH → Option β} {n : Nat} {v : Int32} (H : CKK (hK h) (hR h)) (hn : (OfNat.ofNat n : Nat) < 7) : (sI 100 (some 263) (no_index (OfNat.ofNat n)) v h).bind f = f (wI 263 (OfNat.ofNat n) v h) := by rw [csl_263 H hn]; rfl
theorem ck_264 (H : CKK (hK h) (hR h)) : hK h 264 = (100, 7) := H.1 (264, 100, 7) (List.mem_of_getElem? (i := 17) rfl)
theorem cx_264 {n : Nat} (H : CKK (hK h) (hR h)) (hn : n < 7) : xI 100 (some 264) (nI n) h = some (hI h 264 n) := xI_e (ck_264 H) hn (by decide)
theorem bcx_264 {β : Type} {f : Int32 → Option β} {n : Nat} (H : CKK (hK h) (hR h)) (hn : n < 7) : (xI 100 (some 264) (nI n) h).bind f = f (hI h 264 n) := by rw [cx_264 H hn]; rfl
theorem cs_264 {n : Nat} {v : Int32} (H : CKK (hK h) (hR h)) (hn : n < 7) : sI 100 (some 264) (nI n) v h = some (wI 264 n v h) := sI_e (ck_264 H) (by decide) hn (by decide)
theorem bcs_264 {β : Type} {f : AH → Option β} {n : Nat} {v : Int32} (H : CKK (hK h) (hR h)) (hn : n < 7) : (sI 100 (some 264) (nI n) v h).bind f = f (wI 264 n v h) := by rw [cs_264 H hn]; rfl
theorem cxl_264 {n : Nat} (H : CKK (hK h) (hR h)) (hn : (OfNat.ofNat n : Nat) < 7) : xI 100 (some 264) (no_index (OfNat.ofNat n)) h = some (hI h 264 (OfNat.ofNat n)) := cx_264 H hn
theorem bcxl_264 {β : Type} {f : Int32 → Option β} {n : Nat} (H : CKK (hK h) (hR h)) (hn : (OfNat.ofNat n : Nat) < 7) : (xI 100 (some 264) (no_index (OfNat.ofNat n)) h).bind f = f (hI h 264 (OfNat.ofNat n)) := by rw [cxl_264 H hn]; rfl
theorem csl_264 {n : Nat} {v : Int32} (H : CKK (hK h) (hR h)) (hn : (OfNat.ofNat n : Nat) < 7) : sI 100 (some 264) (no_index (OfNat.ofNat n)) v h = some (wI 264 (OfNat.ofNat n) v h) := cs_264 H hn
theorem bcsl_264 {β : Type} {f : AH → Option β} {n : Nat} {v : Int32} (H : CKK (hK h) (hR h)) (hn : (OfNat.ofNat n : Nat) < 7) : (sI 100 (some 264) (no_index (OfNat.ofNat n)) v h).bind f = f (wI 264 (OfNat.ofNat n) v h) := by rw [csl_264 H hn]; rfl
theorem ck_265 (H : CKK (hK h) (hR h)) : hK h 265 = (100, 12) := H.1 (265, 100, 12) (List.mem_of_getElem? (i := 18) rfl)
theorem cx_265 {n : Nat} (H : CKK (hK h) (hR h)) (hn : n < 12) : xI 100 (some 265) (nI n) h = some (hI h 265 n) := xI_e (ck_265 H) hn (by decide)
theorem bcx_265 {β : Type} {f : Int32 → Option β} {n : Nat} (H : CKK (hK h) (hR h)) (hn : n < 12) : (xI 100 (some 265) (nI n) h).bind f = f (hI h 265 n) := by rw [cx_265 H hn]; rfl
theorem cs_265 {n : Nat} {v : Int32} (H : CKK (hK h) (hR h)) (hn : n < 12) : sI 100 (some 265) (nI n) v h = some (wI 265 n v h) := sI_e (ck_265 H) (by decide) hn (by decide)
theorem bcs_265 {β : Type} {f : AH → Option β} {n : Nat} {v : Int32} (H : CKK (hK h) (hR h)) (hn : n < 12) : (sI 100 (some 265) (nI n) v h).bind f = f (wI 265 n v h) := by rw [cs_265 H hn]; rfl
theorem cxl_265 {n : Nat} (H : CKK (hK h) (hR h)) (hn : (OfNat.ofNat n : Nat) < 12) : xI 100 (some 265) (no_index (OfNat.ofNat n)) h = some (hI h 265 (OfNat.ofNat n)) := cx_265 H hn
theorem bcxl_265 {β : Type} {f : Int32 → Option β} {n : Nat} (H : CKK (hK h) (hR h)) (hn : (OfNat.ofNat n : Nat) < 12) : (xI 100 (some 265) (no_index (OfNat.ofNat n)) h).bind f = f (hI h 265 (OfNat.ofNat n)) := by rw [cxl_265 H hn]; rfl
theorem csl_265 {n : Nat} {v : Int32} (H : CKK (hK h) (hR h)) (hn : (OfNat.ofNat n : Nat) < 12) : sI 100 (some 265) (no_index (OfNat.ofNat n)) v h = some (wI 265 (OfNat.ofNat n) v h) := cs_265 H hn
theorem bcsl_265 {β : Type} {f : AH → Option β} {n : Nat} {v : Int32} (H : CKK (hK h) (hR h)) (hn : (OfNat.ofNat n : Nat) < 12) : (sI 100 (some 265) (no_index (OfNat.ofNat n)) v h).bind f = f (wI 265 (OfNat.ofNat n) v h) := by rw [csl_265 H hn]; rfl
theorem ck_266 (H : CKK (hK h) (hR h)) : hK h 266 = (100, 12) := H.1 (266, 100, 12) (List.mem_of_getElem? (i := 19) rfl)
theorem cx_266 {n : Nat} (H : CKK (hK h) (hR h)) (hn : n < 12) : xI 100 (some 266) (nI n) h = some (hI h 266 n) := xI_e (ck_266 H) hn (by decide)
theorem bcx_266 {β : Type} {f : Int32 → Option β} {n : Nat} (H : CKK (hK h) (hR h)) (hn : n < 12) : (xI 100 (some 266) (nI n) h).bind f = f (hI h 266 n) := by rw [cx_266 H hn]; rfl
theorem cs_266 {n : Nat} {v : Int32} (H : CKK (hK h) (hR h)) (hn : n < 12) : sI 100 (some 266) (nI n) v h = some (wI 266 n v h) := sI_e (ck_266 H) (by decide) hn (by decide)
theorem bcs_266 {β : Type} {f : AH → Option β} {n : Nat} {v : Int32} (H : CKK (hK h) (hR h)) (hn : n < 12) : (sI 100 (some 266) (nI n) v h).bind f = f (wI 266 n v h) := by rw [cs_266 H hn]; rfl
theorem cxl_266 {n : Nat} (H : CKK (hK h) (hR h)) (hn : (OfNat.ofNat n : Nat) < 12) : xI 100 (some 266) (no_index (OfNat.ofNat n)) h = some (hI h 266 (OfNat.ofNat n)) := cx_266 H hn
theorem bcxl_266 {β : Type} {f : Int32 → Option β} {n : Nat} (H : CKK (hK h) (hR h)) (hn : (OfNat.ofNat n : Nat) < 12) : (xI 100 (some 266) (no_index (OfNat.ofNat n)) h).bind f = f (hI h 266 (OfNat.ofNat n)) := by rw [cxl_266 H hn]; rfl
theorem csl_266 {n : Nat} {v : Int32} (H : CKK (hK h) (hR h)) (hn : (OfNat.ofNat n : Nat) < 12) : sI 100 (some 266) (no_index (OfNat.ofNat n)) v h = some (wI 266 (OfNat.ofNat n) v h) := cs_266 H hn
theorem bcsl_266 {β : Type} {f : AH → Option β} {n : Nat} {v : Int32} (H : CKK (hK h) (hR h)) (hn : (OfNat.ofNat n : Nat) < 12) : (sI 100 (some 266) (no_index (OfNat.ofNat n)) v h).bind f = f (wI 266 (OfNat.ofNat n) v h) := by rw [csl_266 H hn]; rfl
theorem ck_267 (H : CKK (hK h) (hR h)) : hK h 267 = (107, 20) := H.1 (267, 107, 20) (List.mem_of_getElem? (i := 20) rfl)
theorem ck_1348 (H : CKK (hK h) (hR h)) : hK h 1348 = (101, 59) := H.1 (1348, 101, 59) (List.mem_of_getElem? (i := 21) rfl)
theorem cx_1348 {n : Nat} (H : CKK (hK h) (hR h)) (hn : n < 59) : xI 101 (some 1348) (nI n) h = some (hI h 1348 n) := xI_e (ck_1348 H) hn (by decide)
theorem bcx_1348 {β : Type} {f : Int32 → Option β} {n : Nat} (H : CKK (hK h) (hR h)) (hn : n < 59) : (xI 101 (some 1348) (nI n) h).bind f = f (hI h 1348 n) := by rw [cx_1348 H hn]; rfl
theorem cs_1348 {n : Nat} {v : Int32} (H : CKK (hK h) (hR h)) (hn : n < 59) : sI 101 (some 1348) (nI n) v h = some (wI 1348 n v h) := sI_e (ck_1348 H) (by decide) hn (by decide)
theorem bcs_1348 {β : Type} {f : AH → Option β} {n : Nat} {v : Int32} (H : CKK (hK h) (hR h)) (hn : n < 59) : (sI 101 (some 1348) (nI n) v h).bind f = f (wI 1348 n v h) := by rw [cs_1348 H hn]; rfl
theorem cxl_1348 {n : Nat} (H : CKK (hK h) (hR h)) (hn : (OfNat.ofNat n : Nat) < 59) : xI 101 (some 1348) (no_index (OfNat.ofNat n)) h = some (hI h 1348 (OfNat.ofNat n)) := cx_1348 H hn
theorem bcxl_1348 {β : Type} {f : Int32 → Option β} {n : Nat} (H : CKK (hK h) (hR h)) (hn : (OfNat.ofNat n : Nat) < 59) : (xI 101 (some 1348) (no_index (OfNat.ofNat n)) h).bind f = f (hI h 1348 (OfNat.ofNat n)) := by rw [cxl_1348 H hn]; rfl
theorem csl_1348 {n : Nat} {v : Int32} (H : CKK (hK h) (hR h)) (hn : (OfNat.ofNat n : Nat) < 59) : sI 101 (some 1348) (no_index (OfNat.ofNat n)) v h = some (wI 1348 (OfNat.ofNat n) v h) := cs_1348 H hn
theorem bcsl_1348 {β : Type} {f : AH → Option β} {n : Nat} {v : Int32} (H : CKK (hK h) (hR h)) (hn : (OfNat.ofNat n : Nat) < 59) : (sI 101 (some 1348) (no_index (OfNat.ofNat n)) v h).bind f = f (wI 1348 (OfNat.ofNat n) v h) := by rw [csl_1348 H hn]; rfl
theorem cg_128_1 (H : CKK (hK h) (hR h)) : gR 0 1 (some 128) h = some (some 140) := (gR_e (ck_128 H)).trans (congrArg some (H.2 (128, 1, 140) (List.mem_of_getElem? (i := 0) rfl)))
theorem bcg_128_1 {β : Type} {f : Option Nat → Option β} (H : CKK (hK h) (hR h)) : (gR 0 1 (some 128) h).bind f = f (some 140) := by rw [cg_128_1 H]; rfl
theorem cg_128_5 (H : CKK (hK h) (hR h)) : gR 0 5 (some 128) h = some (some 141) := (gR_e (ck_128 H)).trans (congrArg some (H.2 (128, 5, 141) (List.mem_of_getElem? (i := 1) rfl)))
theorem bcg_128_5 {β : Type} {f : Option Nat → Option β} (H : CKK (hK h) (hR h)) : (gR 0 5 (some 128) h).bind f = f (some 141) := by rw [cg_128_5 H]; rfl
theorem cg_128_6 (H : CKK (hK h) (hR h)) : gR 0 6 (some 128) h = some (some 143) := (gR_e (ck_128 H)).trans (congrArg some (H.2 (128, 6, 143) (List.mem_of_getElem? (i := 2) rfl)))
theorem bcg_128_6 {β : Type} {f : Option Nat → Option β} (H : CKK (hK h) (hR h)) : (gR 0 6 (some 128) h).bind f = f (some 143) := by rw [cg_128_6 H]; rfl
theorem cg_128_7 (H : CKK (hK h) (hR h)) : gR 0 7 (some 128) h = some (some 145) := (gR_e (ck_128 H)).trans (congrArg some (H.2 (128, 7, 145) (List.mem_of_getElem? (i := 3) rfl)))
theorem bcg_128_7 {β : Type} {f : Option Nat → Option β} (H : CKK (hK h) (hR h)) : (gR 0 7 (some 128) h).bind f = f (some 145) := by rw [cg_128_7 H]; rfl
theorem cg_128_8 (H : CKK (hK h) (hR h)) : gR 0 8 (some 128) h = some (some 147) := (gR_e (ck_128 H)).trans (congrArg some (H.2 (128, 8, 147) (List.mem_of_getElem? (i := 4) rfl)))
theorem bcg_128_8 {β : Type} {f : Option Nat → Option β} (H : CKK (hK h) (hR h)) : (gR 0 8 (some 128) h).bind f = f (some 147) := by rw [cg_128_8 H]; rfl
theorem cg_128_9 (H : CKK (hK h) (hR h)) : gR 0 9 (some 128) h = some (some 148) := (gR_e (ck_128 H)).trans (congrArg some (H.2 (128, 9, 148) (List.mem_of_getElem? (i := 5) rfl)))
theorem bcg_128_9 {β : Type} {f : Option Nat → Option β} (H : CKK (hK h) (hR h)) : (gR 0 9 (some 128) h).bind f = f (some 148) := by rw [cg_128_9 H]; rfl
theorem cg_128_10 (H : CKK (hK h) (hR h)) : gR 0 10 (some 128) h = some (some 202) := (gR_e (ck_128 H)).trans (congrArg some (H.2 (128, 10, 202) (List.mem_of_getElem? (i := 6) rfl)))
theorem bcg_128_10 {β : Type} {f : Option Nat → Option β} (H : CKK (hK h) (hR h)) : (gR 0 10 (some 128) h).bind f = f (some 202) := by rw [cg_128_10 H]; rfl
theorem cg_128_11 (H : CKK (hK h) (hR h)) : gR 0 11 (some 128) h = some (some 256) := (gR_e (ck_128 H)).trans (congrArg some (H.2 (128, 11, 256) (List.mem_of_getElem? (i := 7) rfl)))
theorem bcg_128_11 {β : Type} {f : Option Nat → Option β} (H : CKK (hK h) (hR h)) : (gR 0 11 (some 128) h).bind f = f (some 256) := by rw [cg_128_11 H]; rfl
theorem cg_128_12 (H : CKK (hK h) (hR h)) : gR 0 12 (some 128) h = some (some 267) := (gR_e (ck_128 H)).trans (congrArg some (H.2 (128, 12, 267) (List.mem_of_getElem? (i := 8) rfl)))
theorem bcg_128_12 {β : Type} {f : Option Nat → Option β} (H : CKK (hK h) (hR h)) : (gR 0 12 (some 128) h).bind f = f (some 267) := by rw [cg_128_12 H]; rfl
theorem cg_128_16 (H : CKK (hK h) (hR h)) : gR 0 16 (some 128) h = some (some 1348) := (gR_e (ck_128 H)).trans (congrArg some (H.2 (128, 16, 1348) (List.mem_of_getElem? (i := 9) rfl)))
theorem bcg_128_16 {β : Type} {f : Option Nat → Option β} (H : CKK (hK h) (hR h)) : (gR 0 16 (some 128) h).bind f = f (some 1348) := by rw [cg_128_16 H]; rfl
theorem cg_141_0 (H : CKK (hK h) (hR h)) : gR 2 0 (some 141) h = some (some 142) := (gR_e (ck_141 H)).trans (congrArg some (H.2 (141, 0, 142) (List.mem_of_getElem? (i := 10) rfl)))
theorem bcg_141_0 {β : Type} {f : Option Nat → Option β} (H : CKK (hK h) (hR h)) : (gR 2 0 (some 141) h).bind f = f (some 142) := by rw [cg_141_0 H]; rfl
theorem cg_141_7 (H : CKK (hK h) (hR h)) : gR 2 7 (some 141) h = some (some 128) := (gR_e (ck_141 H)).trans (congrArg some (H.2 (141, 7, 128) (List.mem_of_getElem? (i := 11) rfl)))
theorem bcg_141_7 {β : Type} {f : Option Nat → Option β} (H : CKK (hK h) (hR h)) : (gR 2 7 (some 141) h).bind f = f (some 128) := by rw [cg_141_7 H]; rfl
theorem cg_143_0 (H : CKK (hK h) (hR h)) : gR 4 0 (some 143) h = some (some 144) := (gR_e (ck_143 H)).trans (congrArg some (H.2 (143, 0, 144) (List.mem_of_getElem? (i := 12) rfl)))
theorem bcg_143_0 {β : Type} {f : Option Nat → Option β} (H : CKK (hK h) (hR h)) : (gR 4 0 (some 143) h).bind f = f (some 144) := by rw [cg_143_0 H]; rfl
theorem cg_145_0 (H : CKK (hK h) (hR h)) : gR 4 0 (some 145) h = some (some 146) := (gR_e (ck_145 H)).trans (congrArg some (H.2 (145, 0, 146) (List.mem_of_getElem? (i := 13) rfl)))
theorem bcg_145_0 {β : Type} {f : Option Nat → Option β} (H : CKK (hK h) (hR h)) : (gR 4 0 (some 145) h).bind f = f (some 146) := by rw [cg_145_0 H]; rfl
theorem cg_256_6 (H : CKK (hK h) (hR h)) : gR 6 6 (some 256) h = some (some 257) := (gR_e (ck_256 H)).trans (congrArg some (H.2 (256, 6, 257) (List.mem_of_getElem? (i := 14) rfl)))
theorem bcg_256_6 {β : Type} {f : Option Nat → Option β} (H : CKK (hK h) (hR h)) : (gR 6 6 (some 256) h).bind f = f (some 257) := by rw [cg_256_6 H]; rfl
theorem cg_256_7 (H : CKK (hK h) (hR h)) : gR 6 7 (some 256) h = some (some 265) := (gR_e (ck_256 H)).trans (congrArg some (H.2 (256, 7, 265) (List.mem_of_getElem? (i := 15) rfl)))
theorem bcg_256_7 {β : Type} {f : Option Nat → Option β} (H : CKK (hK h) (hR h)) : (gR 6 7 (some 256) h).bind f = f (some 265) := by rw [cg_256_7 H]; rfl
theorem cg_256_8 (H : CKK (hK h) (hR h)) : gR 6 8 (some 256) h = some (some 266) := (gR_e (ck_256 H)).trans (congrArg some (H.2 (256, 8, 266) (List.mem_of_getElem? (i := 16) rfl)))
theorem bcg_256_8 {β : Type} {f : Option Nat → Option β} (H : CKK (hK h) (hR h)) : (gR 6 8 (some 256) h).bind f = f (some 266) := by rw [cg_256_8 H]; rfl
theorem cg_256_9 (H : CKK (hK h) (hR h)) : gR 6 9 (some 256) h = some (some 128) := (gR_e (ck_256 H)).trans (congrArg some (H.2 (256, 9, 128) (List.mem_of_getElem? (i := 17) rfl)))
theorem bcg_256_9 {β : Type} {f : Option Nat → Option β} (H : CKK (hK h) (hR h)) : (gR 6 9 (some 256) h).bind f = f (some 128) := by rw [cg_256_9 H]; rfl
theorem CKI {a k : Nat} {v : Int32} (H : CKK (hK h) (hR h)) : CKK (hK (wI a k v h)) (hR (wI a k v h)) := H
theorem CKL {a k : Nat} {v : Int64} (H : CKK (hK h) (hR h)) : CKK (hK (wL a k v h)) (hR (wL a k v h)) := H
end Own
