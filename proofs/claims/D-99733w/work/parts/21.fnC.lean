set_option maxRecDepth 100000
noncomputable def J0_init (a0 : Nat) (h : AH) : Option (AH) :=
(nn (some a0)).bind fun v1 =>
some (h)
noncomputable def J1_init (a0 : Nat) (h : AH) : Option (AH) :=
(nn (some a0)).bind fun a => (J0_init a h).bind fun h1 =>
(pI 23 0 (some a0) 0 h1).bind fun h2 =>
some (h2)
noncomputable def J10_compress_2_3b (x0 : Option Nat) (x2 : Option Nat) (x4 : Int32) (x1 : Int32) (x3 : Int32) (x5 : Int32) (h : AH) : Option ((Int32 × Int32 × Int32 × AH) ⊕ (Int32 × AH)) :=
if x5 < x4 then ((xI 102 x0 x1 h).bind fun v1 =>
if 255 < v1 then (some (.inr ((x5, h)))) else ((sI 101 x2 x3 (nB (ji2b v1)) h).bind fun h2 =>
some (.inl ((x1 + 1), (x3 + 1), (x5 + 1), h2)))) else (some (.inr ((x4, h))))
noncomputable def J10_compress_2_3 (x0 : Option Nat) (x1 : Int32) (x2 : Option Nat) (x3 : Int32) (x4 : Int32) (x5 : Int32) (h : AH) : Option (Int32 × AH) := loopC (fun s : Int32 × Int32 × Int32 × AH => J10_compress_2_3b x0 x2 x4 s.1 s.2.1 s.2.2.1 s.2.2.2) (x1, x3, x5, h)
noncomputable def J10_compress_2 (x0 : Option Nat) (x1 : Int32) (x2 : Option Nat) (x3 : Int32) (x4 : Int32) (h : AH) : Option (Int32 × AH) :=
J10_compress_2_3 x0 x1 x2 x3 x4 0 h
noncomputable def J10_length (x0 : Option Nat) (h : AH) : Option (Int32 × AH) :=
(aln x0 h).bind fun v1 =>
some (((jshr v1 1), h))
noncomputable def J11_checkFromIndexSize_15 (x0 : Int32) (x1 : Int32) (x2 : Int32) (x3 : Option Nat) (h : AH) : Option (Int32 × AH) :=
none
noncomputable def J11_checkFromIndexSize (x0 : Int32) (x1 : Int32) (x2 : Int32) (x3 : Option Nat) (h : AH) : Option (Int32 × AH) :=
if ((x2 ||| x0) ||| x1) < 0 then (J11_checkFromIndexSize_15 x0 x1 x2 x3 h) else (if (x2 - x0) < x1 then (J11_checkFromIndexSize_15 x0 x1 x2 x3 h) else (some ((x0, h))))
noncomputable def J9_checkBoundsOffCount (x0 : Int32) (x1 : Int32) (x2 : Int32) (h : AH) : Option (Int32 × AH) :=
b2 (J11_checkFromIndexSize x0 x1 x2 (hR h 120 13) h) fun v1 h2 =>
some ((v1, h2))
noncomputable def J10_checkBoundsOffCount (x0 : Int32) (x1 : Int32) (x2 : Option Nat) (h : AH) : Option (AH) :=
b2 (J10_length x2 h) fun v1 h2 =>
b2 (J9_checkBoundsOffCount x0 x1 v1 h2) fun v3 h4 =>
some (h4)
noncomputable def J10_getChar_18  (h : AH) : Option (Int32 × AH) :=
none
noncomputable def J10_getChar_28 (x0 : Option Nat) (x1 : Int32) (h : AH) : Option (Int32 × AH) :=
(xI 101 x0 (jshl x1 1) h).bind fun v1 =>
(xI 101 x0 ((jshl x1 1) + 1) h).bind fun v2 =>
b2 (rC (ji2c ((jshl (v1 &&& 255) (hI h 120 2)) ||| (jshl (v2 &&& 255) (hI h 120 3)))) h) fun v3 h4 => some ((v3, h4))
noncomputable def J10_getChar (x0 : Option Nat) (x1 : Int32) (h : AH) : Option (Int32 × AH) :=
if (hI h 120 1) = 0 then (if x1 < 0 then (J10_getChar_18 h) else (b2 (J10_length x0 h) fun v5 h6 =>
if x1 < v5 then (J10_getChar_28 x0 x1 h6) else (J10_getChar_18 h6))) else (J10_getChar_28 x0 x1 h)
noncomputable def J10_compress_3_10b (x0 : Option Nat) (x2 : Option Nat) (x4 : Int32) (x1 : Int32) (x3 : Int32) (x5 : Int32) (h : AH) : Option ((Int32 × Int32 × Int32 × AH) ⊕ (Int32 × AH)) :=
if x5 < x4 then (b2 (J10_getChar x0 x1 h) fun v1 h2 =>
if 255 < v1 then (some (.inr ((x5, h2)))) else ((sI 101 x2 x3 (nB (ji2b v1)) h2).bind fun h3 =>
some (.inl ((x1 + 1), (x3 + 1), (x5 + 1), h3)))) else (some (.inr ((x4, h))))
noncomputable def J10_compress_3_10 (x0 : Option Nat) (x1 : Int32) (x2 : Option Nat) (x3 : Int32) (x4 : Int32) (x5 : Int32) (h : AH) : Option (Int32 × AH) := loopC (fun s : Int32 × Int32 × Int32 × AH => J10_compress_3_10b x0 x2 x4 s.1 s.2.1 s.2.2.1 s.2.2.2) (x1, x3, x5, h)
noncomputable def J10_compress_3 (x0 : Option Nat) (x1 : Int32) (x2 : Option Nat) (x3 : Int32) (x4 : Int32) (h : AH) : Option (Int32 × AH) :=
(J10_checkBoundsOffCount x1 x4 x0 h).bind fun h4 =>
J10_compress_3_10 x0 x1 x2 x3 x4 0 h4
noncomputable def J10_newBytesLength (x0 : Int32) (h : AH) : Option (Int32 × AH) :=
if x0 < 0 then (none) else (if x0 < 1073741823 then (some (((jshl x0 1), h))) else (none))
noncomputable def J10_newBytesFor (x0 : Int32) (h : AH) : Option (Option Nat × AH) :=
b2 (J10_newBytesLength x0 h) fun v1 h2 =>
b2 (newA 101 v1 h2) fun v3 h4 =>
some ((v3, h4))
noncomputable def J10_putChar_18  (h : AH) : Option (AH) :=
none
noncomputable def J10_putChar_28 (x0 : Option Nat) (x1 : Int32) (x2 : Int32) (h : AH) : Option (AH) :=
(sI 101 x0 (jshl x1 1) (nB (ji2b (jshr x2 (hI h 120 2)))) h).bind fun h1 =>
(sI 101 x0 ((jshl x1 1) + 1) (nB (ji2b (jshr x2 (hI h1 120 3)))) h1).bind fun h2 =>
some (h2)
noncomputable def J10_putChar (x0 : Option Nat) (x1 : Int32) (x2 : Int32) (h : AH) : Option (AH) :=
if (hI h 120 1) = 0 then (if x1 < 0 then (J10_putChar_18 h) else (b2 (J10_length x0 h) fun v3 h4 =>
if x1 < v3 then (J10_putChar_28 x0 x1 x2 h4) else (J10_putChar_18 h4))) else (J10_putChar_28 x0 x1 x2 h)
noncomputable def J10_toBytes_8b (x0 : Option Nat) (x2 : Int32) (x3 : Option Nat) (x1 : Int32) (x4 : Int32) (h : AH) : Option ((Int32 × Int32 × AH) ⊕ (Option Nat × AH)) :=
if x4 < x2 then ((xI 102 x0 x1 h).bind fun v1 =>
(J10_putChar x3 x4 v1 h).bind fun h2 =>
some (.inl ((x1 + 1), (x4 + 1), h2))) else (some (.inr ((x3, h))))
noncomputable def J10_toBytes_8 (x0 : Option Nat) (x1 : Int32) (x2 : Int32) (x3 : Option Nat) (x4 : Int32) (h : AH) : Option (Option Nat × AH) := loopC (fun s : Int32 × Int32 × AH => J10_toBytes_8b x0 x2 x3 s.1 s.2.1 s.2.2) (x1, x4, h)
noncomputable def J10_toBytes (x0 : Option Nat) (x1 : Int32) (x2 : Int32) (h : AH) : Option (Option Nat × AH) :=
b2 (J10_newBytesFor x2 h) fun v3 h4 =>
J10_toBytes_8 x0 x1 x2 v3 0 h4
noncomputable def J10_compress (x0 : Option Nat) (x1 : Int32) (x2 : Int32) (h : AH) : Option (Option Nat × AH) :=
b2 (newA 101 x2 h) fun v1 h2 =>
b2 (J10_compress_2 x0 x1 v1 0 x2 h2) fun v3 h4 =>
if v3 = x2 then (some ((v1, h4))) else (b2 (J10_toBytes x0 x1 x2 h4) fun v5 h6 =>
b2 (J10_getChar v5 v3 h6) fun v7 h8 =>
if 255 < v7 then (some ((v5, h8))) else (b2 (J10_compress_3 v5 0 v1 0 x2 h8) fun v9 h10 =>
if v9 = x2 then (some ((v1, h10))) else (some ((v5, h10)))))
noncomputable def J10_coderFromArrayLen (x0 : Option Nat) (x1 : Int32) (h : AH) : Option (Int32 × AH) :=
(aln x0 h).bind fun v1 =>
b2 (rz (ji2b (jushr (x1 - v1) 31)) h) fun v2 h3 => some ((v2, h3))
noncomputable def J3_hashCode_2_8b (x1 : Option Nat) (x4 : Int32) (x0 : Int32) (x5 : Int32) (h : AH) : Option ((Int32 × Int32 × AH) ⊕ (Int32 × AH)) :=
if x5 < x4 then ((xI 101 x1 x5 h).bind fun v1 =>
some (.inl (((31 * x0) + v1), (x5 + 1), h))) else (some (.inr ((x0, h))))
noncomputable def J3_hashCode_2_8 (x0 : Int32) (x1 : Option Nat) (x4 : Int32) (x5 : Int32) (h : AH) : Option (Int32 × AH) := loopC (fun s : Int32 × Int32 × AH => J3_hashCode_2_8b x1 x4 s.1 s.2.1 s.2.2) (x0, x5, h)
noncomputable def J3_hashCode_2 (x0 : Int32) (x1 : Option Nat) (x2 : Int32) (x3 : Int32) (h : AH) : Option (Int32 × AH) :=
J3_hashCode_2_8 x0 x1 (x2 + x3) x2 h
noncomputable def J3_signedHashCode_8b (x1 : Option Nat) (x4 : Int32) (x0 : Int32) (x5 : Int32) (h : AH) : Option ((Int32 × Int32 × AH) ⊕ (Int32 × AH)) :=
if x5 < x4 then ((xI 101 x1 x5 h).bind fun v1 =>
some (.inl (((31 * x0) + (v1 &&& 255)), (x5 + 1), h))) else (some (.inr ((x0, h))))
noncomputable def J3_signedHashCode_8 (x0 : Int32) (x1 : Option Nat) (x4 : Int32) (x5 : Int32) (h : AH) : Option (Int32 × AH) := loopC (fun s : Int32 × Int32 × AH => J3_signedHashCode_8b x1 x4 s.1 s.2.1 s.2.2) (x0, x5, h)
noncomputable def J3_signedHashCode (x0 : Int32) (x1 : Option Nat) (x2 : Int32) (x3 : Int32) (h : AH) : Option (Int32 × AH) :=
J3_signedHashCode_8 x0 x1 (x2 + x3) x2 h
noncomputable def J3_utf16hashCode (x0 : Int32) (x1 : Option Nat) (x2 : Int32) (x3 : Int32) (h : AH) : Option (Int32 × AH) :=
if x2 < (x2 + x3) then (none) else (some ((x0, h)))
noncomputable def J3_vectorizedHashCode_129  (h : AH) : Option (Int32 × AH) :=
none
noncomputable def J3_vectorizedHashCode (x0 : Option Nat) (x1 : Int32) (x2 : Int32) (x3 : Int32) (x4 : Int32) (h : AH) : Option (Int32 × AH) :=
if x4 = 4 then ((cst [101] x0 h).bind fun _ =>
b2 (J3_signedHashCode x3 x0 x1 x2 h) fun v2 h3 =>
some ((v2, h3))) else (if x4 = 5 then ((inst [101] x0 h).bind fun v5 =>
if v5 = 0 then (none) else ((cst [101] x0 h).bind fun _ =>
b2 (J3_utf16hashCode x3 x0 x1 x2 h) fun v6 h7 =>
some ((v6, h7)))) else (if x4 = 6 then (J3_vectorizedHashCode_129 h) else (if x4 = 7 then (J3_vectorizedHashCode_129 h) else (if x4 = 8 then ((cst [101] x0 h).bind fun _ =>
b2 (J3_hashCode_2 x3 x0 x1 x2 h) fun v11 h12 =>
some ((v11, h12))) else (if x4 = 9 then (none) else (if x4 = 10 then (none) else (J3_vectorizedHashCode_129 h)))))))
noncomputable def J10_hashCode (x0 : Option Nat) (h : AH) : Option (Int32 × AH) :=
(aln x0 h).bind fun v1 =>
if v1 = 0 then (some ((0, h))) else (if v1 = 2 then (b2 (J10_getChar x0 0 h) fun v4 h5 =>
some ((v4, h5))) else ((aln x0 h).bind fun v6 =>
b2 (J3_vectorizedHashCode x0 0 (jshr v6 1) 0 5 h) fun v7 h8 =>
some ((v7, h8))))
noncomputable def J11_checkIndex_9 (x0 : Int32) (x1 : Int32) (x2 : Option Nat) (h : AH) : Option (Int32 × AH) :=
none
noncomputable def J11_checkIndex (x0 : Int32) (x1 : Int32) (x2 : Option Nat) (h : AH) : Option (Int32 × AH) :=
if x0 < 0 then (J11_checkIndex_9 x0 x1 x2 h) else (if x0 < x1 then (some ((x0, h))) else (J11_checkIndex_9 x0 x1 x2 h))
noncomputable def J9_checkIndex (x0 : Int32) (x1 : Int32) (h : AH) : Option (AH) :=
b2 (J11_checkIndex x0 x1 (hR h 120 13) h) fun v1 h2 =>
some (h2)
noncomputable def J10_checkIndex (x0 : Int32) (x1 : Option Nat) (h : AH) : Option (AH) :=
b2 (J10_length x1 h) fun v1 h2 =>
(J9_checkIndex x0 v1 h2).bind fun h3 =>
some (h3)
noncomputable def J10_charAt (x0 : Option Nat) (x1 : Int32) (h : AH) : Option (Int32 × AH) :=
(J10_checkIndex x1 x0 h).bind fun h1 =>
b2 (J10_getChar x0 x1 h1) fun v2 h3 =>
b2 (rC v2 h3) fun v4 h5 => some ((v4, h5))
noncomputable def J10_inflate_10b (x0 : Option Nat) (x2 : Option Nat) (x4 : Int32) (x1 : Int32) (x3 : Int32) (x5 : Int32) (h : AH) : Option ((Int32 × Int32 × Int32 × AH) ⊕ (AH)) :=
if x5 < x4 then ((xI 101 x0 x1 h).bind fun v1 =>
(J10_putChar x2 x3 (v1 &&& 255) h).bind fun h2 =>
some (.inl ((x1 + 1), (x3 + 1), (x5 + 1), h2))) else (some (.inr (h)))
noncomputable def J10_inflate_10 (x0 : Option Nat) (x1 : Int32) (x2 : Option Nat) (x3 : Int32) (x4 : Int32) (x5 : Int32) (h : AH) : Option (AH) := loopC (fun s : Int32 × Int32 × Int32 × AH => J10_inflate_10b x0 x2 x4 s.1 s.2.1 s.2.2.1 s.2.2.2) (x1, x3, x5, h)
noncomputable def J10_inflate (x0 : Option Nat) (x1 : Int32) (x2 : Option Nat) (x3 : Int32) (x4 : Int32) (h : AH) : Option (AH) :=
(J10_checkBoundsOffCount x3 x4 x2 h).bind fun h3 =>
J10_inflate_10 x0 x1 x2 x3 x4 0 h3
noncomputable def J10_putCharSB (x0 : Option Nat) (x1 : Int32) (x2 : Int32) (h : AH) : Option (AH) :=
(J10_checkIndex x1 x0 h).bind fun h1 =>
(J10_putChar x0 x1 x2 h1).bind fun h2 =>
some (h2)
noncomputable def J12_hashCode (x0 : Option Nat) (h : AH) : Option (Int32 × AH) :=
(aln x0 h).bind fun v1 =>
if v1 = 0 then (some ((0, h))) else (if v1 = 1 then ((xI 101 x0 0 h).bind fun v4 =>
some (((v4 &&& 255), h))) else ((aln x0 h).bind fun v5 =>
b2 (J3_vectorizedHashCode x0 0 v5 0 4 h) fun v6 h7 =>
some ((v6, h7))))
noncomputable def J12_equals_9b (x0 : Option Nat) (x1 : Option Nat) (x2 : Int32) (h : AH) : Option ((Int32 × AH) ⊕ (Int32 × AH)) :=
(aln x0 h).bind fun v1 =>
if x2 < v1 then ((xI 101 x0 x2 h).bind fun v2 =>
(xI 101 x1 x2 h).bind fun v3 =>
if v2 = v3 then (some (.inl ((x2 + 1), h))) else (some (.inr ((0, h))))) else (some (.inr ((1, h))))
noncomputable def J12_equals_9 (x0 : Option Nat) (x1 : Option Nat) (x2 : Int32) (h : AH) : Option (Int32 × AH) := loopC (fun s : Int32 × AH => J12_equals_9b x0 x1 s.1 s.2) (x2, h)
noncomputable def J12_equals (x0 : Option Nat) (x1 : Option Nat) (h : AH) : Option (Int32 × AH) :=
(aln x0 h).bind fun v4 =>
(aln x1 h).bind fun v5 =>
if v4 = v5 then (J12_equals_9 x0 x1 0 h) else (some ((0, h)))
noncomputable def J12_charAt (x0 : Option Nat) (x1 : Int32) (h : AH) : Option (Int32 × AH) :=
(aln x0 h).bind fun v1 =>
(J9_checkIndex x1 v1 h).bind fun h2 =>
(xI 101 x0 x1 h2).bind fun v3 =>
b2 (rC (ji2c (v3 &&& 255)) h2) fun v4 h5 => some ((v4, h5))
noncomputable def J12_canEncode (x0 : Int32) (h : AH) : Option (Int32 × AH) :=
if 255 < x0 then (some ((0, h))) else (some ((1, h)))
noncomputable def J12_inflate (x0 : Option Nat) (x1 : Int32) (x2 : Option Nat) (x3 : Int32) (x4 : Int32) (h : AH) : Option (AH) :=
(J10_inflate x0 x1 x2 x3 x4 h).bind fun h1 =>
some (h1)
noncomputable def J13_checkIndex (x0 : Int32) (x1 : Int32) (h : AH) : Option (Int32 × AH) :=
b2 (J11_checkIndex x0 x1 none h) fun v1 h2 =>
some ((v1, h2))
noncomputable def J14_init (a0 : Nat) (x1 : Int32) (h : AH) : Option (AH) :=
(nn (some a0)).bind fun v1 =>
if (hI h 120 0) = 0 then (b2 (J10_newBytesFor x1 h) fun v2 h3 =>
(pR 25 0 (some a0) v2 h3).bind fun h4 =>
(pZ 25 1 (some a0) 1 h4).bind fun h5 =>
some (h5)) else (b2 (newA 101 x1 h) fun v6 h7 =>
(pR 25 0 (some a0) v6 h7).bind fun h8 =>
(pZ 25 1 (some a0) 0 h8).bind fun h9 =>
some (h9))
noncomputable def J3_hugeLength (x0 : Int32) (x1 : Int32) (h : AH) : Option (Int32 × AH) :=
if (x0 + x1) < 0 then (none) else (if 2147483639 < (x0 + x1) then (some (((x0 + x1), h))) else (some ((2147483639, h))))
noncomputable def J4_max (x0 : Int32) (x1 : Int32) (h : AH) : Option (Int32 × AH) :=
if x0 < x1 then (some ((x1, h))) else (some ((x0, h)))
noncomputable def J3_newLength_21 (x0 : Int32) (x1 : Int32) (h : AH) : Option (Int32 × AH) :=
b2 (J3_hugeLength x0 x1 h) fun v1 h2 =>
some ((v1, h2))
noncomputable def J3_newLength (x0 : Int32) (x1 : Int32) (x2 : Int32) (h : AH) : Option (Int32 × AH) :=
b2 (J4_max x1 x2 h) fun v3 h4 =>
if 0 < (x0 + v3) then (if 2147483639 < (x0 + v3) then (J3_newLength_21 x0 x1 h4) else (some (((x0 + v3), h4)))) else (J3_newLength_21 x0 x1 h4)
noncomputable def J14_newCapacity (a0 : Nat) (x1 : Int32) (h : AH) : Option (Int32 × AH) :=
(gR 25 0 (some a0) h).bind fun v1 =>
(aln v1 h).bind fun v2 =>
(gI 25 1 (some a0) h).bind fun v3 =>
(gI 25 1 (some a0) h).bind fun v4 =>
b2 (J3_newLength v2 ((jshl x1 v3) - v2) (v2 + (jshl 2 v4)) h) fun v5 h6 =>
if v5 = 2147483647 then (none) else ((gI 25 1 (some a0) h6).bind fun v7 =>
some (((jshr v5 v7), h6)))
noncomputable def J4_min (x0 : Int32) (x1 : Int32) (h : AH) : Option (Int32 × AH) :=
if x1 < x0 then (some ((x1, h))) else (some ((x0, h)))
noncomputable def J5_copyOf_3 (x0 : Option Nat) (x1 : Int32) (h : AH) : Option (Option Nat × AH) :=
(aln x0 h).bind fun v1 =>
if x1 = v1 then (none) else (b2 (newA 101 x1 h) fun v2 h3 =>
(aln x0 h3).bind fun v4 =>
b2 (J4_min v4 x1 h3) fun v5 h6 =>
(acpB x0 0 v2 0 v5 h6).bind fun h7 =>
some ((v2, h7)))
noncomputable def J14_ensureCapacityInternal (a0 : Nat) (x1 : Int32) (h : AH) : Option (AH) :=
(gR 25 0 (some a0) h).bind fun v1 =>
(aln v1 h).bind fun v2 =>
(gI 25 1 (some a0) h).bind fun v3 =>
if 0 < (x1 - (jshr v2 v3)) then ((gR 25 0 (some a0) h).bind fun v4 =>
(isO 25 (some a0) h).bind fun a => b2 (J14_newCapacity a x1 h) fun v5 h6 =>
(gI 25 1 (some a0) h6).bind fun v7 =>
b2 (J5_copyOf_3 v4 (jshl v5 v7) h6) fun v8 h9 =>
(pR 25 0 (some a0) v8 h9).bind fun h10 =>
some (h10)) else (some (h))
noncomputable def J14_isLatin1 (a0 : Nat) (h : AH) : Option (Int32 × AH) :=
if (hI h 120 0) = 0 then (some ((0, h))) else ((gI 25 1 (some a0) h).bind fun v1 =>
if v1 = 0 then (some ((1, h))) else (some ((0, h))))
noncomputable def J14_inflate (a0 : Nat) (h : AH) : Option (AH) :=
(isO 25 (some a0) h).bind fun a => b2 (J14_isLatin1 a h) fun v1 h2 =>
if v1 = 0 then (some (h2)) else ((gR 25 0 (some a0) h2).bind fun v3 =>
(aln v3 h2).bind fun v4 =>
b2 (J10_newBytesFor v4 h2) fun v5 h6 =>
(gR 25 0 (some a0) h6).bind fun v7 =>
(gI 25 3 (some a0) h6).bind fun v8 =>
(J12_inflate v7 0 v5 0 v8 h6).bind fun h9 =>
(pR 25 0 (some a0) v5 h9).bind fun h10 =>
(pZ 25 1 (some a0) 1 h10).bind fun h11 =>
some (h11))
noncomputable def J14_append_56 (a0 : Nat) (x1 : Int32) (h : AH) : Option (Option Nat × AH) :=
(gR 25 0 (some a0) h).bind fun v1 =>
(gI 25 3 (some a0) h).bind fun v2 =>
(pI 25 3 (some a0) (v2 + 1) h).bind fun h3 =>
(J10_putCharSB v1 v2 x1 h3).bind fun h4 =>
some (((some a0), h4))
noncomputable def J14_append_45 (a0 : Nat) (x1 : Int32) (h : AH) : Option (Option Nat × AH) :=
(isO 25 (some a0) h).bind fun a => b2 (J14_isLatin1 a h) fun v5 h6 =>
if v5 = 0 then (J14_append_56 a0 x1 h6) else ((isO 25 (some a0) h6).bind fun a => (J14_inflate a h6).bind fun h7 =>
J14_append_56 a0 x1 h7)
noncomputable def J14_append (a0 : Nat) (x1 : Int32) (h : AH) : Option (Option Nat × AH) :=
(gI 25 3 (some a0) h).bind fun v8 =>
(isO 25 (some a0) h).bind fun a => (J14_ensureCapacityInternal a (v8 + 1) h).bind fun h9 =>
(isO 25 (some a0) h9).bind fun a => b2 (J14_isLatin1 a h9) fun v10 h11 =>
if v10 = 0 then (J14_append_45 a0 x1 h11) else (b2 (J12_canEncode x1 h11) fun v12 h13 =>
if v12 = 0 then (J14_append_45 a0 x1 h13) else ((gR 25 0 (some a0) h13).bind fun v14 =>
(gI 25 3 (some a0) h13).bind fun v15 =>
(pI 25 3 (some a0) (v15 + 1) h13).bind fun h16 =>
(sI 101 v14 v15 (nB (ji2b x1)) h16).bind fun h17 =>
some (((some a0), h17))))
noncomputable def J14_charAt (a0 : Nat) (x1 : Int32) (h : AH) : Option (Int32 × AH) :=
(gI 25 1 (some a0) h).bind fun v1 =>
(gR 25 0 (some a0) h).bind fun v2 =>
(gI 25 3 (some a0) h).bind fun v3 =>
(aln v2 h).bind fun v4 =>
b2 (J4_min v3 (jshr v4 v1) h) fun v5 h6 =>
(J9_checkIndex x1 v5 h6).bind fun h7 =>
if v1 = 0 then ((xI 101 v2 x1 h7).bind fun v12 =>
b2 (rC (ji2c (v12 &&& 255)) h7) fun v13 h14 => some ((v13, h14))) else (b2 (J10_getChar v2 x1 h7) fun v8 h9 =>
b2 (rC v8 h9) fun v10 h11 => some ((v10, h11)))
noncomputable def J15_init (a0 : Nat) (h : AH) : Option (AH) :=
(nn (some a0)).bind fun a => (J14_init a 16 h).bind fun h1 =>
some (h1)
noncomputable def J15_append (a0 : Nat) (x1 : Int32) (h : AH) : Option (Option Nat × AH) :=
(isO 25 (some a0) h).bind fun a => b2 (J14_append a x1 h) fun v1 h2 =>
some (((some a0), h2))
noncomputable def J15_charAt (a0 : Nat) (x1 : Int32) (h : AH) : Option (Int32 × AH) :=
(isO 25 (some a0) h).bind fun a => b2 (J14_charAt a x1 h) fun v1 h2 =>
b2 (rC v1 h2) fun v3 h4 => some ((v3, h4))
noncomputable def J16_bitCount (x0 : Int32) (h : AH) : Option (Int32 × AH) :=
some ((((((((((x0 - ((jushr x0 1) &&& 1431655765)) &&& 858993459) + ((jushr (x0 - ((jushr x0 1) &&& 1431655765)) 2) &&& 858993459)) + (jushr (((x0 - ((jushr x0 1) &&& 1431655765)) &&& 858993459) + ((jushr (x0 - ((jushr x0 1) &&& 1431655765)) 2) &&& 858993459)) 4)) &&& 252645135) + (jushr (((((x0 - ((jushr x0 1) &&& 1431655765)) &&& 858993459) + ((jushr (x0 - ((jushr x0 1) &&& 1431655765)) 2) &&& 858993459)) + (jushr (((x0 - ((jushr x0 1) &&& 1431655765)) &&& 858993459) + ((jushr (x0 - ((jushr x0 1) &&& 1431655765)) 2) &&& 858993459)) 4)) &&& 252645135) 8)) + (jushr ((((((x0 - ((jushr x0 1) &&& 1431655765)) &&& 858993459) + ((jushr (x0 - ((jushr x0 1) &&& 1431655765)) 2) &&& 858993459)) + (jushr (((x0 - ((jushr x0 1) &&& 1431655765)) &&& 858993459) + ((jushr (x0 - ((jushr x0 1) &&& 1431655765)) 2) &&& 858993459)) 4)) &&& 252645135) + (jushr (((((x0 - ((jushr x0 1) &&& 1431655765)) &&& 858993459) + ((jushr (x0 - ((jushr x0 1) &&& 1431655765)) 2) &&& 858993459)) + (jushr (((x0 - ((jushr x0 1) &&& 1431655765)) &&& 858993459) + ((jushr (x0 - ((jushr x0 1) &&& 1431655765)) 2) &&& 858993459)) 4)) &&& 252645135) 8)) 16)) &&& 63), h))
noncomputable def J2_init (a0 : Nat) (x1 : Int32) (h : AH) : Option (AH) :=
(nn (some a0)).bind fun a => (J1_init a h).bind fun h1 =>
if 0 < x1 then (b2 (newA 104 x1 h1) fun v3 h4 =>
(pR 23 1 (some a0) v3 h4).bind fun h5 =>
some (h5)) else (if x1 = 0 then ((pR 23 1 (some a0) (hR h1 120 4) h1).bind fun h2 =>
some (h2)) else (none))
noncomputable def J5_copyOf_2 (x0 : Option Nat) (x1 : Int32) (x2 : Option Nat) (h : AH) : Option (Option Nat × AH) :=
(cmpR x2 (some 116)).bind fun c => if c = true then (b2 (newA 104 x1 h) fun v1 h2 =>
(aln x0 h2).bind fun v3 =>
b2 (J4_min v3 x1 h2) fun v4 h5 =>
(acpR x0 0 v1 0 v4 h5).bind fun h6 =>
some ((v1, h6))) else (none)
noncomputable def J5_copyOf (x0 : Option Nat) (x1 : Int32) (h : AH) : Option (Option Nat × AH) :=
(isA4 x0 h).bind fun _ =>
b2 (J5_copyOf_2 x0 x1 (some 116) h) fun v1 h2 =>
some ((v1, h2))
noncomputable def J2_grow_2_20 (a0 : Nat) (x1 : Int32) (x2 : Int32) (h : AH) : Option (Option Nat × AH) :=
b2 (J3_newLength x2 (x1 - x2) (jshr x2 1) h) fun v1 h2 =>
(gR 23 1 (some a0) h2).bind fun v3 =>
b2 (J5_copyOf v3 v1 h2) fun v4 h5 =>
(pR 23 1 (some a0) v4 h5).bind fun h6 =>
some ((v4, h6))
noncomputable def J2_grow_2 (a0 : Nat) (x1 : Int32) (h : AH) : Option (Option Nat × AH) :=
(gR 23 1 (some a0) h).bind fun v7 =>
(aln v7 h).bind fun v8 =>
if 0 < v8 then (J2_grow_2_20 a0 x1 v8 h) else ((gR 23 1 (some a0) h).bind fun v9 =>
(cmpR v9 (hR h 120 5)).bind fun c => if c = true then (b2 (J4_max 10 x1 h) fun v10 h11 =>
b2 (newA 104 v10 h11) fun v12 h13 =>
(pR 23 1 (some a0) v12 h13).bind fun h14 =>
some ((v12, h14))) else (J2_grow_2_20 a0 x1 v8 h))
noncomputable def J2_grow (a0 : Nat) (h : AH) : Option (Option Nat × AH) :=
(gI 23 2 (some a0) h).bind fun v1 =>
(isO 23 (some a0) h).bind fun a => b2 (J2_grow_2 a (v1 + 1) h) fun v2 h3 =>
some ((v2, h3))
noncomputable def J2_add_2_11 (a0 : Nat) (x1 : Option Nat) (x2 : Option Nat) (x3 : Int32) (h : AH) : Option (AH) :=
(sR 104 objL x2 x3 x1 h).bind fun h1 =>
(pI 23 2 (some a0) (x3 + 1) h1).bind fun h2 =>
some (h2)
noncomputable def J2_add_2 (a0 : Nat) (x1 : Option Nat) (x2 : Option Nat) (x3 : Int32) (h : AH) : Option (AH) :=
(aln x2 h).bind fun v3 =>
if x3 = v3 then ((isO 23 (some a0) h).bind fun a => b2 (J2_grow a h) fun v4 h5 =>
J2_add_2_11 a0 x1 v4 x3 h5) else (J2_add_2_11 a0 x1 x2 x3 h)
noncomputable def J2_add (a0 : Nat) (x1 : Option Nat) (h : AH) : Option (Int32 × AH) :=
(gI 23 0 (some a0) h).bind fun v1 =>
(pI 23 0 (some a0) (v1 + 1) h).bind fun h2 =>
(gR 23 1 (some a0) h2).bind fun v3 =>
(gI 23 2 (some a0) h2).bind fun v4 =>
(isO 23 (some a0) h2).bind fun a => (J2_add_2 a x1 v3 v4 h2).bind fun h5 =>
some ((1, h5))
noncomputable def J2_elementData (a0 : Nat) (x1 : Int32) (h : AH) : Option (Option Nat × AH) :=
(gR 23 1 (some a0) h).bind fun v1 =>
(xR 104 v1 x1 h).bind fun v2 =>
some ((v2, h))
noncomputable def J2_get (a0 : Nat) (x1 : Int32) (h : AH) : Option (Option Nat × AH) :=
(gI 23 2 (some a0) h).bind fun v1 =>
b2 (J13_checkIndex x1 v1 h) fun v2 h3 =>
(isO 23 (some a0) h3).bind fun a => b2 (J2_elementData a x1 h3) fun v4 h5 =>
some ((v4, h5))
noncomputable def J2_size (a0 : Nat) (h : AH) : Option (Int32 × AH) :=
(gI 23 2 (some a0) h).bind fun v1 =>
some ((v1, h))
noncomputable def J3_hashCode_8b (x1 : Option Nat) (x4 : Int32) (x0 : Int32) (x5 : Int32) (h : AH) : Option ((Int32 × Int32 × AH) ⊕ (Int32 × AH)) :=
if x5 < x4 then ((xI 102 x1 x5 h).bind fun v1 =>
some (.inl (((31 * x0) + v1), (x5 + 1), h))) else (some (.inr ((x0, h))))
noncomputable def J3_hashCode_8 (x0 : Int32) (x1 : Option Nat) (x4 : Int32) (x5 : Int32) (h : AH) : Option (Int32 × AH) := loopC (fun s : Int32 × Int32 × AH => J3_hashCode_8b x1 x4 s.1 s.2.1 s.2.2) (x0, x5, h)
noncomputable def J3_hashCode (x0 : Int32) (x1 : Option Nat) (x2 : Int32) (x3 : Int32) (h : AH) : Option (Int32 × AH) :=
J3_hashCode_8 x0 x1 (x2 + x3) x2 h
noncomputable def J3_hashCode_3 (x0 : Int32) (x1 : Option Nat) (x2 : Int32) (x3 : Int32) (h : AH) : Option (Int32 × AH) :=
if x2 < (x2 + x3) then (none) else (some ((x0, h)))
noncomputable def J3_hashCode_4_8b (x1 : Option Nat) (x4 : Int32) (x0 : Int32) (x5 : Int32) (h : AH) : Option ((Int32 × Int32 × AH) ⊕ (Int32 × AH)) :=
if x5 < x4 then ((xI 100 x1 x5 h).bind fun v1 =>
some (.inl (((31 * x0) + v1), (x5 + 1), h))) else (some (.inr ((x0, h))))
noncomputable def J3_hashCode_4_8 (x0 : Int32) (x1 : Option Nat) (x4 : Int32) (x5 : Int32) (h : AH) : Option (Int32 × AH) := loopC (fun s : Int32 × Int32 × AH => J3_hashCode_4_8b x1 x4 s.1 s.2.1 s.2.2) (x0, x5, h)
noncomputable def J3_hashCode_4 (x0 : Int32) (x1 : Option Nat) (x2 : Int32) (x3 : Int32) (h : AH) : Option (Int32 × AH) :=
J3_hashCode_4_8 x0 x1 (x2 + x3) x2 h
noncomputable def J4_min_2 (x0 : Int64) (x2 : Int64) (h : AH) : Option (Int64 × AH) :=
if 0 < (lg_cmp x0 x2) then (some ((x2, h))) else (some ((x0, h)))
noncomputable def J4_max_2 (x0 : Int64) (x2 : Int64) (h : AH) : Option (Int64 × AH) :=
if (lg_cmp x0 x2) < 0 then (some ((x2, h))) else (some ((x0, h)))
noncomputable def J4_floorDiv (x0 : Int64) (x2 : Int64) (h : AH) : Option (Int64 × AH) :=
(nzL x2).bind fun _ =>
if (lg_cmp (x0 ^^^ x2) 0) < 0 then (if (lg_cmp ((x0 / x2) * x2) x0) = 0 then (some (((x0 / x2), h))) else (some ((((x0 / x2) - 1), h)))) else (some (((x0 / x2), h)))
noncomputable def J6_init (a0 : Nat) (h : AH) : Option (AH) :=
(nn (some a0)).bind fun v1 =>
(pR 3 0 (some a0) (some a0) h).bind fun h2 =>
(pR 3 1 (some a0) (hR h2 120 10) h2).bind fun h3 =>
(pR 3 2 (some a0) (hR h3 120 11) h3).bind fun h4 =>
none
noncomputable def J6_init_2 (a0 : Nat) (x1 : Option Nat) (x2 : Option Nat) (x3 : Int32) (x4 : Int32) (h : AH) : Option (AH) :=
(nn (some a0)).bind fun v1 =>
(pR 3 0 (some a0) (some a0) h).bind fun h2 =>
(pR 3 1 (some a0) (hR h2 120 10) h2).bind fun h3 =>
(pR 3 2 (some a0) (hR h3 120 11) h3).bind fun h4 =>
if x4 = 0 then ((pR 3 1 (some a0) none h4).bind fun h5 =>
(pR 3 3 (some a0) x1 h5).bind fun h6 =>
(pR 3 0 (some a0) x2 h6).bind fun h7 =>
if x3 = 0 then ((pR 3 2 (some a0) none h7).bind fun h8 =>
some (h8)) else (some (h7))) else (none)
noncomputable def J7_init (a0 : Nat) (x1 : Option Nat) (x2 : Option Nat) (x3 : Int32) (x4 : Int32) (h : AH) : Option (AH) :=
(nn (some a0)).bind fun a => (J6_init_2 a x1 x2 x3 x4 h).bind fun h1 =>
some (h1)
noncomputable def J8_init (a0 : Nat) (x1 : Option Nat) (x2 : Option Nat) (x3 : Int32) (x4 : Int32) (h : AH) : Option (AH) :=
(nn (some a0)).bind fun a => (J7_init a x1 x2 x3 x4 h).bind fun h1 =>
some (h1)
noncomputable def J9_init_2 (a0 : Nat) (x1 : Option Nat) (x2 : Int32) (x3 : Int32) (x4 : Option Nat) (h : AH) : Option (AH) :=
(nn (some a0)).bind fun v1 =>
if x3 = 0 then ((gR 24 0 (some 0) h).bind fun v12 =>
(pR 24 0 (some a0) v12 h).bind fun h13 =>
(gI 24 1 (some 0) h13).bind fun v14 =>
(pZ 24 1 (some a0) v14 h13).bind fun h15 =>
some (h15)) else (if (hI h 120 0) = 0 then ((pZ 24 1 (some a0) 1 h).bind fun h2 =>
b2 (J10_toBytes x1 x2 x3 h2) fun v3 h4 =>
(pR 24 0 (some a0) v3 h4).bind fun h5 =>
some (h5)) else (b2 (J10_compress x1 x2 x3 h) fun v6 h7 =>
b2 (J10_coderFromArrayLen v6 x3 h7) fun v8 h9 =>
(pZ 24 1 (some a0) v8 h9).bind fun h10 =>
(pR 24 0 (some a0) v6 h10).bind fun h11 =>
some (h11)))
noncomputable def J9_init (a0 : Nat) (x1 : Option Nat) (h : AH) : Option (AH) :=
(aln x1 h).bind fun v1 =>
(nn (some a0)).bind fun a => (J9_init_2 a x1 0 v1 none h).bind fun h2 =>
some (h2)
noncomputable def J9_valueOf (x0 : Option Nat) (h : AH) : Option (Option Nat × AH) :=
b2 (newO 24 4 h) fun v1 h2 =>
(nn v1).bind fun a => (J9_init a x0 h2).bind fun h3 =>
some ((v1, h3))
noncomputable def J9_isLatin1 (a0 : Nat) (h : AH) : Option (Int32 × AH) :=
if (hI h 120 0) = 0 then (some ((0, h))) else ((gI 24 1 (some a0) h).bind fun v1 =>
if v1 = 0 then (some ((1, h))) else (some ((0, h))))
noncomputable def J9_hashCode_40 (a0 : Nat) (s0 : Int32) (h : AH) : Option (Int32 × AH) :=
if s0 = 0 then ((pZ 24 3 (some a0) 1 h).bind fun h2 =>
some ((s0, h2))) else ((pI 24 2 (some a0) s0 h).bind fun h1 =>
some ((s0, h1)))
noncomputable def J9_hashCode (a0 : Nat) (h : AH) : Option (Int32 × AH) :=
(gI 24 2 (some a0) h).bind fun v3 =>
if v3 = 0 then ((gI 24 3 (some a0) h).bind fun v4 =>
if v4 = 0 then ((isO 24 (some a0) h).bind fun a => b2 (J9_isLatin1 a h) fun v5 h6 =>
if v5 = 0 then ((gR 24 0 (some a0) h6).bind fun v7 =>
b2 (J10_hashCode v7 h6) fun v8 h9 =>
J9_hashCode_40 a0 v8 h9) else ((gR 24 0 (some a0) h6).bind fun v10 =>
b2 (J12_hashCode v10 h6) fun v11 h12 =>
J9_hashCode_40 a0 v11 h12)) else (some ((v3, h)))) else (some ((v3, h)))
noncomputable def J9_equals_36 (a0 : Nat) (x2 : Option Nat) (h : AH) : Option (Int32 × AH) :=
(gR 24 0 (some a0) h).bind fun v1 =>
(gR 24 0 x2 h).bind fun v2 =>
b2 (J12_equals v1 v2 h) fun v3 h4 =>
if v3 = 0 then (some ((0, h4))) else (some ((1, h4)))
noncomputable def J9_equals (a0 : Nat) (x1 : Option Nat) (h : AH) : Option (Int32 × AH) :=
(cmpR (some a0) x1).bind fun c => if c = true then (some ((1, h))) else ((inst [24] x1 h).bind fun v5 =>
if v5 = 0 then (some ((0, h))) else ((cst [24] x1 h).bind fun _ =>
if (hI h 120 0) = 0 then (J9_equals_36 a0 x1 h) else ((gI 24 1 (some a0) h).bind fun v6 =>
(gI 24 1 x1 h).bind fun v7 =>
if v6 = v7 then (J9_equals_36 a0 x1 h) else (some ((0, h))))))
noncomputable def J9_coder (a0 : Nat) (h : AH) : Option (Int32 × AH) :=
if (hI h 120 0) = 0 then (some ((1, h))) else ((gI 24 1 (some a0) h).bind fun v1 =>
b2 (rz v1 h) fun v2 h3 => some ((v2, h3)))
noncomputable def J9_length (a0 : Nat) (h : AH) : Option (Int32 × AH) :=
(gR 24 0 (some a0) h).bind fun v1 =>
(aln v1 h).bind fun v2 =>
(isO 24 (some a0) h).bind fun a => b2 (J9_coder a h) fun v3 h4 =>
some (((jshr v2 v3), h4))
noncomputable def J9_charAt (a0 : Nat) (x1 : Int32) (h : AH) : Option (Int32 × AH) :=
(isO 24 (some a0) h).bind fun a => b2 (J9_isLatin1 a h) fun v1 h2 =>
if v1 = 0 then ((gR 24 0 (some a0) h2).bind fun v3 =>
b2 (J10_charAt v3 x1 h2) fun v4 h5 =>
b2 (rC v4 h5) fun v6 h7 => some ((v6, h7))) else ((gR 24 0 (some a0) h2).bind fun v8 =>
b2 (J12_charAt v8 x1 h2) fun v9 h10 =>
b2 (rC v9 h10) fun v11 h12 => some ((v11, h12)))
noncomputable def X1_init_53b (a0 : Nat) (x1 : Int32) (h : AH) : Option ((Int32 × AH) ⊕ (AH)) :=
if x1 < 2 then ((gR 1 4 (some a0) h).bind fun v1 =>
b2 (newO 23 3 h) fun v2 h3 =>
(nn v2).bind fun a => (J2_init a 4 h3).bind fun h4 =>
(isO 23 v1 h4).bind fun a => b2 (J2_add a v2 h4) fun v5 h6 =>
some (.inl ((x1 + 1), h6))) else (some (.inr (h)))
noncomputable def X1_init_53 (a0 : Nat) (x1 : Int32) (h : AH) : Option (AH) := loopC (fun s : Int32 × AH => X1_init_53b a0 s.1 s.2) (x1, h)
noncomputable def X1_init (a0 : Nat) (h : AH) : Option (AH) :=
(nn (some a0)).bind fun v7 =>
(pI 1 1 (some a0) 2 h).bind fun h8 =>
(pI 1 2 (some a0) 9 h8).bind fun h9 =>
b2 (newO 23 3 h9) fun v10 h11 =>
(nn v10).bind fun a => (J2_init a 2 h11).bind fun h12 =>
(pR 1 4 (some a0) v10 h12).bind fun h13 =>
b2 (newO 23 3 h13) fun v14 h15 =>
(nn v14).bind fun a => (J2_init a 4 h15).bind fun h16 =>
(pR 1 5 (some a0) v14 h16).bind fun h17 =>
b2 (newO 23 3 h17) fun v18 h19 =>
(nn v18).bind fun a => (J2_init a 2 h19).bind fun h20 =>
(pR 1 6 (some a0) v18 h20).bind fun h21 =>
X1_init_53 a0 0 h21
noncomputable def X3_init (a0 : Nat) (h : AH) : Option (AH) :=
(nn (some a0)).bind fun a => (J8_init a none none 0 0 h).bind fun h1 =>
some (h1)
noncomputable def X2_init (a0 : Nat) (x1 : Option Nat) (h : AH) : Option (AH) :=
(pR 2 7 (some a0) x1 h).bind fun h1 =>
(nn (some a0)).bind fun v2 =>
b2 (newO 3 8 h1) fun v3 h4 =>
(nn v3).bind fun a => (X3_init a h4).bind fun h5 =>
(pR 2 0 (some a0) v3 h5).bind fun h6 =>
some (h6)
noncomputable def X4_init (a0 : Nat) (h : AH) : Option (AH) :=
(nn (some a0)).bind fun v1 =>
b2 (newA 103 10 h) fun v2 h3 =>
(pR 4 0 (some a0) v2 h3).bind fun h4 =>
some (h4)
noncomputable def X5_init (a0 : Nat) (x1 : Option Nat) (h : AH) : Option (AH) :=
(pR 5 9 (some a0) x1 h).bind fun h1 =>
(nn (some a0)).bind fun v2 =>
b2 (newA 100 4 h1) fun v3 h4 =>
(pR 5 4 (some a0) v3 h4).bind fun h5 =>
b2 (newA 100 4 h5) fun v6 h7 =>
(pR 5 5 (some a0) v6 h7).bind fun h8 =>
b2 (newM 4 6 h8) fun v9 h10 =>
(pR 5 6 (some a0) v9 h10).bind fun h11 =>
b2 (newM 40 3 h11) fun v12 h13 =>
(pR 5 7 (some a0) v12 h13).bind fun h14 =>
b2 (newM 4 6 h14) fun v15 h16 =>
(pR 5 8 (some a0) v15 h16).bind fun h17 =>
some (h17)
noncomputable def X6_init (a0 : Nat) (x1 : Option Nat) (h : AH) : Option (AH) :=
(pR 6 9 (some a0) x1 h).bind fun h1 =>
(nn (some a0)).bind fun v2 =>
b2 (newM 7 7 h1) fun v3 h4 =>
(pR 6 6 (some a0) v3 h4).bind fun h5 =>
b2 (newA 100 12 h5) fun v6 h7 =>
(pR 6 7 (some a0) v6 h7).bind fun h8 =>
b2 (newA 100 12 h8) fun v9 h10 =>
(pR 6 8 (some a0) v9 h10).bind fun h11 =>
some (h11)
noncomputable def X0_init_144 (a0 : Nat) (h : AH) : Option (AH) :=
(pL 0 14 (some a0) 1 h).bind fun h1 =>
b2 (newA 101 59 h1) fun v2 h3 =>
(pR 0 16 (some a0) v2 h3).bind fun h4 =>
some (h4)
noncomputable def X0_init_118b (a0 : Nat) (x1 : Int32) (h : AH) : Option ((Int32 × AH) ⊕ (AH)) :=
if x1 < 20 then ((gR 0 12 (some a0) h).bind fun v5 =>
b2 (newO 5 10 h) fun v6 h7 =>
(nn v6).bind fun a => (X5_init a (some a0) h7).bind fun h8 =>
(sR 107 [5] v5 x1 v6 h8).bind fun h9 =>
some (.inl ((x1 + 1), h9))) else ((X0_init_144 a0 h).bind fun o => some (.inr o))
noncomputable def X0_init_118 (a0 : Nat) (x1 : Int32) (h : AH) : Option (AH) := loopC (fun s : Int32 × AH => X0_init_118b a0 s.1 s.2) (x1, h)
noncomputable def X0_init (a0 : Nat) (h : AH) : Option (AH) :=
(nn (some a0)).bind fun v10 =>
b2 (newO 1 9 h) fun v11 h12 =>
(nn v11).bind fun a => (X1_init a h12).bind fun h13 =>
(pR 0 0 (some a0) v11 h13).bind fun h14 =>
b2 (newA 101 1600 h14) fun v15 h16 =>
(pR 0 1 (some a0) v15 h16).bind fun h17 =>
(pI 0 4 (some a0) (-1) h17).bind fun h18 =>
b2 (newO 2 8 h18) fun v19 h20 =>
(nn v19).bind fun a => (X2_init a (some a0) h20).bind fun h21 =>
(pR 0 5 (some a0) v19 h21).bind fun h22 =>
b2 (newO 4 1 h22) fun v23 h24 =>
(nn v23).bind fun a => (X4_init a h24).bind fun h25 =>
(pR 0 6 (some a0) v23 h25).bind fun h26 =>
b2 (newO 4 1 h26) fun v27 h28 =>
(nn v27).bind fun a => (X4_init a h28).bind fun h29 =>
(pR 0 7 (some a0) v27 h29).bind fun h30 =>
b2 (newA 100 6 h30) fun v31 h32 =>
(pR 0 8 (some a0) v31 h32).bind fun h33 =>
b2 (newO 5 10 h33) fun v34 h35 =>
(nn v34).bind fun a => (X5_init a (some a0) h35).bind fun h36 =>
(pR 0 9 (some a0) v34 h36).bind fun h37 =>
b2 (newO 5 10 h37) fun v38 h39 =>
(nn v38).bind fun a => (X5_init a (some a0) h39).bind fun h40 =>
(pR 0 10 (some a0) v38 h40).bind fun h41 =>
b2 (newO 6 10 h41) fun v42 h43 =>
(nn v42).bind fun a => (X6_init a (some a0) h43).bind fun h44 =>
(pR 0 11 (some a0) v42 h44).bind fun h45 =>
b2 (newA 107 20 h45) fun v46 h47 =>
(pR 0 12 (some a0) v46 h47).bind fun h48 =>
X0_init_118 a0 0 h48
noncomputable def X0_put_3b (a0 : Nat) (x1 : Int32) (x2 : Int32) (h : AH) : Option ((Int32 × AH) ⊕ (AH)) :=
if x2 < 0 then (some (.inr (h))) else ((gR 0 1 (some a0) h).bind fun v1 =>
(gI 0 2 (some a0) h).bind fun v2 =>
(pI 0 2 (some a0) (v2 + 1) h).bind fun h3 =>
(sI 101 v1 v2 (nB (ji2b (jshr x1 x2))) h3).bind fun h4 =>
some (.inl ((x2 + (-8)), h4)))
noncomputable def X0_put_3 (a0 : Nat) (x1 : Int32) (x2 : Int32) (h : AH) : Option (AH) := loopC (fun s : Int32 × AH => X0_put_3b a0 x1 s.1 s.2) (x2, h)
noncomputable def X0_put (a0 : Nat) (x1 : Int32) (h : AH) : Option (AH) :=
X0_put_3 a0 x1 24 h
noncomputable def X0_refuses (a0 : Nat) (x1 : Int32) (h : AH) : Option (Int32 × AH) :=
(gR 0 8 (some a0) h).bind fun v1 =>
(xI 100 v1 x1 h).bind fun v2 =>
(sI 100 v1 x1 (v2 + 1) h).bind fun h3 =>
some (((-1), h3))
noncomputable def X0_feed (a0 : Nat) (x1 : Int32) (x2 : Int32) (x3 : Int32) (x4 : Int32) (x5 : Int32) (h : AH) : Option (Int32 × AH) :=
(gI 0 2 (some a0) h).bind fun v1 =>
if 1600 < (v1 + 20) then ((isO 0 (some a0) h).bind fun a => b2 (X0_refuses a 0 h) fun v8 h9 =>
some ((v8, h9))) else ((isO 0 (some a0) h).bind fun a => (X0_put a x1 h).bind fun h2 =>
(isO 0 (some a0) h2).bind fun a => (X0_put a x2 h2).bind fun h3 =>
(isO 0 (some a0) h3).bind fun a => (X0_put a x3 h3).bind fun h4 =>
(isO 0 (some a0) h4).bind fun a => (X0_put a x4 h4).bind fun h5 =>
(isO 0 (some a0) h5).bind fun a => (X0_put a x5 h5).bind fun h6 =>
(gI 0 2 (some a0) h6).bind fun v7 =>
some ((v7, h6)))
noncomputable def X0_end_12 (a0 : Nat) (h : AH) : Option (Int32 × AH) :=
(isO 0 (some a0) h).bind fun a => b2 (X0_refuses a 0 h) fun v1 h2 =>
if v1 < 0 then (some ((0, h2))) else (some ((1, h2)))
noncomputable def X0_end (a0 : Nat) (x1 : Int32) (h : AH) : Option (Int32 × AH) :=
if x1 < 0 then (X0_end_12 a0 h) else ((gI 0 2 (some a0) h).bind fun v3 =>
if v3 < x1 then (X0_end_12 a0 h) else ((pI 0 2 (some a0) x1 h).bind fun h4 =>
some ((1, h4))))
noncomputable def X0_taken (a0 : Nat) (h : AH) : Option (Int32 × AH) :=
(gI 0 2 (some a0) h).bind fun v1 =>
(pI 0 2 (some a0) 0 h).bind fun h2 =>
some ((v1, h2))
noncomputable def X2_byteAt (a0 : Nat) (x1 : Int32) (h : AH) : Option (Int32 × AH) :=
if x1 < 0 then (some (((-1), h))) else ((gI 2 1 (some a0) h).bind fun v1 =>
if x1 < v1 then ((gR 2 7 (some a0) h).bind fun v2 =>
(gR 0 1 v2 h).bind fun v3 =>
(xI 101 v3 x1 h).bind fun v4 =>
some (((v4 &&& 255), h))) else (some (((-1), h))))
noncomputable def X2_here_26 (a0 : Nat) (h : AH) : Option ((AH) ⊕ (Int32 × AH)) :=
(gI 2 2 (some a0) h).bind fun v1 =>
(pI 2 2 (some a0) (v1 + 1) h).bind fun h2 =>
some (.inl (h2))
noncomputable def X2_here_39 (a0 : Nat) (h : AH) : Option (Int32 × AH) :=
(gI 2 2 (some a0) h).bind fun v3 =>
(isO 2 (some a0) h).bind fun a => b2 (X2_byteAt a v3 h) fun v4 h5 =>
some ((v4, h5))
noncomputable def X2_here_0b (a0 : Nat)  (h : AH) : Option ((AH) ⊕ (Int32 × AH)) :=
(gI 2 2 (some a0) h).bind fun v6 =>
(isO 2 (some a0) h).bind fun a => b2 (X2_byteAt a v6 h) fun v7 h8 =>
if v7 = 32 then (X2_here_26 a0 h8) else ((gI 2 2 (some a0) h8).bind fun v9 =>
(isO 2 (some a0) h8).bind fun a => b2 (X2_byteAt a v9 h8) fun v10 h11 =>
if v10 = 10 then (X2_here_26 a0 h11) else ((X2_here_39 a0 h11).bind fun o => some (.inr o)))
noncomputable def X2_here (a0 : Nat) (h : AH) : Option (Int32 × AH) := loopC (fun s : AH => X2_here_0b a0 s) (h)
noncomputable def X1_letter_17b (x2 : Int32) (x3 : Option Nat) (x4 : Int32) (h : AH) : Option ((Int32 × AH) ⊕ (Int32 × AH)) :=
(isO 23 x3 h).bind fun a => b2 (J2_size a h) fun v1 h2 =>
if x4 < v1 then ((isO 23 x3 h2).bind fun a => b2 (J2_get a x4 h2) fun v3 h4 =>
(cst [8] v3 h4).bind fun _ =>
(gI 8 0 v3 h4).bind fun v5 =>
if v5 = x2 then (some (.inr ((x4, h4)))) else (some (.inl ((x4 + 1), h4)))) else (some (.inr (((-1), h2))))
noncomputable def X1_letter_17 (x2 : Int32) (x3 : Option Nat) (x4 : Int32) (h : AH) : Option (Int32 × AH) := loopC (fun s : Int32 × AH => X1_letter_17b x2 x3 s.1 s.2) (x4, h)
noncomputable def X1_letter (a0 : Nat) (x1 : Int32) (x2 : Int32) (h : AH) : Option (Int32 × AH) :=
(gR 1 4 (some a0) h).bind fun v6 =>
(isO 23 v6 h).bind fun a => b2 (J2_get a x1 h) fun v7 h8 =>
(cst [23] v7 h8).bind fun _ =>
X1_letter_17 x2 v7 0 h8
noncomputable def X9_at (a0 : Nat) (x1 : Int32) (h : AH) : Option (Int32 × AH) :=
(gR 9 0 (some a0) h).bind fun v1 =>
(isO 24 v1 h).bind fun a => b2 (J9_length a h) fun v2 h3 =>
if x1 < v2 then ((gR 9 0 (some a0) h3).bind fun v4 =>
(isO 24 v4 h3).bind fun a => b2 (J9_charAt a x1 h3) fun v5 h6 =>
some ((((v5 - 97) + 1), h6))) else (some ((0, h3)))
noncomputable def X9_size (a0 : Nat) (h : AH) : Option (Int32 × AH) :=
(gR 9 0 (some a0) h).bind fun v1 =>
(isO 24 v1 h).bind fun a => b2 (J9_length a h) fun v2 h3 =>
some ((v2, h3))
noncomputable def X1_isIn_2b (a0 : Nat) (x1 : Int32) (x2 : Option Nat) (x3 : Int32) (h : AH) : Option ((Int32 × AH) ⊕ (Int32 × AH)) :=
(isO 9 x2 h).bind fun a => b2 (X9_size a h) fun v1 h2 =>
if x3 < v1 then ((isO 9 x2 h2).bind fun a => b2 (X9_at a x3 h2) fun v3 h4 =>
(isO 1 (some a0) h4).bind fun a => b2 (X1_letter a x1 v3 h4) fun v5 h6 =>
if v5 = (-1) then (some (.inr ((0, h6)))) else (some (.inl ((x3 + 1), h6)))) else (some (.inr ((1, h2))))
noncomputable def X1_isIn_2 (a0 : Nat) (x1 : Int32) (x2 : Option Nat) (x3 : Int32) (h : AH) : Option (Int32 × AH) := loopC (fun s : Int32 × AH => X1_isIn_2b a0 x1 x2 s.1 s.2) (x3, h)
noncomputable def X1_isIn (a0 : Nat) (x1 : Int32) (x2 : Option Nat) (h : AH) : Option (Int32 × AH) :=
X1_isIn_2 a0 x1 x2 0 h
noncomputable def X1_word_2b (a0 : Nat) (x1 : Option Nat) (x2 : Int32) (h : AH) : Option ((Int32 × AH) ⊕ (Int32 × AH)) :=
(gR 1 5 (some a0) h).bind fun v1 =>
(isO 23 v1 h).bind fun a => b2 (J2_size a h) fun v2 h3 =>
if x2 < v2 then ((gR 1 5 (some a0) h3).bind fun v4 =>
(isO 23 v4 h3).bind fun a => b2 (J2_get a x2 h3) fun v5 h6 =>
(cst [9] v5 h6).bind fun _ =>
(gR 9 0 v5 h6).bind fun v7 =>
(isO 24 v7 h6).bind fun a => b2 (J9_equals a x1 h6) fun v8 h9 =>
if v8 = 0 then (some (.inl ((x2 + 1), h9))) else (some (.inr ((x2, h9))))) else (some (.inr (((-1), h3))))
noncomputable def X1_word_2 (a0 : Nat) (x1 : Option Nat) (x2 : Int32) (h : AH) : Option (Int32 × AH) := loopC (fun s : Int32 × AH => X1_word_2b a0 x1 s.1 s.2) (x2, h)
noncomputable def X1_word (a0 : Nat) (x1 : Option Nat) (h : AH) : Option (Int32 × AH) :=
X1_word_2 a0 x1 0 h
noncomputable def X2_wrong (a0 : Nat) (x1 : Int32) (x2 : Int32) (h : AH) : Option (Option Nat × AH) :=
(gR 2 0 (some a0) h).bind fun v1 =>
(pI 3 6 v1 x1 h).bind fun h2 =>
(gR 2 0 (some a0) h2).bind fun v3 =>
(pI 3 7 v3 x2 h2).bind fun h4 =>
(gR 2 0 (some a0) h4).bind fun v5 =>
some ((v5, h4))
noncomputable def X0_find_2b (x0 : Option Nat) (x1 : Option Nat) (x2 : Int32) (h : AH) : Option ((Int32 × AH) ⊕ (Int32 × AH)) :=
(aln x1 h).bind fun v1 =>
if x2 < v1 then ((xR 105 x1 x2 h).bind fun v2 =>
(isO 24 v2 h).bind fun a => b2 (J9_equals a x0 h) fun v3 h4 =>
if v3 = 0 then (some (.inl ((x2 + 1), h4))) else (some (.inr ((x2, h4))))) else (some (.inr (((-1), h))))
noncomputable def X0_find_2 (x0 : Option Nat) (x1 : Option Nat) (x2 : Int32) (h : AH) : Option (Int32 × AH) := loopC (fun s : Int32 × AH => X0_find_2b x0 x1 s.1 s.2) (x2, h)
noncomputable def X0_find (x0 : Option Nat) (x1 : Option Nat) (h : AH) : Option (Int32 × AH) :=
X0_find_2 x0 x1 0 h
noncomputable def X0_isLetter (x0 : Int32) (h : AH) : Option (Int32 × AH) :=
if x0 < 97 then (some ((0, h))) else (if 122 < x0 then (some ((0, h))) else (some ((1, h))))
noncomputable def X0_isDigit (x0 : Int32) (h : AH) : Option (Int32 × AH) :=
if x0 < 48 then (some ((0, h))) else (if 57 < x0 then (some ((0, h))) else (some ((1, h))))
noncomputable def X9_init (a0 : Nat) (x1 : Option Nat) (h : AH) : Option (AH) :=
(nn (some a0)).bind fun v1 =>
(pR 9 0 (some a0) x1 h).bind fun h2 =>
some (h2)
noncomputable def X10_init (a0 : Nat) (x1 : Int32) (x2 : Int32) (h : AH) : Option (AH) :=
(nn (some a0)).bind fun v1 =>
(pI 10 0 (some a0) x1 h).bind fun h2 =>
(pI 10 1 (some a0) x2 h2).bind fun h3 =>
some (h3)
noncomputable def X0_is (x0 : Int32) (x1 : Int32) (x2 : Int32) (h : AH) : Option (Int32 × AH) :=
if x0 < x1 then (some ((0, h))) else (if x2 < x0 then (some ((0, h))) else (some ((1, h))))
noncomputable def X8_init (a0 : Nat) (x1 : Int32) (x2 : Int32) (h : AH) : Option (AH) :=
(nn (some a0)).bind fun v1 =>
(pI 8 0 (some a0) x1 h).bind fun h2 =>
(pI 8 1 (some a0) x2 h2).bind fun h3 =>
some (h3)
noncomputable def X12_add (a0 : Nat) (x1 : Int32) (x2 : Option Nat) (h : AH) : Option (AH) :=
(gR 12 1 (some a0) h).bind fun v1 =>
(isO 25 v1 h).bind fun a => b2 (J15_append a x1 h) fun v2 h3 =>
(gR 12 0 (some a0) h3).bind fun v4 =>
(isO 23 v4 h3).bind fun a => b2 (J2_add a x2 h3) fun v5 h6 =>
some (h6)
noncomputable def X11_init (a0 : Nat) (h : AH) : Option (AH) :=
(nn (some a0)).bind fun v1 =>
some (h)
noncomputable def X12_init (a0 : Nat) (h : AH) : Option (AH) :=
(nn (some a0)).bind fun a => (X11_init a h).bind fun h1 =>
b2 (newO 23 3 h1) fun v2 h3 =>
(nn v2).bind fun a => (J2_init a 2 h3).bind fun h4 =>
(pR 12 0 (some a0) v2 h4).bind fun h5 =>
b2 (newO 25 4 h5) fun v6 h7 =>
(nn v6).bind fun a => (J15_init a h7).bind fun h8 =>
(pR 12 1 (some a0) v6 h8).bind fun h9 =>
some (h9)
noncomputable def X2_takes_28 (x2 : Int32) (s0 : Option Nat) (s1 : Int32) (s2 : Int32) (h : AH) : Option (Int32 × AH) :=
(pI 2 2 s0 (s1 + s2) h).bind fun h1 =>
b2 (rz x2 h1) fun v2 h3 => some ((v2, h3))
noncomputable def X2_takes_13 (a0 : Nat) (s0 : Int32) (h : AH) : Option (Int32 × AH) :=
(gI 2 2 (some a0) h).bind fun v4 =>
if s0 = 0 then (X2_takes_28 s0 (some a0) v4 0 h) else (X2_takes_28 s0 (some a0) v4 1 h)
noncomputable def X2_takes (a0 : Nat) (x1 : Int32) (h : AH) : Option (Int32 × AH) :=
(isO 2 (some a0) h).bind fun a => b2 (X2_here a h) fun v5 h6 =>
if v5 = x1 then (X2_takes_13 a0 1 h6) else (X2_takes_13 a0 0 h6)
noncomputable def X17_init (a0 : Nat) (h : AH) : Option (AH) :=
(nn (some a0)).bind fun v1 =>
some (h)
noncomputable def X18_init (a0 : Nat) (x1 : Int32) (h : AH) : Option (AH) :=
(nn (some a0)).bind fun a => (X17_init a h).bind fun h1 =>
b2 (newO 23 3 h1) fun v2 h3 =>
(nn v2).bind fun a => (J2_init a 2 h3).bind fun h4 =>
(pR 18 0 (some a0) v2 h4).bind fun h5 =>
(pZ 18 1 (some a0) x1 h5).bind fun h6 =>
some (h6)
noncomputable def X0_boards (a0 : Nat) (h : AH) : Option (Int32 × AH) :=
(gR 0 0 (some a0) h).bind fun v1 =>
(gR 1 6 v1 h).bind fun v2 =>
(isO 23 v2 h).bind fun a => b2 (J2_size a h) fun v3 h4 =>
some ((v3, h4))
noncomputable def X1_glyph (a0 : Nat) (x1 : Int32) (x2 : Int32) (x3 : Int32) (h : AH) : Option (Int32 × AH) :=
(gR 1 4 (some a0) h).bind fun v1 =>
(isO 23 v1 h).bind fun a => b2 (J2_get a x1 h) fun v2 h3 =>
(cst [23] v2 h3).bind fun _ =>
(gR 1 5 (some a0) h3).bind fun v4 =>
(isO 23 v4 h3).bind fun a => b2 (J2_get a x2 h3) fun v5 h6 =>
(cst [9] v5 h6).bind fun _ =>
(isO 9 v5 h6).bind fun a => b2 (X9_at a x3 h6) fun v7 h8 =>
(isO 1 (some a0) h8).bind fun a => b2 (X1_letter a x1 v7 h8) fun v9 h10 =>
(isO 23 v2 h10).bind fun a => b2 (J2_get a v9 h10) fun v11 h12 =>
(cst [8] v11 h12).bind fun _ =>
(gI 8 1 v11 h12).bind fun v13 =>
some ((v13, h12))
noncomputable def X5_places (a0 : Nat) (x1 : Int32) (h : AH) : Option (Int32 × AH) :=
(gR 5 9 (some a0) h).bind fun v1 =>
(gR 0 0 v1 h).bind fun v2 =>
(gR 1 5 v2 h).bind fun v3 =>
(gR 5 4 (some a0) h).bind fun v4 =>
(xI 100 v4 x1 h).bind fun v5 =>
(isO 23 v3 h).bind fun a => b2 (J2_get a v5 h) fun v6 h7 =>
(cst [9] v6 h7).bind fun _ =>
(isO 9 v6 h7).bind fun a => b2 (X9_size a h7) fun v8 h9 =>
some ((v8, h9))
noncomputable def X5_paints_60 (a0 : Nat) (x1 : Int32) (x2 : Int32) (x3 : Int32) (x4 : Int32) (s0 : Option Nat) (s1 : Int32) (s2 : Int32) (h : AH) : Option ((Int32 × AH) ⊕ (AH)) :=
(sI 100 s0 s1 s2 h).bind fun h1 =>
some (.inl ((x4 + 1), h1))
noncomputable def X5_paints_17b (a0 : Nat) (x1 : Int32) (x2 : Int32) (x3 : Int32) (x4 : Int32) (h : AH) : Option ((Int32 × AH) ⊕ (AH)) :=
if x4 < 6 then ((gR 5 6 (some a0) h).bind fun v2 =>
(xR 106 v2 x1 h).bind fun v3 =>
(isO 5 (some a0) h).bind fun a => b2 (X5_places a x1 h) fun v4 h5 =>
if x4 < v4 then ((gR 5 9 (some a0) h5).bind fun v6 =>
(gR 0 0 v6 h5).bind fun v7 =>
(isO 1 v7 h5).bind fun a => b2 (X1_glyph a x3 x2 x4 h5) fun v8 h9 =>
X5_paints_60 a0 x1 x2 x3 x4 v3 x4 v8 h9) else (X5_paints_60 a0 x1 x2 x3 x4 v3 x4 0 h5)) else (some (.inr (h)))
noncomputable def X5_paints_17 (a0 : Nat) (x1 : Int32) (x2 : Int32) (x3 : Int32) (x4 : Int32) (h : AH) : Option (AH) := loopC (fun s : Int32 × AH => X5_paints_17b a0 x1 x2 x3 s.1 s.2) (x4, h)
noncomputable def X5_paints (a0 : Nat) (x1 : Int32) (x2 : Int32) (x3 : Int32) (h : AH) : Option (AH) :=
(gR 5 4 (some a0) h).bind fun v10 =>
(sI 100 v10 x1 x2 h).bind fun h11 =>
(gR 5 5 (some a0) h11).bind fun v12 =>
(sI 100 v12 x1 x3 h11).bind fun h13 =>
X5_paints_17 a0 x1 x2 x3 0 h13
noncomputable def X5_begins_12b (a0 : Nat) (x1 : Int32) (h : AH) : Option ((Int32 × AH) ⊕ (AH)) :=
(gR 5 9 (some a0) h).bind fun v1 =>
(isO 0 v1 h).bind fun a => b2 (X0_boards a h) fun v2 h3 =>
if x1 < v2 then ((gR 5 9 (some a0) h3).bind fun v4 =>
(gR 0 0 v4 h3).bind fun v5 =>
(gR 1 6 v5 h3).bind fun v6 =>
(isO 23 v6 h3).bind fun a => b2 (J2_get a x1 h3) fun v7 h8 =>
(cst [10] v7 h8).bind fun _ =>
(gI 10 0 v7 h8).bind fun v9 =>
(gR 5 9 (some a0) h8).bind fun v10 =>
(gR 0 0 v10 h8).bind fun v11 =>
(gR 1 6 v11 h8).bind fun v12 =>
(isO 23 v12 h8).bind fun a => b2 (J2_get a x1 h8) fun v13 h14 =>
(cst [10] v13 h14).bind fun _ =>
(gI 10 1 v13 h14).bind fun v15 =>
(isO 5 (some a0) h14).bind fun a => (X5_paints a x1 v9 v15 h14).bind fun h16 =>
some (.inl ((x1 + 1), h16))) else (some (.inr (h3)))
noncomputable def X5_begins_12 (a0 : Nat) (x1 : Int32) (h : AH) : Option (AH) := loopC (fun s : Int32 × AH => X5_begins_12b a0 s.1 s.2) (x1, h)
noncomputable def X5_begins (a0 : Nat) (h : AH) : Option (AH) :=
(pI 5 0 (some a0) 0 h).bind fun h17 =>
(pI 5 1 (some a0) 0 h17).bind fun h18 =>
X5_begins_12 a0 0 h18
noncomputable def X0_has (x0 : Int32) (x1 : Int32) (h : AH) : Option (Int32 × AH) :=
if ((jshr x0 x1) &&& 1) = 1 then (some ((1, h))) else (some ((0, h)))
noncomputable def X0_fault (a0 : Nat) (x1 : Int32) (h : AH) : Option (Int32 × AH) :=
if x1 = 0 then ((gI 0 3 (some a0) h).bind fun v2 =>
some ((v2, h))) else (if x1 = 1 then ((gI 0 4 (some a0) h).bind fun v1 =>
some ((v1, h))) else (some (((-1), h))))
noncomputable def X0_letters (a0 : Nat) (x1 : Int32) (h : AH) : Option (Int32 × AH) :=
(gR 0 0 (some a0) h).bind fun v1 =>
(gR 1 4 v1 h).bind fun v2 =>
(isO 23 v2 h).bind fun a => b2 (J2_get a x1 h) fun v3 h4 =>
(cst [23] v3 h4).bind fun _ =>
(isO 23 v3 h4).bind fun a => b2 (J2_size a h4) fun v5 h6 =>
some ((v5, h6))
noncomputable def X0_words (a0 : Nat) (h : AH) : Option (Int32 × AH) :=
(gR 0 0 (some a0) h).bind fun v1 =>
(gR 1 5 v1 h).bind fun v2 =>
(isO 23 v2 h).bind fun a => b2 (J2_size a h) fun v3 h4 =>
some ((v3, h4))
noncomputable def X5_strokes_4b (a0 : Nat) (x1 : Int32) (x2 : Int32) (x3 : Int32) (h : AH) : Option ((Int32 × Int32 × AH) ⊕ (Int32 × AH)) :=
if x3 < 6 then ((gR 5 6 (some a0) h).bind fun v1 =>
(xR 106 v1 x1 h).bind fun v2 =>
(xI 100 v2 x3 h).bind fun v3 =>
b2 (J16_bitCount v3 h) fun v4 h5 =>
some (.inl ((x2 + v4), (x3 + 1), h5))) else (some (.inr ((x2, h))))
noncomputable def X5_strokes_4 (a0 : Nat) (x1 : Int32) (x2 : Int32) (x3 : Int32) (h : AH) : Option (Int32 × AH) := loopC (fun s : Int32 × Int32 × AH => X5_strokes_4b a0 x1 s.1 s.2.1 s.2.2) (x2, x3, h)
noncomputable def X5_strokes (a0 : Nat) (x1 : Int32) (h : AH) : Option (Int32 × AH) :=
X5_strokes_4 a0 x1 0 0 h
noncomputable def X0_has_2_48 (a0 : Nat) (x1 : Int32) (h : AH) : Option (Int32 × AH) :=
(isO 0 (some a0) h).bind fun a => b2 (X0_letters a x1 h) fun v1 h2 =>
some ((v1, h2))
noncomputable def X0_has_2_74b (a0 : Nat) (x2 : Int32) (x3 : Int32) (h : AH) : Option ((Int32 × Int32 × AH) ⊕ (Int32 × AH)) :=
(isO 0 (some a0) h).bind fun a => b2 (X0_boards a h) fun v3 h4 =>
if x3 < v3 then ((gR 0 9 (some a0) h4).bind fun v5 =>
(isO 5 v5 h4).bind fun a => b2 (X5_strokes a x3 h4) fun v6 h7 =>
some (.inl ((x2 + v6), (x3 + 1), h7))) else (some (.inr ((x2, h4))))
noncomputable def X0_has_2_74 (a0 : Nat) (x2 : Int32) (x3 : Int32) (h : AH) : Option (Int32 × AH) := loopC (fun s : Int32 × Int32 × AH => X0_has_2_74b a0 s.1 s.2.1 s.2.2) (x2, x3, h)
noncomputable def X0_has_2 (a0 : Nat) (x1 : Int32) (h : AH) : Option (Int32 × AH) :=
if x1 = 0 then (X0_has_2_48 a0 x1 h) else (if x1 = 1 then (X0_has_2_48 a0 x1 h) else (if x1 = 2 then ((isO 0 (some a0) h).bind fun a => b2 (X0_words a h) fun v11 h12 =>
some ((v11, h12))) else (if x1 = 3 then ((isO 0 (some a0) h).bind fun a => b2 (X0_boards a h) fun v14 h15 =>
some ((v14, h15))) else (if x1 = 4 then ((gR 0 9 (some a0) h).bind fun v17 =>
(gI 5 0 v17 h).bind fun v18 =>
some ((v18, h))) else (if x1 = 5 then (X0_has_2_74 a0 0 0 h) else (if x1 = 6 then ((gR 0 9 (some a0) h).bind fun v21 =>
(gI 5 1 v21 h).bind fun v22 =>
some ((v22, h))) else (if x1 = 7 then ((gI 0 13 (some a0) h).bind fun v24 =>
some ((v24, h))) else (some (((-1), h))))))))))
noncomputable def X0_isHand (x0 : Int32) (h : AH) : Option (Int32 × AH) :=
b2 (X0_is x0 0 1 h) fun v1 h2 =>
b2 (rz v1 h2) fun v3 h4 => some ((v3, h4))
noncomputable def X0_isLetterOf (a0 : Nat) (x1 : Int32) (x2 : Int32) (h : AH) : Option (Int32 × AH) :=
b2 (X0_isHand x1 h) fun v1 h2 =>
if v1 = 0 then (some ((0, h2))) else (if x2 < 0 then (some ((0, h2))) else ((isO 0 (some a0) h2).bind fun a => b2 (X0_letters a x1 h2) fun v3 h4 =>
if x2 < v3 then (some ((1, h4))) else (some ((0, h4)))))
noncomputable def X0_letterOf (a0 : Nat) (x1 : Int32) (x2 : Int32) (h : AH) : Option (Option Nat × AH) :=
(gR 0 0 (some a0) h).bind fun v1 =>
(gR 1 4 v1 h).bind fun v2 =>
(isO 23 v2 h).bind fun a => b2 (J2_get a x1 h) fun v3 h4 =>
(cst [23] v3 h4).bind fun _ =>
(isO 23 v3 h4).bind fun a => b2 (J2_get a x2 h4) fun v5 h6 =>
(cst [8] v5 h6).bind fun _ =>
some ((v5, h6))
noncomputable def X8_ink (a0 : Nat) (h : AH) : Option (Int32 × AH) :=
(gI 8 1 (some a0) h).bind fun v1 =>
b2 (J16_bitCount v1 h) fun v2 h3 =>
some ((v2, h3))
noncomputable def X0_letter (a0 : Nat) (x1 : Int32) (x2 : Int32) (x3 : Int32) (h : AH) : Option (Int32 × AH) :=
(isO 0 (some a0) h).bind fun a => b2 (X0_isLetterOf a x1 x2 h) fun v1 h2 =>
if v1 = 0 then (some (((-1), h2))) else ((isO 0 (some a0) h2).bind fun a => b2 (X0_letterOf a x1 x2 h2) fun v3 h4 =>
if x3 = 0 then ((gI 8 0 v3 h4).bind fun v8 =>
some ((v8, h4))) else (if x3 = 1 then ((gI 8 1 v3 h4).bind fun v7 =>
some ((v7, h4))) else (if x3 = 2 then ((isO 8 v3 h4).bind fun a => b2 (X8_ink a h4) fun v5 h6 =>
some ((v5, h6))) else (some (((-1), h4))))))
noncomputable def X0_isWord (a0 : Nat) (x1 : Int32) (h : AH) : Option (Int32 × AH) :=
if x1 < 0 then (some ((0, h))) else ((isO 0 (some a0) h).bind fun a => b2 (X0_words a h) fun v1 h2 =>
if x1 < v1 then (some ((1, h2))) else (some ((0, h2))))
noncomputable def X0_word (a0 : Nat) (x1 : Int32) (x2 : Int32) (h : AH) : Option (Int32 × AH) :=
(isO 0 (some a0) h).bind fun a => b2 (X0_isWord a x1 h) fun v1 h2 =>
if v1 = 0 then (some (((-1), h2))) else (b2 (X0_is x2 0 5 h2) fun v3 h4 =>
if v3 = 0 then (some (((-1), h4))) else ((gR 0 0 (some a0) h4).bind fun v5 =>
(gR 1 5 v5 h4).bind fun v6 =>
(isO 23 v6 h4).bind fun a => b2 (J2_get a x1 h4) fun v7 h8 =>
(cst [9] v7 h8).bind fun _ =>
(isO 9 v7 h8).bind fun a => b2 (X9_at a x2 h8) fun v9 h10 =>
some ((v9, h10))))
noncomputable def X0_isBoard (a0 : Nat) (x1 : Int32) (h : AH) : Option (Int32 × AH) :=
if x1 < 0 then (some ((0, h))) else ((isO 0 (some a0) h).bind fun a => b2 (X0_boards a h) fun v1 h2 =>
if x1 < v1 then (some ((1, h2))) else (some ((0, h2))))
noncomputable def X0_board (a0 : Nat) (x1 : Int32) (x2 : Int32) (h : AH) : Option (Int32 × AH) :=
(isO 0 (some a0) h).bind fun a => b2 (X0_isBoard a x1 h) fun v1 h2 =>
if v1 = 0 then (some (((-1), h2))) else (if x2 = 0 then ((gR 0 9 (some a0) h2).bind fun v9 =>
(gR 5 4 v9 h2).bind fun v10 =>
(xI 100 v10 x1 h2).bind fun v11 =>
some ((v11, h2))) else (if x2 = 1 then ((gR 0 9 (some a0) h2).bind fun v6 =>
(gR 5 5 v6 h2).bind fun v7 =>
(xI 100 v7 x1 h2).bind fun v8 =>
some ((v8, h2))) else (if x2 = 2 then ((gR 0 9 (some a0) h2).bind fun v3 =>
(isO 5 v3 h2).bind fun a => b2 (X5_places a x1 h2) fun v4 h5 =>
some ((v4, h5))) else (some (((-1), h2))))))
noncomputable def X0_isPlace (a0 : Nat) (x1 : Int32) (x2 : Int32) (h : AH) : Option (Int32 × AH) :=
(isO 0 (some a0) h).bind fun a => b2 (X0_isBoard a x1 h) fun v1 h2 =>
if v1 = 0 then (some ((0, h2))) else ((gR 0 9 (some a0) h2).bind fun v3 =>
(isO 5 v3 h2).bind fun a => b2 (X5_places a x1 h2) fun v4 h5 =>
b2 (X0_is x2 0 (v4 - 1) h5) fun v6 h7 =>
if v6 = 0 then (some ((0, h7))) else (some ((1, h7))))
noncomputable def X0_glyph (a0 : Nat) (x1 : Int32) (x2 : Int32) (h : AH) : Option (Int32 × AH) :=
(isO 0 (some a0) h).bind fun a => b2 (X0_isPlace a x1 x2 h) fun v1 h2 =>
if v1 = 0 then (some (((-1), h2))) else ((gR 0 9 (some a0) h2).bind fun v3 =>
(gR 5 6 v3 h2).bind fun v4 =>
(xR 106 v4 x1 h2).bind fun v5 =>
(xI 100 v5 x2 h2).bind fun v6 =>
some ((v6, h2)))
noncomputable def X0_kept (a0 : Nat) (x1 : Int32) (x2 : Int32) (h : AH) : Option (Int32 × AH) :=
(gR 0 9 (some a0) h).bind fun v1 =>
(gI 5 1 v1 h).bind fun v2 =>
b2 (X0_is x1 0 (v2 - 1) h) fun v3 h4 =>
if v3 = 0 then (some (((-1), h4))) else (b2 (X0_is x2 0 2 h4) fun v5 h6 =>
if v5 = 0 then (some (((-1), h6))) else ((gR 0 9 (some a0) h6).bind fun v7 =>
(gR 5 7 v7 h6).bind fun v8 =>
(xR 106 v8 x1 h6).bind fun v9 =>
(xI 100 v9 x2 h6).bind fun v10 =>
some ((v10, h6))))
noncomputable def X0_isSeen (x0 : Int32) (x1 : Int32) (h : AH) : Option (Int32 × AH) :=
b2 (X0_is x0 0 32767 h) fun v1 h2 =>
if v1 = 0 then (some ((0, h2))) else (b2 (X0_is x1 0 3 h2) fun v3 h4 =>
if v3 = 0 then (some ((0, h4))) else (some ((1, h4))))
noncomputable def X0_turned_56 (x0 : Int32) (x1 : Int32) (x2 : Int32) (x3 : Int32) (x4 : Int32) (x5 : Int32) (s0 : Int32) (h : AH) : Option ((Int32 × Int32 × AH) ⊕ ((Int32 × Int32 × AH) ⊕ (Int32 × AH))) :=
some (.inl ((x2 ||| (jshl ((jshr x0 ((3 * x3) + x4)) &&& 1) ((3 * x5) + s0))), (x4 + 1), h))
noncomputable def X0_turned_47 (x0 : Int32) (x1 : Int32) (x2 : Int32) (x3 : Int32) (x4 : Int32) (x5 : Int32) (h : AH) : Option ((Int32 × Int32 × AH) ⊕ ((Int32 × Int32 × AH) ⊕ (Int32 × AH))) :=
X0_turned_56 x0 x1 x2 x3 x4 x5 (2 - x4) h
noncomputable def X0_turned_35 (x0 : Int32) (x1 : Int32) (x2 : Int32) (x3 : Int32) (x4 : Int32) (s0 : Int32) (h : AH) : Option ((Int32 × Int32 × AH) ⊕ ((Int32 × Int32 × AH) ⊕ (Int32 × AH))) :=
if x1 = 1 then (X0_turned_47 x0 x1 x2 x3 x4 s0 h) else (if x1 = 3 then (X0_turned_47 x0 x1 x2 x3 x4 s0 h) else (X0_turned_56 x0 x1 x2 x3 x4 s0 x4 h))
noncomputable def X0_turned_28 (x0 : Int32) (x1 : Int32) (x2 : Int32) (x3 : Int32) (x4 : Int32) (h : AH) : Option ((Int32 × Int32 × AH) ⊕ ((Int32 × Int32 × AH) ⊕ (Int32 × AH))) :=
X0_turned_35 x0 x1 x2 x3 x4 (4 - x3) h
noncomputable def X0_turned_12b (x0 : Int32) (x1 : Int32) (x3 : Int32) (x2 : Int32) (x4 : Int32) (h : AH) : Option ((Int32 × Int32 × AH) ⊕ ((Int32 × Int32 × AH) ⊕ (Int32 × AH))) :=
if x4 < 3 then (if x1 = 1 then (X0_turned_28 x0 x1 x2 x3 x4 h) else (if x1 = 2 then (X0_turned_28 x0 x1 x2 x3 x4 h) else (X0_turned_35 x0 x1 x2 x3 x4 x3 h))) else (some (.inr (.inl (x2, (x3 + 1), h))))
noncomputable def X0_turned_12 (x0 : Int32) (x1 : Int32) (x2 : Int32) (x3 : Int32) (x4 : Int32) (h : AH) : Option ((Int32 × Int32 × AH) ⊕ (Int32 × AH)) := loopC (fun s : Int32 × Int32 × AH => X0_turned_12b x0 x1 x3 s.1 s.2.1 s.2.2) (x2, x4, h)
noncomputable def X0_turned_4b (x0 : Int32) (x1 : Int32) (x2 : Int32) (x3 : Int32) (h : AH) : Option ((Int32 × Int32 × AH) ⊕ (Int32 × AH)) :=
if x3 < 5 then (X0_turned_12 x0 x1 x2 x3 0 h) else (some (.inr ((x2, h))))
noncomputable def X0_turned_4 (x0 : Int32) (x1 : Int32) (x2 : Int32) (x3 : Int32) (h : AH) : Option (Int32 × AH) := loopC (fun s : Int32 × Int32 × AH => X0_turned_4b x0 x1 s.1 s.2.1 s.2.2) (x2, x3, h)
noncomputable def X0_turned (x0 : Int32) (x1 : Int32) (h : AH) : Option (Int32 × AH) :=
X0_turned_4 x0 x1 0 0 h
noncomputable def X0_seen (a0 : Nat) (x1 : Int32) (x2 : Int32) (h : AH) : Option (Int32 × AH) :=
b2 (X0_isSeen x1 x2 h) fun v1 h2 =>
if v1 = 0 then (some (((-1), h2))) else (b2 (X0_turned x1 x2 h2) fun v3 h4 =>
some ((v3, h4)))
noncomputable def X0_doubtOf (va : VaT) (a0 : Nat) (x1 : Option Nat) (x2 : Int32) (h : AH) : Option (Int64 × AH) :=
(gI 8 1 x1 h).bind fun v1 =>
b2 (J16_bitCount (x2 &&& (v1 ^^^ (-1))) h) fun v2 h3 =>
(gI 8 1 x1 h3).bind fun v4 =>
b2 (J16_bitCount (v4 &&& (x2 ^^^ (-1))) h3) fun v5 h6 =>
(gR 0 0 (some a0) h6).bind fun v7 =>
(gR 1 7 v7 h6).bind fun v8 =>
if v8 = none then (some ((((Int32.toInt64 v2) + (2 * (Int32.toInt64 v5))), h6))) else ((gR 0 6 (some a0) h6).bind fun v9 =>
(gR 4 0 v9 h6).bind fun v10 =>
(sL 103 v10 0 (Int32.toInt64 v2) h6).bind fun h11 =>
(gR 0 6 (some a0) h11).bind fun v12 =>
(gR 4 0 v12 h11).bind fun v13 =>
(sL 103 v13 1 (Int32.toInt64 v5) h11).bind fun h14 =>
(gR 0 6 (some a0) h14).bind fun v15 =>
(gR 4 0 v15 h14).bind fun v16 =>
(isO 8 x1 h14).bind fun a => b2 (X8_ink a h14) fun v17 h18 =>
(sL 103 v16 2 (Int32.toInt64 v17) h18).bind fun h19 =>
(gR 0 0 (some a0) h19).bind fun v20 =>
(gR 1 7 v20 h19).bind fun v21 =>
(gR 0 6 (some a0) h19).bind fun v22 =>
b2 (va v21 v22 h19) fun v23 h24 =>
b2 (J4_max_2 0 v23 h24) fun v25 h26 =>
some ((v25, h26)))
noncomputable def X0_doubt_34 (va : VaT)  (h : AH) : Option (Int64 × AH) :=
some (((-1000000000000000), h))
noncomputable def X0_doubt (va : VaT) (a0 : Nat) (x1 : Int32) (x2 : Int32) (x3 : Int32) (h : AH) : Option (Int64 × AH) :=
(isO 0 (some a0) h).bind fun a => b2 (X0_isLetterOf a x1 x2 h) fun v1 h2 =>
if v1 = 0 then (X0_doubt_34 va h2) else (b2 (X0_is x3 0 32767 h2) fun v3 h4 =>
if v3 = 0 then (X0_doubt_34 va h4) else ((isO 0 (some a0) h4).bind fun a => b2 (X0_letterOf a x1 x2 h4) fun v5 h6 =>
(isO 0 (some a0) h6).bind fun a => b2 (X0_doubtOf va a v5 x3 h6) fun v7 h8 =>
some ((v7, h8))))
noncomputable def X0_held (x0 : Int64) (h : AH) : Option (Int64 × AH) :=
b2 (J4_min_2 1000000 x0 h) fun v1 h2 =>
b2 (J4_max_2 (-1000000) v1 h2) fun v3 h4 =>
some ((v3, h4))
noncomputable def X6_alone (a0 : Nat) (x1 : Int32) (h : AH) : Option (Int32 × AH) :=
(gR 6 9 (some a0) h).bind fun v1 =>
(gR 0 0 v1 h).bind fun v2 =>
(gI 1 2 v2 h).bind fun v3 =>
b2 (J16_bitCount x1 h) fun v4 h5 =>
some ((((v3 * 1000) + v4), h5))
noncomputable def X0_isForgiven (a0 : Nat) (x1 : Int64) (h : AH) : Option (Int32 × AH) :=
(gR 0 0 (some a0) h).bind fun v1 =>
(gI 1 1 v1 h).bind fun v2 =>
if 0 < (lg_cmp x1 (Int32.toInt64 v2)) then (some ((0, h))) else (some ((1, h)))
noncomputable def X6_first (a0 : Nat) (x1 : Int32) (h : AH) : Option (Int32 × AH) :=
(gR 6 9 (some a0) h).bind fun v1 =>
(gR 0 0 v1 h).bind fun v2 =>
(gI 6 2 (some a0) h).bind fun v3 =>
(gI 6 0 (some a0) h).bind fun v4 =>
(isO 1 v2 h).bind fun a => b2 (X1_glyph a v3 v4 x1 h) fun v5 h6 =>
some ((v5, h6))
noncomputable def X6_second (a0 : Nat) (x1 : Int32) (h : AH) : Option (Int32 × AH) :=
(gR 6 9 (some a0) h).bind fun v1 =>
(gR 0 0 v1 h).bind fun v2 =>
(gI 6 2 (some a0) h).bind fun v3 =>
(gI 6 1 (some a0) h).bind fun v4 =>
(gI 6 4 (some a0) h).bind fun v5 =>
(isO 1 v2 h).bind fun a => b2 (X1_glyph a v3 v4 ((v5 - 1) - x1) h) fun v6 h7 =>
b2 (X0_turned v6 1 h7) fun v8 h9 =>
some ((v8, h9))
noncomputable def X6_choice (a0 : Nat) (x1 : Int32) (x2 : Int32) (x3 : Int32) (h : AH) : Option (Int32 × AH) :=
(isO 6 (some a0) h).bind fun a => b2 (X6_first a x1 h) fun v1 h2 =>
(isO 6 (some a0) h2).bind fun a => b2 (X6_second a x2 h2) fun v3 h4 =>
if x3 = 0 then (some ((v1, h4))) else (if x3 = 1 then (some ((v3, h4))) else (if x3 = 2 then (some (((v1 ||| v3), h4))) else (some (((v1 &&& v3), h4)))))
noncomputable def X6_letter (a0 : Nat) (x1 : Int32) (x2 : Int32) (h : AH) : Option (Option Nat × AH) :=
(gR 6 9 (some a0) h).bind fun v1 =>
(gI 6 2 (some a0) h).bind fun v2 =>
(gR 6 9 (some a0) h).bind fun v3 =>
(gR 0 0 v3 h).bind fun v4 =>
(gI 6 2 (some a0) h).bind fun v5 =>
(gR 6 9 (some a0) h).bind fun v6 =>
(gR 0 0 v6 h).bind fun v7 =>
(gR 1 5 v7 h).bind fun v8 =>
(isO 23 v8 h).bind fun a => b2 (J2_get a x1 h) fun v9 h10 =>
(cst [9] v9 h10).bind fun _ =>
(isO 9 v9 h10).bind fun a => b2 (X9_at a x2 h10) fun v11 h12 =>
(isO 1 v4 h12).bind fun a => b2 (X1_letter a v5 v11 h12) fun v13 h14 =>
(isO 0 v1 h14).bind fun a => b2 (X0_letterOf a v2 v13 h14) fun v15 h16 =>
some ((v15, h16))
noncomputable def X6_both_103 (va : VaT)  (h : AH) : Option (Int32 × AH) :=
some ((100000000, h))
noncomputable def X6_both (va : VaT) (a0 : Nat) (x1 : Int32) (x2 : Int32) (x3 : Int32) (h : AH) : Option (Int32 × AH) :=
(isO 6 (some a0) h).bind fun a => b2 (X6_choice a x1 x2 x3 h) fun v1 h2 =>
(gR 6 9 (some a0) h2).bind fun v3 =>
(gI 6 0 (some a0) h2).bind fun v4 =>
(isO 6 (some a0) h2).bind fun a => b2 (X6_letter a v4 x1 h2) fun v5 h6 =>
(isO 0 v3 h6).bind fun a => b2 (X0_doubtOf va a v5 v1 h6) fun v7 h8 =>
(gR 6 9 (some a0) h8).bind fun v9 =>
(gI 6 1 (some a0) h8).bind fun v10 =>
(gI 6 4 (some a0) h8).bind fun v11 =>
(isO 6 (some a0) h8).bind fun a => b2 (X6_letter a v10 ((v11 - 1) - x2) h8) fun v12 h13 =>
b2 (X0_turned v1 1 h13) fun v14 h15 =>
(isO 0 v9 h15).bind fun a => b2 (X0_doubtOf va a v12 v14 h15) fun v16 h17 =>
(gR 6 9 (some a0) h17).bind fun v18 =>
(isO 0 v18 h17).bind fun a => b2 (X0_isForgiven a v7 h17) fun v19 h20 =>
if v19 = 0 then (X6_both_103 va h20) else ((gR 6 9 (some a0) h20).bind fun v21 =>
(isO 0 v21 h20).bind fun a => b2 (X0_isForgiven a v16 h20) fun v22 h23 =>
if v22 = 0 then (X6_both_103 va h23) else (b2 (J16_bitCount v1 h23) fun v24 h25 =>
some (((((Int64.toInt32 (v7 + v16)) * 1000) + v24), h25))))
noncomputable def X6_reckons_146 (va : VaT) (a0 : Nat) (x1 : Int32) (x2 : Int32) (x3 : Int32) (h : AH) : Option (AH) :=
(gR 6 6 (some a0) h).bind fun v1 =>
(xR 106 v1 x1 h).bind fun v2 =>
(sI 100 v2 x2 x3 h).bind fun h3 =>
some (h3)
noncomputable def X6_reckons_113 (va : VaT) (a0 : Nat) (x1 : Int32) (x2 : Int32) (x3 : Int32) (h : AH) : Option (AH) :=
(gI 6 4 (some a0) h).bind fun v4 =>
if x2 < v4 then ((isO 6 (some a0) h).bind fun a => b2 (X6_second a x2 h) fun v5 h6 =>
(isO 6 (some a0) h6).bind fun a => b2 (X6_alone a v5 h6) fun v7 h8 =>
(gR 6 6 (some a0) h8).bind fun v9 =>
(xR 106 v9 x1 h8).bind fun v10 =>
(xI 100 v10 (x2 + 1) h8).bind fun v11 =>
b2 (J4_min x3 (v7 + v11) h8) fun v12 h13 =>
X6_reckons_146 va a0 x1 x2 v12 h13) else (X6_reckons_146 va a0 x1 x2 x3 h)
noncomputable def X6_reckons_80 (va : VaT) (a0 : Nat) (x1 : Int32) (x2 : Int32) (x3 : Int32) (h : AH) : Option (AH) :=
(gI 6 3 (some a0) h).bind fun v14 =>
if x1 < v14 then ((isO 6 (some a0) h).bind fun a => b2 (X6_first a x1 h) fun v15 h16 =>
(isO 6 (some a0) h16).bind fun a => b2 (X6_alone a v15 h16) fun v17 h18 =>
(gR 6 6 (some a0) h18).bind fun v19 =>
(xR 106 v19 (x1 + 1) h18).bind fun v20 =>
(xI 100 v20 x2 h18).bind fun v21 =>
b2 (J4_min x3 (v17 + v21) h18) fun v22 h23 =>
X6_reckons_113 va a0 x1 x2 v22 h23) else (X6_reckons_113 va a0 x1 x2 x3 h)
noncomputable def X6_reckons_26b (va : VaT) (a0 : Nat) (x1 : Int32) (x2 : Int32) (x3 : Int32) (x4 : Int32) (h : AH) : Option ((Int32 × Int32 × AH) ⊕ (AH)) :=
if x4 < 4 then ((gI 6 3 (some a0) h).bind fun v24 =>
if x1 < v24 then ((gI 6 4 (some a0) h).bind fun v25 =>
if x2 < v25 then ((isO 6 (some a0) h).bind fun a => b2 (X6_both va a x1 x2 x4 h) fun v26 h27 =>
(gR 6 6 (some a0) h27).bind fun v28 =>
(xR 106 v28 (x1 + 1) h27).bind fun v29 =>
(xI 100 v29 (x2 + 1) h27).bind fun v30 =>
b2 (J4_min x3 (v26 + v30) h27) fun v31 h32 =>
some (.inl (v31, (x4 + 1), h32))) else ((X6_reckons_80 va a0 x1 x2 x3 h).bind fun o => some (.inr o))) else ((X6_reckons_80 va a0 x1 x2 x3 h).bind fun o => some (.inr o))) else ((X6_reckons_80 va a0 x1 x2 x3 h).bind fun o => some (.inr o))
noncomputable def X6_reckons_26 (va : VaT) (a0 : Nat) (x1 : Int32) (x2 : Int32) (x3 : Int32) (x4 : Int32) (h : AH) : Option (AH) := loopC (fun s : Int32 × Int32 × AH => X6_reckons_26b va a0 x1 x2 s.1 s.2.1 s.2.2) (x3, x4, h)
noncomputable def X6_reckons_20 (va : VaT) (a0 : Nat) (x1 : Int32) (x2 : Int32) (h : AH) : Option (AH) :=
X6_reckons_26 va a0 x1 x2 100000000 0 h
noncomputable def X6_reckons (va : VaT) (a0 : Nat) (x1 : Int32) (x2 : Int32) (h : AH) : Option (AH) :=
(gI 6 3 (some a0) h).bind fun v33 =>
if x1 = v33 then ((gI 6 4 (some a0) h).bind fun v34 =>
if x2 = v34 then (X6_reckons_26 va a0 x1 x2 0 0 h) else (X6_reckons_20 va a0 x1 x2 h)) else (X6_reckons_20 va a0 x1 x2 h)
noncomputable def X6_by_84b (va : VaT) (a0 : Nat) (x4 : Int32) (x5 : Int32) (h : AH) : Option ((Int32 × AH) ⊕ ((Int32 × AH) ⊕ (Option Nat × AH))) :=
if x5 < 0 then (some (.inr (.inl ((x4 + (-1)), h)))) else ((isO 6 (some a0) h).bind fun a => (X6_reckons va a x4 x5 h).bind fun h1 =>
some (.inl ((x5 + (-1)), h1)))
noncomputable def X6_by_84 (va : VaT) (a0 : Nat) (x4 : Int32) (x5 : Int32) (h : AH) : Option ((Int32 × AH) ⊕ (Option Nat × AH)) := loopC (fun s : Int32 × AH => X6_by_84b va a0 x4 s.1 s.2) (x5, h)
noncomputable def X6_by_73b (va : VaT) (a0 : Nat) (x4 : Int32) (h : AH) : Option ((Int32 × AH) ⊕ (Option Nat × AH)) :=
if x4 < 0 then (some (.inr (((some a0), h)))) else ((gI 6 4 (some a0) h).bind fun v2 =>
X6_by_84 va a0 x4 v2 h)
noncomputable def X6_by_73 (va : VaT) (a0 : Nat) (x4 : Int32) (h : AH) : Option (Option Nat × AH) := loopC (fun s : Int32 × AH => X6_by_73b va a0 s.1 s.2) (x4, h)
noncomputable def X6_by (va : VaT) (a0 : Nat) (x1 : Int32) (x2 : Int32) (x3 : Int32) (h : AH) : Option (Option Nat × AH) :=
(pI 6 0 (some a0) x1 h).bind fun h3 =>
(pI 6 1 (some a0) x2 h3).bind fun h4 =>
(pI 6 2 (some a0) x3 h4).bind fun h5 =>
(gR 6 9 (some a0) h5).bind fun v6 =>
(gR 0 0 v6 h5).bind fun v7 =>
(gR 1 5 v7 h5).bind fun v8 =>
(isO 23 v8 h5).bind fun a => b2 (J2_get a x1 h5) fun v9 h10 =>
(cst [9] v9 h10).bind fun _ =>
(isO 9 v9 h10).bind fun a => b2 (X9_size a h10) fun v11 h12 =>
(pI 6 3 (some a0) v11 h12).bind fun h13 =>
(gR 6 9 (some a0) h13).bind fun v14 =>
(gR 0 0 v14 h13).bind fun v15 =>
(gR 1 5 v15 h13).bind fun v16 =>
(isO 23 v16 h13).bind fun a => b2 (J2_get a x2 h13) fun v17 h18 =>
(cst [9] v17 h18).bind fun _ =>
(isO 9 v17 h18).bind fun a => b2 (X9_size a h18) fun v19 h20 =>
(pI 6 4 (some a0) v19 h20).bind fun h21 =>
(gI 6 3 (some a0) h21).bind fun v22 =>
X6_by_73 va a0 v22 h21
noncomputable def X6_doubt (a0 : Nat) (h : AH) : Option (Int32 × AH) :=
(gR 6 6 (some a0) h).bind fun v1 =>
(xR 106 v1 0 h).bind fun v2 =>
(xI 100 v2 0 h).bind fun v3 =>
(nz 1000).bind fun _ =>
some (((v3 / 1000), h))
noncomputable def X0_looked_41 (va : VaT)  (h : AH) : Option (Int64 × AH) :=
some (((-1), h))
noncomputable def X0_looked_107 (va : VaT)  (h : AH) : Option (Int64 × AH) :=
some (((-1), h))
noncomputable def X0_looked (va : VaT) (a0 : Nat) (x1 : Int32) (x2 : Int64) (h : AH) : Option (Int64 × AH) :=
if x1 = 0 then (if (lg_cmp x2 0) < 0 then (X0_looked_41 va h) else ((isO 0 (some a0) h).bind fun a => b2 (X0_words a h) fun v15 h16 =>
if (lg_cmp x2 (Int32.toInt64 v15)) < 0 then ((gR 0 11 (some a0) h16).bind fun v17 =>
(gI 0 15 (some a0) h16).bind fun v18 =>
(isO 6 v17 h16).bind fun a => b2 (X6_by va a v18 (Int64.toInt32 x2) 0 h16) fun v19 h20 =>
(isO 6 v19 h20).bind fun a => b2 (X6_doubt a h20) fun v21 h22 =>
some (((Int32.toInt64 v21), h22))) else (X0_looked_41 va h16))) else (if (lg_cmp x2 0) < 0 then (X0_looked_107 va h) else ((gR 0 0 (some a0) h).bind fun v1 =>
(gR 1 5 v1 h).bind fun v2 =>
(gI 0 15 (some a0) h).bind fun v3 =>
(isO 23 v2 h).bind fun a => b2 (J2_get a v3 h) fun v4 h5 =>
(cst [9] v4 h5).bind fun _ =>
(isO 9 v4 h5).bind fun a => b2 (X9_size a h5) fun v6 h7 =>
if (lg_cmp x2 (Int32.toInt64 v6)) < 0 then ((gR 0 0 (some a0) h7).bind fun v8 =>
(gR 1 5 v8 h7).bind fun v9 =>
(gI 0 15 (some a0) h7).bind fun v10 =>
(isO 23 v9 h7).bind fun a => b2 (J2_get a v10 h7) fun v11 h12 =>
(cst [9] v11 h12).bind fun _ =>
(isO 9 v11 h12).bind fun a => b2 (X9_at a (Int64.toInt32 x2) h12) fun v13 h14 =>
some (((Int32.toInt64 v13), h14))) else (X0_looked_107 va h7)))
noncomputable def X0_readAs_17b (va : VaT) (a0 : Nat) (x1 : Int32) (x2 : Int32) (x3 : Int32) (x4 : Int64) (x6 : Int32) (h : AH) : Option ((Int32 × Int64 × Int32 × AH) ⊕ (Int32 × AH)) :=
(isO 0 (some a0) h).bind fun a => b2 (X0_letters a x1 h) fun v1 h2 =>
if x6 < v1 then ((isO 0 (some a0) h2).bind fun a => b2 (X0_letterOf a x1 x6 h2) fun v3 h4 =>
(isO 0 (some a0) h4).bind fun a => b2 (X0_doubtOf va a v3 x2 h4) fun v5 h6 =>
if (lg_cmp v5 x4) < 0 then ((isO 0 (some a0) h6).bind fun a => b2 (X0_letterOf a x1 x6 h6) fun v7 h8 =>
(gI 8 0 v7 h8).bind fun v9 =>
some (.inl (v9, v5, (x6 + 1), h8))) else (some (.inl (x3, x4, (x6 + 1), h6)))) else (some (.inr ((x3, h2))))
noncomputable def X0_readAs_17 (va : VaT) (a0 : Nat) (x1 : Int32) (x2 : Int32) (x3 : Int32) (x4 : Int64) (x6 : Int32) (h : AH) : Option (Int32 × AH) := loopC (fun s : Int32 × Int64 × Int32 × AH => X0_readAs_17b va a0 x1 x2 s.1 s.2.1 s.2.2.1 s.2.2.2) (x3, x4, x6, h)
noncomputable def X0_readAs (va : VaT) (a0 : Nat) (x1 : Int32) (x2 : Int32) (h : AH) : Option (Int32 × AH) :=
(gR 0 0 (some a0) h).bind fun v10 =>
(gI 1 1 v10 h).bind fun v11 =>
X0_readAs_17 va a0 x1 x2 0 ((Int32.toInt64 v11) + 1) 0 h
noncomputable def X0_reads (va : VaT) (a0 : Nat) (x1 : Int32) (x2 : Int32) (x3 : Int32) (h : AH) : Option (Int32 × AH) :=
b2 (X0_isHand x1 h) fun v1 h2 =>
if v1 = 0 then (some (((-1), h2))) else (b2 (X0_isSeen x2 x3 h2) fun v3 h4 =>
if v3 = 0 then (some (((-1), h4))) else (b2 (X0_turned x2 x3 h4) fun v5 h6 =>
(isO 0 (some a0) h6).bind fun a => b2 (X0_readAs va a x1 v5 h6) fun v7 h8 =>
some ((v7, h8))))
noncomputable def X0_isAhead (a0 : Nat) (x1 : Int32) (x2 : Int32) (x3 : Int32) (h : AH) : Option (Int32 × AH) :=
b2 (X0_is x1 x2 x3 h) fun v1 h2 =>
if v1 = 0 then (some ((0, h2))) else ((gR 0 9 (some a0) h2).bind fun v3 =>
(gI 5 0 v3 h2).bind fun v4 =>
if 999 < (v4 + x1) then (some ((0, h2))) else (some ((1, h2))))
noncomputable def X5_copy_49b (a0 : Nat) (x1 : Option Nat) (x2 : Int32) (x3 : Int32) (h : AH) : Option ((Int32 × AH) ⊕ ((Int32 × AH) ⊕ (Option Nat × AH))) :=
if x3 < 6 then ((gR 5 6 (some a0) h).bind fun v1 =>
(xR 106 v1 x2 h).bind fun v2 =>
(gR 5 6 x1 h).bind fun v3 =>
(xR 106 v3 x2 h).bind fun v4 =>
(xI 100 v4 x3 h).bind fun v5 =>
(sI 100 v2 x3 v5 h).bind fun h6 =>
some (.inl ((x3 + 1), h6))) else (some (.inr (.inl ((x2 + 1), h))))
noncomputable def X5_copy_49 (a0 : Nat) (x1 : Option Nat) (x2 : Int32) (x3 : Int32) (h : AH) : Option ((Int32 × AH) ⊕ (Option Nat × AH)) := loopC (fun s : Int32 × AH => X5_copy_49b a0 x1 x2 s.1 s.2) (x3, h)
noncomputable def X5_copy_95b (a0 : Nat) (x1 : Option Nat) (x2 : Int32) (x3 : Int32) (h : AH) : Option ((Int32 × AH) ⊕ ((Int32 × AH) ⊕ (Option Nat × AH))) :=
if x3 < 3 then ((gR 5 7 (some a0) h).bind fun v7 =>
(xR 106 v7 x2 h).bind fun v8 =>
(gR 5 7 x1 h).bind fun v9 =>
(xR 106 v9 x2 h).bind fun v10 =>
(xI 100 v10 x3 h).bind fun v11 =>
(sI 100 v8 x3 v11 h).bind fun h12 =>
some (.inl ((x3 + 1), h12))) else (some (.inr (.inl ((x2 + 1), h))))
noncomputable def X5_copy_95 (a0 : Nat) (x1 : Option Nat) (x2 : Int32) (x3 : Int32) (h : AH) : Option ((Int32 × AH) ⊕ (Option Nat × AH)) := loopC (fun s : Int32 × AH => X5_copy_95b a0 x1 x2 s.1 s.2) (x3, h)
noncomputable def X5_copy_85b (a0 : Nat) (x1 : Option Nat) (x2 : Int32) (h : AH) : Option ((Int32 × AH) ⊕ (Option Nat × AH)) :=
(gI 5 1 (some a0) h).bind fun v13 =>
if x2 < v13 then (X5_copy_95 a0 x1 x2 0 h) else (some (.inr (((some a0), h))))
noncomputable def X5_copy_85 (a0 : Nat) (x1 : Option Nat) (x2 : Int32) (h : AH) : Option (Option Nat × AH) := loopC (fun s : Int32 × AH => X5_copy_85b a0 x1 s.1 s.2) (x2, h)
noncomputable def X5_copy_18b (a0 : Nat) (x1 : Option Nat) (x2 : Int32) (h : AH) : Option ((Int32 × AH) ⊕ (Option Nat × AH)) :=
if x2 < 4 then ((gR 5 4 (some a0) h).bind fun v14 =>
(gR 5 4 x1 h).bind fun v15 =>
(xI 100 v15 x2 h).bind fun v16 =>
(sI 100 v14 x2 v16 h).bind fun h17 =>
(gR 5 5 (some a0) h17).bind fun v18 =>
(gR 5 5 x1 h17).bind fun v19 =>
(xI 100 v19 x2 h17).bind fun v20 =>
(sI 100 v18 x2 v20 h17).bind fun h21 =>
X5_copy_49 a0 x1 x2 0 h21) else ((X5_copy_85 a0 x1 0 h).bind fun o => some (.inr o))
noncomputable def X5_copy_18 (a0 : Nat) (x1 : Option Nat) (x2 : Int32) (h : AH) : Option (Option Nat × AH) := loopC (fun s : Int32 × AH => X5_copy_18b a0 x1 s.1 s.2) (x2, h)
noncomputable def X5_copy (a0 : Nat) (x1 : Option Nat) (h : AH) : Option (Option Nat × AH) :=
(gI 5 0 x1 h).bind fun v22 =>
(pI 5 0 (some a0) v22 h).bind fun h23 =>
(gI 5 1 x1 h23).bind fun v24 =>
(pI 5 1 (some a0) v24 h23).bind fun h25 =>
X5_copy_18 a0 x1 0 h25
noncomputable def X5_says_35 (va : VaT) (x2 : Int32) (s0 : Option Nat) (s1 : Int32) (s2 : Option Nat) (s3 : Int32) (h : AH) : Option (Int32 × AH) :=
(xI 100 s2 s3 h).bind fun v1 =>
b2 (X0_turned v1 x2 h) fun v2 h3 =>
(isO 0 s0 h3).bind fun a => b2 (X0_readAs va a s1 v2 h3) fun v4 h5 =>
some ((v4, h5))
noncomputable def X5_says (va : VaT) (a0 : Nat) (x1 : Int32) (x2 : Int32) (x3 : Int32) (h : AH) : Option (Int32 × AH) :=
(gR 5 9 (some a0) h).bind fun v6 =>
(gR 5 5 (some a0) h).bind fun v7 =>
(xI 100 v7 x1 h).bind fun v8 =>
(gR 5 6 (some a0) h).bind fun v9 =>
(xR 106 v9 x1 h).bind fun v10 =>
(nz 2).bind fun _ =>
if (jrem x2 2) = 0 then (X5_says_35 va x2 v6 v8 v10 x3 h) else ((isO 5 (some a0) h).bind fun a => b2 (X5_places a x1 h) fun v11 h12 =>
X5_says_35 va x2 v6 v8 v10 ((v11 - 1) - x3) h12)
noncomputable def X0_draw (a0 : Nat) (x1 : Int32) (h : AH) : Option (Int32 × AH) :=
(gL 0 14 (some a0) h).bind fun v1 =>
(nzL 2147483648).bind fun _ =>
(pL 0 14 (some a0) (jremL ((1103515245 * v1) + 12345) 2147483648) h).bind fun h2 =>
(gL 0 14 (some a0) h2).bind fun v3 =>
(nzL 64).bind fun _ =>
(nzL (Int32.toInt64 x1)).bind fun _ =>
some (((Int64.toInt32 (jremL (v3 / 64) (Int32.toInt64 x1))), h2))
noncomputable def X5_hails_63 (a0 : Nat) (x1 : Int32) (x2 : Int32) (x3 : Int32) (s0 : Option Nat) (s1 : Int32) (s2 : Int32) (h : AH) : Option (AH) :=
(pI 5 3 s0 (s1 + s2) h).bind fun h1 =>
(gR 5 6 (some a0) h1).bind fun v2 =>
(xR 106 v2 x1 h1).bind fun v3 =>
(xI 100 v3 x2 h1).bind fun v4 =>
(sI 100 v3 x2 (v4 &&& ((jshl 1 x3) ^^^ (-1))) h1).bind fun h5 =>
some (h5)
noncomputable def X5_hails (a0 : Nat) (h : AH) : Option (AH) :=
(gR 5 9 (some a0) h).bind fun v6 =>
(gR 5 9 (some a0) h).bind fun v7 =>
(isO 0 v7 h).bind fun a => b2 (X0_boards a h) fun v8 h9 =>
(isO 0 v6 h9).bind fun a => b2 (X0_draw a v8 h9) fun v10 h11 =>
(gR 5 9 (some a0) h11).bind fun v12 =>
(isO 5 (some a0) h11).bind fun a => b2 (X5_places a v10 h11) fun v13 h14 =>
(isO 0 v12 h14).bind fun a => b2 (X0_draw a v13 h14) fun v15 h16 =>
(gR 5 9 (some a0) h16).bind fun v17 =>
(isO 0 v17 h16).bind fun a => b2 (X0_draw a 15 h16) fun v18 h19 =>
(gI 5 3 (some a0) h19).bind fun v20 =>
(gR 5 6 (some a0) h19).bind fun v21 =>
(xR 106 v21 v10 h19).bind fun v22 =>
(xI 100 v22 v15 h19).bind fun v23 =>
b2 (X0_has v23 v18 h19) fun v24 h25 =>
if v24 = 0 then (X5_hails_63 a0 v10 v15 v18 (some a0) v20 0 h25) else (X5_hails_63 a0 v10 v15 v18 (some a0) v20 1 h25)
noncomputable def X5_near_83 (x1 : Int32) (x2 : Int32) (x4 : Int32) (s0 : Int32) (s1 : Int32) (h : AH) : Option (Int32 × AH) :=
if x4 < 2 then (b2 (X0_has x1 (x2 + 1) h) fun v1 h2 =>
if v1 = 0 then (some ((((s0 + s1) + 0), h2))) else (some ((((s0 + s1) + 1), h2)))) else (some ((((s0 + s1) + 0), h)))
noncomputable def X5_near_82 (x1 : Int32) (x2 : Int32) (x4 : Int32) (s0 : Int32) (h : AH) : Option (Int32 × AH) :=
X5_near_83 x1 x2 x4 s0 0 h
noncomputable def X5_near_58 (x1 : Int32) (x2 : Int32) (x4 : Int32) (s0 : Int32) (s1 : Int32) (h : AH) : Option (Int32 × AH) :=
if 0 < x4 then (b2 (X0_has x1 (x2 - 1) h) fun v3 h4 =>
if v3 = 0 then (X5_near_82 x1 x2 x4 (s0 + s1) h4) else (X5_near_83 x1 x2 x4 (s0 + s1) 1 h4)) else (X5_near_82 x1 x2 x4 (s0 + s1) h)
noncomputable def X5_near_57 (x1 : Int32) (x2 : Int32) (x4 : Int32) (s0 : Int32) (h : AH) : Option (Int32 × AH) :=
X5_near_58 x1 x2 x4 s0 0 h
noncomputable def X5_near_33 (x1 : Int32) (x2 : Int32) (x3 : Int32) (x4 : Int32) (s0 : Int32) (s1 : Int32) (h : AH) : Option (Int32 × AH) :=
if x3 < 4 then (b2 (X0_has x1 (x2 + 3) h) fun v5 h6 =>
if v5 = 0 then (X5_near_57 x1 x2 x4 (s0 + s1) h6) else (X5_near_58 x1 x2 x4 (s0 + s1) 1 h6)) else (X5_near_57 x1 x2 x4 (s0 + s1) h)
noncomputable def X5_near_32 (x1 : Int32) (x2 : Int32) (x3 : Int32) (x4 : Int32) (s0 : Int32) (h : AH) : Option (Int32 × AH) :=
X5_near_33 x1 x2 x3 x4 s0 0 h
noncomputable def X5_near (a0 : Nat) (x1 : Int32) (x2 : Int32) (h : AH) : Option (Int32 × AH) :=
(nz 3).bind fun _ =>
(nz 3).bind fun _ =>
if 0 < (x2 / 3) then (b2 (X0_has x1 (x2 - 3) h) fun v7 h8 =>
if v7 = 0 then (X5_near_32 x1 x2 (x2 / 3) (jrem x2 3) 0 h8) else (X5_near_33 x1 x2 (x2 / 3) (jrem x2 3) 0 1 h8)) else (X5_near_32 x1 x2 (x2 / 3) (jrem x2 3) 0 h)
noncomputable def X5_rainedOn_5b (th : ThT) (a0 : Nat) (x1 : Int32) (x2 : Int32) (x3 : Int32) (x4 : Int32) (h : AH) : Option ((Int32 × Int32 × AH) ⊕ (Int32 × AH)) :=
if x4 < 15 then ((gR 5 9 (some a0) h).bind fun v1 =>
(gR 0 0 v1 h).bind fun v2 =>
(gR 1 8 v2 h).bind fun v3 =>
if v3 = none then (some (.inr ((x3, h)))) else (b2 (X0_has x1 x4 h) fun v4 h5 =>
if v4 = 0 then (some (.inl (x3, (x4 + 1), h5))) else ((gR 5 9 (some a0) h5).bind fun v6 =>
(gR 0 6 v6 h5).bind fun v7 =>
(gR 4 0 v7 h5).bind fun v8 =>
(nz 3).bind fun _ =>
(sL 103 v8 3 (Int32.toInt64 (jrem x4 3)) h5).bind fun h9 =>
(gR 5 9 (some a0) h9).bind fun v10 =>
(gR 0 6 v10 h9).bind fun v11 =>
(gR 4 0 v11 h9).bind fun v12 =>
(nz 3).bind fun _ =>
(sL 103 v12 4 (Int32.toInt64 (x4 / 3)) h9).bind fun h13 =>
(gR 5 9 (some a0) h13).bind fun v14 =>
(gR 0 6 v14 h13).bind fun v15 =>
(gR 4 0 v15 h13).bind fun v16 =>
(sL 103 v16 5 (Int32.toInt64 x2) h13).bind fun h17 =>
(gR 5 9 (some a0) h17).bind fun v18 =>
(gR 0 6 v18 h17).bind fun v19 =>
(gR 4 0 v19 h17).bind fun v20 =>
(isO 5 (some a0) h17).bind fun a => b2 (X5_near a x1 x4 h17) fun v21 h22 =>
(sL 103 v20 6 (Int32.toInt64 v21) h22).bind fun h23 =>
(gR 5 9 (some a0) h23).bind fun v24 =>
(gR 0 6 v24 h23).bind fun v25 =>
(gR 4 0 v25 h23).bind fun v26 =>
(gI 5 0 (some a0) h23).bind fun v27 =>
(sL 103 v26 7 (Int32.toInt64 v27) h23).bind fun h28 =>
(gR 5 9 (some a0) h28).bind fun v29 =>
(gR 0 0 v29 h28).bind fun v30 =>
(gR 1 8 v30 h28).bind fun v31 =>
(gR 5 9 (some a0) h28).bind fun v32 =>
(gR 0 6 v32 h28).bind fun v33 =>
b2 (th v31 v33 h28) fun v34 h35 =>
if v34 = 0 then (some (.inl (x3, (x4 + 1), h35))) else (some (.inl ((x3 &&& ((jshl 1 x4) ^^^ (-1))), (x4 + 1), h35)))))) else (some (.inr ((x3, h))))
noncomputable def X5_rainedOn_5 (th : ThT) (a0 : Nat) (x1 : Int32) (x2 : Int32) (x3 : Int32) (x4 : Int32) (h : AH) : Option (Int32 × AH) := loopC (fun s : Int32 × Int32 × AH => X5_rainedOn_5b th a0 x1 x2 s.1 s.2.1 s.2.2) (x3, x4, h)
noncomputable def X5_rainedOn (th : ThT) (a0 : Nat) (x1 : Int32) (x2 : Int32) (h : AH) : Option (Int32 × AH) :=
X5_rainedOn_5 th a0 x1 x2 x1 0 h
noncomputable def X5_tells_99 (va : VaT) (a0 : Nat) (x1 : Int32) (x2 : Int32) (h : AH) : Option (AH) :=
(gR 5 7 (some a0) h).bind fun v1 =>
(gI 5 1 (some a0) h).bind fun v2 =>
(xR 106 v1 v2 h).bind fun v3 =>
(gI 5 0 (some a0) h).bind fun v4 =>
(sI 100 v3 0 v4 h).bind fun h5 =>
(gR 5 7 (some a0) h5).bind fun v6 =>
(gI 5 1 (some a0) h5).bind fun v7 =>
(xR 106 v6 v7 h5).bind fun v8 =>
(sI 100 v8 1 x1 h5).bind fun h9 =>
(gR 5 7 (some a0) h9).bind fun v10 =>
(gI 5 1 (some a0) h9).bind fun v11 =>
(xR 106 v10 v11 h9).bind fun v12 =>
(sI 100 v12 2 x2 h9).bind fun h13 =>
(gI 5 1 (some a0) h13).bind fun v14 =>
(pI 5 1 (some a0) (v14 + 1) h13).bind fun h15 =>
some (h15)
noncomputable def X5_tells_66b (va : VaT) (a0 : Nat) (x1 : Int32) (x2 : Int32) (x3 : Int32) (h : AH) : Option ((Int32 × Int32 × AH) ⊕ (AH)) :=
(isO 5 (some a0) h).bind fun a => b2 (X5_places a x1 h) fun v16 h17 =>
if x3 < v16 then ((isO 5 (some a0) h17).bind fun a => b2 (X5_says va a x1 0 x3 h17) fun v18 h19 =>
if v18 = 0 then (some (.inl ((x2 + 1), (x3 + 1), h19))) else (some (.inl ((x2 + 0), (x3 + 1), h19)))) else ((X5_tells_99 va a0 x1 x2 h17).bind fun o => some (.inr o))
noncomputable def X5_tells_66 (va : VaT) (a0 : Nat) (x1 : Int32) (x2 : Int32) (x3 : Int32) (h : AH) : Option (AH) := loopC (fun s : Int32 × Int32 × AH => X5_tells_66b va a0 x1 s.1 s.2.1 s.2.2) (x2, x3, h)
noncomputable def X5_tells_44 (va : VaT) (a0 : Nat) (x1 : Int32) (x2 : Option Nat) (h : AH) : Option (AH) :=
(gR 5 7 (some a0) h).bind fun v20 =>
(sR 106 [100] v20 39 x2 h).bind fun h21 =>
(gI 5 1 (some a0) h21).bind fun v22 =>
(pI 5 1 (some a0) (v22 - 1) h21).bind fun h23 =>
X5_tells_66 va a0 x1 0 0 h23
noncomputable def X5_tells_18b (va : VaT) (a0 : Nat) (x1 : Int32) (x2 : Option Nat) (x3 : Int32) (h : AH) : Option ((Int32 × AH) ⊕ (AH)) :=
if x3 < 40 then ((gR 5 7 (some a0) h).bind fun v24 =>
(gR 5 7 (some a0) h).bind fun v25 =>
(xR 106 v25 x3 h).bind fun v26 =>
(sR 106 [100] v24 (x3 - 1) v26 h).bind fun h27 =>
some (.inl ((x3 + 1), h27))) else ((X5_tells_44 va a0 x1 x2 h).bind fun o => some (.inr o))
noncomputable def X5_tells_18 (va : VaT) (a0 : Nat) (x1 : Int32) (x2 : Option Nat) (x3 : Int32) (h : AH) : Option (AH) := loopC (fun s : Int32 × AH => X5_tells_18b va a0 x1 x2 s.1 s.2) (x3, h)
noncomputable def X5_tells (va : VaT) (a0 : Nat) (x1 : Int32) (h : AH) : Option (AH) :=
(gI 5 1 (some a0) h).bind fun v28 =>
if v28 = 40 then ((gR 5 7 (some a0) h).bind fun v29 =>
(xR 106 v29 0 h).bind fun v30 =>
X5_tells_18 va a0 x1 v30 1 h) else (X5_tells_66 va a0 x1 0 0 h)
noncomputable def X5_passes_15b (va : VaT) (th : ThT) (a0 : Nat) (x1 : Int32) (x2 : Int32) (x3 : Int32) (h : AH) : Option ((Int32 × AH) ⊕ ((Int32 × AH) ⊕ (AH))) :=
(isO 5 (some a0) h).bind fun a => b2 (X5_places a x2 h) fun v1 h2 =>
if x3 < v1 then ((gR 5 8 (some a0) h2).bind fun v3 =>
(xR 106 v3 x2 h2).bind fun v4 =>
(isO 5 (some a0) h2).bind fun a => b2 (X5_says va a x2 0 x3 h2) fun v5 h6 =>
(sI 100 v4 x3 v5 h6).bind fun h7 =>
some (.inl ((x3 + 1), h7))) else (some (.inr (.inl ((x2 + 1), h2))))
noncomputable def X5_passes_15 (va : VaT) (th : ThT) (a0 : Nat) (x1 : Int32) (x2 : Int32) (x3 : Int32) (h : AH) : Option ((Int32 × AH) ⊕ (AH)) := loopC (fun s : Int32 × AH => X5_passes_15b va th a0 x1 x2 s.1 s.2) (x3, h)
noncomputable def X5_passes_177 (va : VaT) (th : ThT) (a0 : Nat) (x2 : Int32) (x3 : Int32) (h : AH) : Option ((Int32 × AH) ⊕ (AH)) :=
if x3 = 0 then ((isO 5 (some a0) h).bind fun a => (X5_tells va a x2 h).bind fun h8 =>
some (.inl ((x2 + 1), h8))) else (some (.inl ((x2 + 1), h)))
noncomputable def X5_passes_77b (va : VaT) (th : ThT) (a0 : Nat) (x2 : Int32) (x3 : Int32) (x4 : Int32) (h : AH) : Option ((Int32 × Int32 × AH) ⊕ ((Int32 × AH) ⊕ (AH))) :=
(isO 5 (some a0) h).bind fun a => b2 (X5_places a x2 h) fun v9 h10 =>
if x4 < v9 then ((gR 5 6 (some a0) h10).bind fun v11 =>
(xR 106 v11 x2 h10).bind fun v12 =>
(xI 100 v12 x4 h10).bind fun v13 =>
(isO 5 (some a0) h10).bind fun a => b2 (X5_rainedOn th a v13 x4 h10) fun v14 h15 =>
(gI 5 2 (some a0) h15).bind fun v16 =>
(gR 5 6 (some a0) h15).bind fun v17 =>
(xR 106 v17 x2 h15).bind fun v18 =>
(xI 100 v18 x4 h15).bind fun v19 =>
b2 (J16_bitCount (v19 &&& (v14 ^^^ (-1))) h15) fun v20 h21 =>
(pI 5 2 (some a0) (v16 + v20) h21).bind fun h22 =>
(gR 5 6 (some a0) h22).bind fun v23 =>
(xR 106 v23 x2 h22).bind fun v24 =>
(sI 100 v24 x4 v14 h22).bind fun h25 =>
if x3 = 0 then (some (.inl (0, (x4 + 1), h25))) else ((isO 5 (some a0) h25).bind fun a => b2 (X5_says va a x2 0 x4 h25) fun v26 h27 =>
(gR 5 8 (some a0) h27).bind fun v28 =>
(xR 106 v28 x2 h27).bind fun v29 =>
(xI 100 v29 x4 h27).bind fun v30 =>
if v26 = v30 then (some (.inl (1, (x4 + 1), h27))) else (some (.inl (0, (x4 + 1), h27))))) else ((X5_passes_177 va th a0 x2 x3 h10).bind fun o => some (.inr o))
noncomputable def X5_passes_77 (va : VaT) (th : ThT) (a0 : Nat) (x2 : Int32) (x3 : Int32) (x4 : Int32) (h : AH) : Option ((Int32 × AH) ⊕ (AH)) := loopC (fun s : Int32 × Int32 × AH => X5_passes_77b va th a0 x2 s.1 s.2.1 s.2.2) (x3, x4, h)
noncomputable def X5_passes_192 (va : VaT) (th : ThT) (a0 : Nat) (h : AH) : Option (AH) :=
(gI 5 0 (some a0) h).bind fun v31 =>
(pI 5 0 (some a0) (v31 + 1) h).bind fun h32 =>
some (h32)
noncomputable def X5_passes_61b (va : VaT) (th : ThT) (a0 : Nat) (x2 : Int32) (h : AH) : Option ((Int32 × AH) ⊕ (AH)) :=
(gR 5 9 (some a0) h).bind fun v33 =>
(isO 0 v33 h).bind fun a => b2 (X0_boards a h) fun v34 h35 =>
if x2 < v34 then (X5_passes_77 va th a0 x2 1 0 h35) else ((X5_passes_192 va th a0 h35).bind fun o => some (.inr o))
noncomputable def X5_passes_61 (va : VaT) (th : ThT) (a0 : Nat) (x2 : Int32) (h : AH) : Option (AH) := loopC (fun s : Int32 × AH => X5_passes_61b va th a0 s.1 s.2) (x2, h)
noncomputable def X5_passes_51 (va : VaT) (th : ThT) (a0 : Nat) (x1 : Int32) (h : AH) : Option (AH) :=
if x1 = 0 then (X5_passes_61 va th a0 0 h) else ((isO 5 (some a0) h).bind fun a => (X5_hails a h).bind fun h36 =>
X5_passes_61 va th a0 0 h36)
noncomputable def X5_passes_2b (va : VaT) (th : ThT) (a0 : Nat) (x1 : Int32) (x2 : Int32) (h : AH) : Option ((Int32 × AH) ⊕ (AH)) :=
(gR 5 9 (some a0) h).bind fun v37 =>
(isO 0 v37 h).bind fun a => b2 (X0_boards a h) fun v38 h39 =>
if x2 < v38 then (X5_passes_15 va th a0 x1 x2 0 h39) else ((X5_passes_51 va th a0 x1 h39).bind fun o => some (.inr o))
noncomputable def X5_passes_2 (va : VaT) (th : ThT) (a0 : Nat) (x1 : Int32) (x2 : Int32) (h : AH) : Option (AH) := loopC (fun s : Int32 × AH => X5_passes_2b va th a0 x1 s.1 s.2) (x2, h)
noncomputable def X5_passes (va : VaT) (th : ThT) (a0 : Nat) (x1 : Int32) (h : AH) : Option (AH) :=
X5_passes_2 va th a0 x1 0 h
noncomputable def X5_years_2b (va : VaT) (th : ThT) (a0 : Nat) (x1 : Int32) (x2 : Int32) (h : AH) : Option ((Int32 × AH) ⊕ (Option Nat × AH)) :=
if x2 < x1 then ((isO 5 (some a0) h).bind fun a => (X5_passes va th a 0 h).bind fun h1 =>
some (.inl ((x2 + 1), h1))) else (some (.inr (((some a0), h))))
noncomputable def X5_years_2 (va : VaT) (th : ThT) (a0 : Nat) (x1 : Int32) (x2 : Int32) (h : AH) : Option (Option Nat × AH) := loopC (fun s : Int32 × AH => X5_years_2b va th a0 x1 s.1 s.2) (x2, h)
noncomputable def X5_years (va : VaT) (th : ThT) (a0 : Nat) (x1 : Int32) (h : AH) : Option (Option Nat × AH) :=
X5_years_2 va th a0 x1 0 h
noncomputable def X0_says (va : VaT) (th : ThT) (a0 : Nat) (x1 : Int32) (x2 : Int32) (x3 : Int32) (x4 : Int32) (h : AH) : Option (Int32 × AH) :=
(isO 0 (some a0) h).bind fun a => b2 (X0_isPlace a x1 x4 h) fun v1 h2 =>
if v1 = 0 then (some (((-1), h2))) else (b2 (X0_is x2 0 3 h2) fun v3 h4 =>
if v3 = 0 then (some (((-1), h4))) else ((isO 0 (some a0) h4).bind fun a => b2 (X0_isAhead a x3 0 60 h4) fun v5 h6 =>
if v5 = 0 then (some (((-1), h6))) else ((gR 0 10 (some a0) h6).bind fun v7 =>
(gR 0 9 (some a0) h6).bind fun v8 =>
(isO 5 v7 h6).bind fun a => b2 (X5_copy a v8 h6) fun v9 h10 =>
(isO 5 v9 h10).bind fun a => b2 (X5_years va th a x3 h10) fun v11 h12 =>
(isO 5 v11 h12).bind fun a => b2 (X5_says va a x1 x2 x4 h12) fun v13 h14 =>
some ((v13, h14)))))
noncomputable def X0_canPaint (a0 : Nat) (x1 : Int32) (x2 : Int32) (h : AH) : Option (Int32 × AH) :=
(isO 0 (some a0) h).bind fun a => b2 (X0_isWord a x1 h) fun v1 h2 =>
if v1 = 0 then (some ((0, h2))) else (b2 (X0_isHand x2 h2) fun v3 h4 =>
if v3 = 0 then (some ((0, h4))) else ((gR 0 0 (some a0) h4).bind fun v5 =>
(gR 0 0 (some a0) h4).bind fun v6 =>
(gR 1 5 v6 h4).bind fun v7 =>
(isO 23 v7 h4).bind fun a => b2 (J2_get a x1 h4) fun v8 h9 =>
(cst [9] v8 h9).bind fun _ =>
(isO 1 v5 h9).bind fun a => b2 (X1_isIn a x2 v8 h9) fun v10 h11 =>
if v10 = 0 then (some ((0, h11))) else (some ((1, h11)))))
noncomputable def X0_becomes_126 (va : VaT) (a0 : Nat) (x1 : Int32) (x2 : Int32) (x3 : Int32) (x4 : Int32) (x5 : Int32) (x7 : Int32) (s0 : Option Nat) (s1 : Int32) (s2 : Option Nat) (s3 : Int32) (s4 : Int32) (s5 : Int32) (h : AH) : Option ((Int32 × Int32 × AH) ⊕ ((Int32 × AH) ⊕ (Int32 × AH))) :=
(isO 1 s2 h).bind fun a => b2 (X1_glyph a s3 s4 s5 h) fun v1 h2 =>
b2 (X0_turned v1 x3 h2) fun v3 h4 =>
(isO 0 s0 h4).bind fun a => b2 (X0_readAs va a s1 v3 h4) fun v5 h6 =>
(gR 0 0 (some a0) h6).bind fun v7 =>
(gR 1 5 v7 h6).bind fun v8 =>
(isO 23 v8 h6).bind fun a => b2 (J2_get a x5 h6) fun v9 h10 =>
(cst [9] v9 h10).bind fun _ =>
(isO 9 v9 h10).bind fun a => b2 (X9_at a x7 h10) fun v11 h12 =>
if v5 = v11 then (some (.inl (1, (x7 + 1), h12))) else (some (.inl (0, (x7 + 1), h12)))
noncomputable def X0_becomes_174 (va : VaT) (a0 : Nat) (x1 : Int32) (x2 : Int32) (x3 : Int32) (x4 : Int32) (x5 : Int32) (x6 : Int32) (h : AH) : Option ((Int32 × AH) ⊕ (Int32 × AH)) :=
if x6 = 0 then (some (.inl ((x5 + 1), h))) else (some (.inr ((x5, h))))
noncomputable def X0_becomes_88b (va : VaT) (a0 : Nat) (x1 : Int32) (x2 : Int32) (x3 : Int32) (x4 : Int32) (x5 : Int32) (x6 : Int32) (x7 : Int32) (h : AH) : Option ((Int32 × Int32 × AH) ⊕ ((Int32 × AH) ⊕ (Int32 × AH))) :=
if x7 < x4 then (if x6 = 0 then ((X0_becomes_174 va a0 x1 x2 x3 x4 x5 x6 h).bind fun o => some (.inr o)) else ((gR 0 0 (some a0) h).bind fun v13 =>
(nz 2).bind fun _ =>
if (jrem x3 2) = 0 then (X0_becomes_126 va a0 x1 x2 x3 x4 x5 x7 (some a0) x2 v13 x2 x1 x7 h) else (X0_becomes_126 va a0 x1 x2 x3 x4 x5 x7 (some a0) x2 v13 x2 x1 ((x4 - 1) - x7) h))) else ((X0_becomes_174 va a0 x1 x2 x3 x4 x5 x6 h).bind fun o => some (.inr o))
noncomputable def X0_becomes_88 (va : VaT) (a0 : Nat) (x1 : Int32) (x2 : Int32) (x3 : Int32) (x4 : Int32) (x5 : Int32) (x6 : Int32) (x7 : Int32) (h : AH) : Option ((Int32 × AH) ⊕ (Int32 × AH)) := loopC (fun s : Int32 × Int32 × AH => X0_becomes_88b va a0 x1 x2 x3 x4 x5 s.1 s.2.1 s.2.2) (x6, x7, h)
noncomputable def X0_becomes_44b (va : VaT) (a0 : Nat) (x1 : Int32) (x2 : Int32) (x3 : Int32) (x4 : Int32) (x5 : Int32) (h : AH) : Option ((Int32 × AH) ⊕ (Int32 × AH)) :=
(isO 0 (some a0) h).bind fun a => b2 (X0_words a h) fun v14 h15 =>
if x5 < v14 then ((gR 0 0 (some a0) h15).bind fun v16 =>
(gR 1 5 v16 h15).bind fun v17 =>
(isO 23 v17 h15).bind fun a => b2 (J2_get a x5 h15) fun v18 h19 =>
(cst [9] v18 h19).bind fun _ =>
(isO 9 v18 h19).bind fun a => b2 (X9_size a h19) fun v20 h21 =>
if v20 = x4 then (X0_becomes_88 va a0 x1 x2 x3 x4 x5 1 0 h21) else (X0_becomes_88 va a0 x1 x2 x3 x4 x5 0 0 h21)) else (some (.inr (((-1), h15))))
noncomputable def X0_becomes_44 (va : VaT) (a0 : Nat) (x1 : Int32) (x2 : Int32) (x3 : Int32) (x4 : Int32) (x5 : Int32) (h : AH) : Option (Int32 × AH) := loopC (fun s : Int32 × AH => X0_becomes_44b va a0 x1 x2 x3 x4 s.1 s.2) (x5, h)
noncomputable def X0_becomes (va : VaT) (a0 : Nat) (x1 : Int32) (x2 : Int32) (x3 : Int32) (h : AH) : Option (Int32 × AH) :=
(isO 0 (some a0) h).bind fun a => b2 (X0_canPaint a x1 x2 h) fun v22 h23 =>
if v22 = 0 then (some (((-1), h23))) else (b2 (X0_is x3 0 3 h23) fun v24 h25 =>
if v24 = 0 then (some (((-1), h25))) else ((gR 0 0 (some a0) h25).bind fun v26 =>
(gR 1 5 v26 h25).bind fun v27 =>
(isO 23 v27 h25).bind fun a => b2 (J2_get a x1 h25) fun v28 h29 =>
(cst [9] v28 h29).bind fun _ =>
(isO 9 v28 h29).bind fun a => b2 (X9_size a h29) fun v30 h31 =>
X0_becomes_44 va a0 x1 x2 x3 v30 0 h31))
noncomputable def X6_piece (a0 : Nat) (x1 : Int32) (x2 : Int32) (h : AH) : Option (AH) :=
(gR 6 7 (some a0) h).bind fun v1 =>
(gI 6 5 (some a0) h).bind fun v2 =>
(sI 100 v1 v2 x1 h).bind fun h3 =>
(gR 6 8 (some a0) h3).bind fun v4 =>
(gI 6 5 (some a0) h3).bind fun v5 =>
(sI 100 v4 v5 x2 h3).bind fun h6 =>
(gI 6 5 (some a0) h6).bind fun v7 =>
(pI 6 5 (some a0) (v7 + 1) h6).bind fun h8 =>
some (h8)
noncomputable def X6_goes_57 (va : VaT) (a0 : Nat) (x1 : Int32) (x2 : Int32) (x3 : Int32) (h : AH) : Option (Int32 × AH) :=
(isO 6 (some a0) h).bind fun a => b2 (X6_choice a x1 x2 x3 h) fun v1 h2 =>
(isO 6 (some a0) h2).bind fun a => (X6_piece a 0 v1 h2).bind fun h3 =>
some ((0, h3))
noncomputable def X6_goes_149 (va : VaT) (x3 : Int32) (s0 : Option Nat) (s1 : Int32) (s2 : Int32) (h : AH) : Option (Int32 × AH) :=
(isO 6 s0 h).bind fun a => (X6_piece a s1 s2 h).bind fun h4 =>
if x3 = 0 then (some ((2, h4))) else (some ((1, h4)))
noncomputable def X6_goes_132 (va : VaT) (a0 : Nat) (x1 : Int32) (x2 : Int32) (x3 : Int32) (s0 : Option Nat) (s1 : Int32) (h : AH) : Option (Int32 × AH) :=
if x3 = 0 then ((isO 6 (some a0) h).bind fun a => b2 (X6_second a x2 h) fun v5 h6 =>
X6_goes_149 va x3 s0 s1 v5 h6) else ((isO 6 (some a0) h).bind fun a => b2 (X6_first a x1 h) fun v7 h8 =>
X6_goes_149 va x3 s0 s1 v7 h8)
noncomputable def X6_goes_121 (va : VaT) (a0 : Nat) (x1 : Int32) (x2 : Int32) (s0 : Int32) (h : AH) : Option (Int32 × AH) :=
if s0 = 0 then (X6_goes_132 va a0 x1 x2 s0 (some a0) 2 h) else (X6_goes_132 va a0 x1 x2 s0 (some a0) 1 h)
noncomputable def X6_goes_120 (va : VaT) (a0 : Nat) (x1 : Int32) (x2 : Int32) (h : AH) : Option (Int32 × AH) :=
X6_goes_121 va a0 x1 x2 0 h
noncomputable def X6_goes_77 (va : VaT) (a0 : Nat) (x1 : Int32) (x2 : Int32) (h : AH) : Option (Int32 × AH) :=
(gI 6 3 (some a0) h).bind fun v9 =>
if x1 < v9 then ((isO 6 (some a0) h).bind fun a => b2 (X6_first a x1 h) fun v10 h11 =>
(isO 6 (some a0) h11).bind fun a => b2 (X6_alone a v10 h11) fun v12 h13 =>
(gR 6 6 (some a0) h13).bind fun v14 =>
(xR 106 v14 (x1 + 1) h13).bind fun v15 =>
(xI 100 v15 x2 h13).bind fun v16 =>
(gR 6 6 (some a0) h13).bind fun v17 =>
(xR 106 v17 x1 h13).bind fun v18 =>
(xI 100 v18 x2 h13).bind fun v19 =>
if (v12 + v16) = v19 then (X6_goes_121 va a0 x1 x2 1 h13) else (X6_goes_120 va a0 x1 x2 h13)) else (X6_goes_120 va a0 x1 x2 h)
noncomputable def X6_goes_2b (va : VaT) (a0 : Nat) (x1 : Int32) (x2 : Int32) (x3 : Int32) (h : AH) : Option ((Int32 × AH) ⊕ (Int32 × AH)) :=
if x3 < 4 then ((gI 6 3 (some a0) h).bind fun v20 =>
if x1 < v20 then ((gI 6 4 (some a0) h).bind fun v21 =>
if x2 < v21 then ((isO 6 (some a0) h).bind fun a => b2 (X6_both va a x1 x2 x3 h) fun v22 h23 =>
(gR 6 6 (some a0) h23).bind fun v24 =>
(xR 106 v24 (x1 + 1) h23).bind fun v25 =>
(xI 100 v25 (x2 + 1) h23).bind fun v26 =>
(gR 6 6 (some a0) h23).bind fun v27 =>
(xR 106 v27 x1 h23).bind fun v28 =>
(xI 100 v28 x2 h23).bind fun v29 =>
if (v22 + v26) = v29 then ((X6_goes_57 va a0 x1 x2 x3 h23).bind fun o => some (.inr o)) else (some (.inl ((x3 + 1), h23)))) else ((X6_goes_77 va a0 x1 x2 h).bind fun o => some (.inr o))) else ((X6_goes_77 va a0 x1 x2 h).bind fun o => some (.inr o))) else ((X6_goes_77 va a0 x1 x2 h).bind fun o => some (.inr o))
noncomputable def X6_goes_2 (va : VaT) (a0 : Nat) (x1 : Int32) (x2 : Int32) (x3 : Int32) (h : AH) : Option (Int32 × AH) := loopC (fun s : Int32 × AH => X6_goes_2b va a0 x1 x2 s.1 s.2) (x3, h)
noncomputable def X6_goes (va : VaT) (a0 : Nat) (x1 : Int32) (x2 : Int32) (h : AH) : Option (Int32 × AH) :=
X6_goes_2 va a0 x1 x2 0 h
noncomputable def X6_laid_43 (va : VaT) (a0 : Nat) (x2 : Int32) (x3 : Int32) (s0 : Int32) (s1 : Int32) (h : AH) : Option ((Int32 × Int32 × AH) ⊕ (Option Nat × AH)) :=
if x3 = 1 then (some (.inl ((s0 + s1), (x2 + 0), h))) else (some (.inl ((s0 + s1), (x2 + 1), h)))
noncomputable def X6_laid_25 (va : VaT) (a0 : Nat) (x1 : Int32) (x2 : Int32) (h : AH) : Option ((Int32 × Int32 × AH) ⊕ (Option Nat × AH)) :=
(isO 6 (some a0) h).bind fun a => b2 (X6_goes va a x1 x2 h) fun v1 h2 =>
if v1 = 2 then (X6_laid_43 va a0 x2 v1 x1 0 h2) else (X6_laid_43 va a0 x2 v1 x1 1 h2)
noncomputable def X6_laid_9b (va : VaT) (a0 : Nat) (x1 : Int32) (x2 : Int32) (h : AH) : Option ((Int32 × Int32 × AH) ⊕ (Option Nat × AH)) :=
(gI 6 3 (some a0) h).bind fun v3 =>
if x1 < v3 then (X6_laid_25 va a0 x1 x2 h) else ((gI 6 4 (some a0) h).bind fun v4 =>
if x2 < v4 then (X6_laid_25 va a0 x1 x2 h) else (some (.inr (((some a0), h)))))
noncomputable def X6_laid_9 (va : VaT) (a0 : Nat) (x1 : Int32) (x2 : Int32) (h : AH) : Option (Option Nat × AH) := loopC (fun s : Int32 × Int32 × AH => X6_laid_9b va a0 s.1 s.2.1 s.2.2) (x1, x2, h)
noncomputable def X6_laid (va : VaT) (a0 : Nat) (h : AH) : Option (Option Nat × AH) :=
(pI 6 5 (some a0) 0 h).bind fun h5 =>
X6_laid_9 va a0 0 0 h5
noncomputable def X6_strokes (a0 : Nat) (h : AH) : Option (Int32 × AH) :=
(gR 6 6 (some a0) h).bind fun v1 =>
(xR 106 v1 0 h).bind fun v2 =>
(xI 100 v2 0 h).bind fun v3 =>
(nz 1000).bind fun _ =>
some (((jrem v3 1000), h))
noncomputable def X0_line (va : VaT) (a0 : Nat) (x1 : Int32) (x2 : Int32) (x3 : Int32) (x4 : Int32) (h : AH) : Option (Int32 × AH) :=
(isO 0 (some a0) h).bind fun a => b2 (X0_canPaint a x1 x3 h) fun v1 h2 =>
if v1 = 0 then (some (((-1), h2))) else ((isO 0 (some a0) h2).bind fun a => b2 (X0_canPaint a x2 x3 h2) fun v3 h4 =>
if v3 = 0 then (some (((-1), h4))) else (b2 (X0_is x4 0 2 h4) fun v5 h6 =>
if v5 = 0 then (some (((-1), h6))) else ((gR 0 11 (some a0) h6).bind fun v7 =>
(isO 6 v7 h6).bind fun a => b2 (X6_by va a x1 x2 x3 h6) fun v8 h9 =>
if x4 = 0 then ((gR 0 11 (some a0) h9).bind fun v17 =>
(isO 6 v17 h9).bind fun a => b2 (X6_doubt a h9) fun v18 h19 =>
some ((v18, h19))) else (if x4 = 1 then ((gR 0 11 (some a0) h9).bind fun v14 =>
(isO 6 v14 h9).bind fun a => b2 (X6_strokes a h9) fun v15 h16 =>
some ((v15, h16))) else ((gR 0 11 (some a0) h9).bind fun v10 =>
(isO 6 v10 h9).bind fun a => b2 (X6_laid va a h9) fun v11 h12 =>
(gI 6 5 v11 h12).bind fun v13 =>
some ((v13, h12)))))))
noncomputable def X0_piece (va : VaT) (a0 : Nat) (x1 : Int32) (x2 : Int32) (x3 : Int32) (x4 : Int32) (x5 : Int32) (h : AH) : Option (Int32 × AH) :=
(isO 0 (some a0) h).bind fun a => b2 (X0_canPaint a x1 x3 h) fun v1 h2 =>
if v1 = 0 then (some (((-1), h2))) else ((isO 0 (some a0) h2).bind fun a => b2 (X0_canPaint a x2 x3 h2) fun v3 h4 =>
if v3 = 0 then (some (((-1), h4))) else (if x4 < 0 then (some (((-1), h4))) else (b2 (X0_is x5 0 1 h4) fun v5 h6 =>
if v5 = 0 then (some (((-1), h6))) else ((gR 0 11 (some a0) h6).bind fun v7 =>
(isO 6 v7 h6).bind fun a => b2 (X6_by va a x1 x2 x3 h6) fun v8 h9 =>
(isO 6 v8 h9).bind fun a => b2 (X6_laid va a h9) fun v10 h11 =>
(gR 0 11 (some a0) h11).bind fun v12 =>
(gI 6 5 v12 h11).bind fun v13 =>
if x4 < v13 then (if x5 = 0 then ((gR 0 11 (some a0) h11).bind fun v17 =>
(gR 6 7 v17 h11).bind fun v18 =>
(xI 100 v18 x4 h11).bind fun v19 =>
some ((v19, h11))) else ((gR 0 11 (some a0) h11).bind fun v14 =>
(gR 6 8 v14 h11).bind fun v15 =>
(xI 100 v15 x4 h11).bind fun v16 =>
some ((v16, h11)))) else (some (((-1), h11)))))))
noncomputable def X0_best_19b (va : VaT) (a0 : Nat) (x1 : Int32) (x2 : Int32) (x3 : Int32) (x4 : Int32) (h : AH) : Option ((Int32 × Int32 × Int32 × AH) ⊕ (Int32 × AH)) :=
(isO 0 (some a0) h).bind fun a => b2 (X0_words a h) fun v1 h2 =>
if x4 < v1 then ((gR 0 11 (some a0) h2).bind fun v3 =>
(isO 6 v3 h2).bind fun a => b2 (X6_by va a x1 x4 0 h2) fun v4 h5 =>
(isO 6 v4 h5).bind fun a => b2 (X6_doubt a h5) fun v6 h7 =>
if v6 < x3 then (some (.inl (x4, v6, (x4 + 1), h7))) else (some (.inl (x2, x3, (x4 + 1), h7)))) else (some (.inr ((x2, h2))))
noncomputable def X0_best_19 (va : VaT) (a0 : Nat) (x1 : Int32) (x2 : Int32) (x3 : Int32) (x4 : Int32) (h : AH) : Option (Int32 × AH) := loopC (fun s : Int32 × Int32 × Int32 × AH => X0_best_19b va a0 x1 s.1 s.2.1 s.2.2.1 s.2.2.2) (x2, x3, x4, h)
noncomputable def X0_best (va : VaT) (a0 : Nat) (x1 : Int32) (h : AH) : Option (Int32 × AH) :=
(isO 0 (some a0) h).bind fun a => b2 (X0_isWord a x1 h) fun v8 h9 =>
if v8 = 0 then (some (((-1), h9))) else (X0_best_19 va a0 x1 (-1) 100000000 0 h9)
noncomputable def X0_hand_41 (va : VaT) (a0 : Nat) (x1 : Int32) (x2 : Int32) (s0 : Int32) (h : AH) : Option (Int32 × AH) :=
if s0 = 0 then (some ((0, h))) else ((gR 0 11 (some a0) h).bind fun v1 =>
(isO 6 v1 h).bind fun a => b2 (X6_by va a x1 x2 1 h) fun v2 h3 =>
(isO 6 v2 h3).bind fun a => b2 (X6_doubt a h3) fun v4 h5 =>
(gR 0 11 (some a0) h5).bind fun v6 =>
(isO 6 v6 h5).bind fun a => b2 (X6_by va a x1 x2 0 h5) fun v7 h8 =>
(isO 6 v7 h8).bind fun a => b2 (X6_doubt a h8) fun v9 h10 =>
if v4 < v9 then (some ((1, h10))) else (some ((0, h10))))
noncomputable def X0_hand_40 (va : VaT) (a0 : Nat) (x1 : Int32) (x2 : Int32) (h : AH) : Option (Int32 × AH) :=
X0_hand_41 va a0 x1 x2 0 h
noncomputable def X0_hand (va : VaT) (a0 : Nat) (x1 : Int32) (x2 : Int32) (h : AH) : Option (Int32 × AH) :=
(isO 0 (some a0) h).bind fun a => b2 (X0_isWord a x1 h) fun v11 h12 =>
if v11 = 0 then (some (((-1), h12))) else ((isO 0 (some a0) h12).bind fun a => b2 (X0_isWord a x2 h12) fun v13 h14 =>
if v13 = 0 then (some (((-1), h14))) else ((isO 0 (some a0) h14).bind fun a => b2 (X0_canPaint a x1 1 h14) fun v15 h16 =>
if v15 = 0 then (X0_hand_40 va a0 x1 x2 h16) else ((isO 0 (some a0) h16).bind fun a => b2 (X0_canPaint a x2 1 h16) fun v17 h18 =>
if v17 = 0 then (X0_hand_40 va a0 x1 x2 h18) else (X0_hand_41 va a0 x1 x2 1 h18))))
noncomputable def X0_canHaveBeen_51b (a0 : Nat) (x1 : Int32) (x2 : Int32) (x3 : Int32) (h : AH) : Option ((Int32 × AH) ⊕ (Int32 × AH)) :=
(gR 0 9 (some a0) h).bind fun v1 =>
(isO 5 v1 h).bind fun a => b2 (X5_places a x1 h) fun v2 h3 =>
if x3 < v2 then ((gR 0 9 (some a0) h3).bind fun v4 =>
(gR 5 6 v4 h3).bind fun v5 =>
(xR 106 v5 x1 h3).bind fun v6 =>
(xI 100 v6 x3 h3).bind fun v7 =>
(gR 0 0 (some a0) h3).bind fun v8 =>
(gR 0 9 (some a0) h3).bind fun v9 =>
(gR 5 5 v9 h3).bind fun v10 =>
(xI 100 v10 x1 h3).bind fun v11 =>
(isO 1 v8 h3).bind fun a => b2 (X1_glyph a v11 x2 x3 h3) fun v12 h13 =>
if (v7 &&& (v12 ^^^ (-1))) = 0 then (some (.inl ((x3 + 1), h13))) else (some (.inr ((0, h13))))) else (some (.inr ((1, h3))))
noncomputable def X0_canHaveBeen_51 (a0 : Nat) (x1 : Int32) (x2 : Int32) (x3 : Int32) (h : AH) : Option (Int32 × AH) := loopC (fun s : Int32 × AH => X0_canHaveBeen_51b a0 x1 x2 s.1 s.2) (x3, h)
noncomputable def X0_canHaveBeen (a0 : Nat) (x1 : Int32) (x2 : Int32) (h : AH) : Option (Int32 × AH) :=
(gR 0 0 (some a0) h).bind fun v14 =>
(gR 1 5 v14 h).bind fun v15 =>
(isO 23 v15 h).bind fun a => b2 (J2_get a x2 h) fun v16 h17 =>
(cst [9] v16 h17).bind fun _ =>
(isO 9 v16 h17).bind fun a => b2 (X9_size a h17) fun v18 h19 =>
(gR 0 9 (some a0) h19).bind fun v20 =>
(isO 5 v20 h19).bind fun a => b2 (X5_places a x1 h19) fun v21 h22 =>
if v18 = v21 then ((gR 0 9 (some a0) h22).bind fun v23 =>
(gR 5 5 v23 h22).bind fun v24 =>
(xI 100 v24 x1 h22).bind fun v25 =>
(isO 0 (some a0) h22).bind fun a => b2 (X0_canPaint a x2 v25 h22) fun v26 h27 =>
if v26 = 0 then (some ((0, h27))) else (X0_canHaveBeen_51 a0 x1 x2 0 h27)) else (some ((0, h22)))
noncomputable def X0_been_39 (a0 : Nat) (x1 : Int32) (x3 : Int32) (s0 : Int32) (s1 : Int32) (h : AH) : Option ((Int32 × Int32 × AH) ⊕ (Int32 × AH)) :=
some (.inl ((s0 ||| s1), (x3 + 1), h))
noncomputable def X0_been_14b (a0 : Nat) (x1 : Int32) (x2 : Int32) (x3 : Int32) (h : AH) : Option ((Int32 × Int32 × AH) ⊕ (Int32 × AH)) :=
(isO 0 (some a0) h).bind fun a => b2 (X0_words a h) fun v1 h2 =>
if x3 < v1 then ((isO 0 (some a0) h2).bind fun a => b2 (X0_canHaveBeen a x1 x3 h2) fun v3 h4 =>
if v3 = 0 then (X0_been_39 a0 x1 x3 x2 0 h4) else (X0_been_39 a0 x1 x3 x2 (jshl 1 x3) h4)) else (some (.inr ((x2, h2))))
noncomputable def X0_been_14 (a0 : Nat) (x1 : Int32) (x2 : Int32) (x3 : Int32) (h : AH) : Option (Int32 × AH) := loopC (fun s : Int32 × Int32 × AH => X0_been_14b a0 x1 s.1 s.2.1 s.2.2) (x2, x3, h)
noncomputable def X0_been (a0 : Nat) (x1 : Int32) (h : AH) : Option (Int32 × AH) :=
(isO 0 (some a0) h).bind fun a => b2 (X0_isBoard a x1 h) fun v5 h6 =>
if v5 = 0 then (some (((-1), h6))) else (X0_been_14 a0 x1 0 0 h6)
noncomputable def X5_isAsPainted_2b (va : VaT) (a0 : Nat) (x1 : Int32) (x2 : Int32) (h : AH) : Option ((Int32 × AH) ⊕ (Int32 × AH)) :=
(isO 5 (some a0) h).bind fun a => b2 (X5_places a x1 h) fun v1 h2 =>
if x2 < v1 then ((isO 5 (some a0) h2).bind fun a => b2 (X5_says va a x1 0 x2 h2) fun v3 h4 =>
(gR 5 9 (some a0) h4).bind fun v5 =>
(gR 0 0 v5 h4).bind fun v6 =>
(gR 1 5 v6 h4).bind fun v7 =>
(gR 5 4 (some a0) h4).bind fun v8 =>
(xI 100 v8 x1 h4).bind fun v9 =>
(isO 23 v7 h4).bind fun a => b2 (J2_get a v9 h4) fun v10 h11 =>
(cst [9] v10 h11).bind fun _ =>
(isO 9 v10 h11).bind fun a => b2 (X9_at a x2 h11) fun v12 h13 =>
if v3 = v12 then (some (.inl ((x2 + 1), h13))) else (some (.inr ((0, h13))))) else (some (.inr ((1, h2))))
noncomputable def X5_isAsPainted_2 (va : VaT) (a0 : Nat) (x1 : Int32) (x2 : Int32) (h : AH) : Option (Int32 × AH) := loopC (fun s : Int32 × AH => X5_isAsPainted_2b va a0 x1 s.1 s.2) (x2, h)
noncomputable def X5_isAsPainted (va : VaT) (a0 : Nat) (x1 : Int32) (h : AH) : Option (Int32 × AH) :=
X5_isAsPainted_2 va a0 x1 0 h
noncomputable def X0_lasts_35b (va : VaT) (th : ThT) (a0 : Nat) (x1 : Int32) (x2 : Int32) (h : AH) : Option ((Int32 × AH) ⊕ (Int32 × AH)) :=
(isO 0 (some a0) h).bind fun a => b2 (X0_isAhead a (x2 + 1) 1 60 h) fun v1 h2 =>
if v1 = 0 then (some (.inr ((x2, h2)))) else ((gR 0 10 (some a0) h2).bind fun v3 =>
(isO 5 v3 h2).bind fun a => b2 (X5_years va th a 1 h2) fun v4 h5 =>
(isO 5 v4 h5).bind fun a => b2 (X5_isAsPainted va a x1 h5) fun v6 h7 =>
if v6 = 0 then (some (.inr ((x2, h7)))) else (some (.inl ((x2 + 1), h7))))
noncomputable def X0_lasts_35 (va : VaT) (th : ThT) (a0 : Nat) (x1 : Int32) (x2 : Int32) (h : AH) : Option (Int32 × AH) := loopC (fun s : Int32 × AH => X0_lasts_35b va th a0 x1 s.1 s.2) (x2, h)
noncomputable def X0_lasts (va : VaT) (th : ThT) (a0 : Nat) (x1 : Int32) (h : AH) : Option (Int32 × AH) :=
(isO 0 (some a0) h).bind fun a => b2 (X0_isBoard a x1 h) fun v8 h9 =>
if v8 = 0 then (some (((-1), h9))) else ((gR 0 9 (some a0) h9).bind fun v10 =>
(isO 5 v10 h9).bind fun a => b2 (X5_isAsPainted va a x1 h9) fun v11 h12 =>
if v11 = 0 then (some (((-1), h12))) else ((gR 0 10 (some a0) h12).bind fun v13 =>
(gR 0 9 (some a0) h12).bind fun v14 =>
(isO 5 v13 h12).bind fun a => b2 (X5_copy a v14 h12) fun v15 h16 =>
X0_lasts_35 va th a0 x1 0 h16))
noncomputable def X0_mend_140 (va : VaT) (a0 : Nat) (x1 : Int32) (x4 : Option Nat) (x5 : Int32) (x6 : Int32) (h : AH) : Option (Int32 × AH) :=
(gR 0 9 (some a0) h).bind fun v1 =>
(gR 5 5 v1 h).bind fun v2 =>
(xI 100 v2 x1 h).bind fun v3 =>
(isO 0 (some a0) h).bind fun a => b2 (X0_readAs va a v3 x5 h) fun v4 h5 =>
(gI 8 0 x4 h5).bind fun v6 =>
if v4 = v6 then (some ((x6, h5))) else (some (((-1), h5)))
noncomputable def X0_mend_63b (va : VaT) (a0 : Nat) (x1 : Int32) (x4 : Option Nat) (x5 : Int32) (x6 : Int32) (x7 : Int32) (h : AH) : Option ((Int32 × Int32 × Int32 × AH) ⊕ (Int32 × AH)) :=
if x7 < 15 then ((gR 0 9 (some a0) h).bind fun v7 =>
(gR 5 5 v7 h).bind fun v8 =>
(xI 100 v8 x1 h).bind fun v9 =>
(isO 0 (some a0) h).bind fun a => b2 (X0_readAs va a v9 x5 h) fun v10 h11 =>
(gI 8 0 x4 h11).bind fun v12 =>
if v10 = v12 then (some (.inr ((x6, h11)))) else (b2 (X0_has x5 x7 h11) fun v13 h14 =>
if v13 = 0 then ((gI 8 1 x4 h14).bind fun v15 =>
b2 (X0_has v15 x7 h14) fun v16 h17 =>
if v16 = 0 then (some (.inl (x5, x6, (x7 + 1), h17))) else (some (.inl ((x5 ||| (jshl 1 x7)), (x6 + 1), (x7 + 1), h17)))) else (some (.inl (x5, x6, (x7 + 1), h14))))) else ((X0_mend_140 va a0 x1 x4 x5 x6 h).bind fun o => some (.inr o))
noncomputable def X0_mend_63 (va : VaT) (a0 : Nat) (x1 : Int32) (x4 : Option Nat) (x5 : Int32) (x6 : Int32) (x7 : Int32) (h : AH) : Option (Int32 × AH) := loopC (fun s : Int32 × Int32 × Int32 × AH => X0_mend_63b va a0 x1 x4 s.1 s.2.1 s.2.2.1 s.2.2.2) (x5, x6, x7, h)
noncomputable def X0_mend (va : VaT) (a0 : Nat) (x1 : Int32) (x2 : Int32) (x3 : Int32) (h : AH) : Option (Int32 × AH) :=
(isO 0 (some a0) h).bind fun a => b2 (X0_isPlace a x1 x2 h) fun v18 h19 =>
if v18 = 0 then (some (((-1), h19))) else ((gR 0 9 (some a0) h19).bind fun v20 =>
(gR 5 5 v20 h19).bind fun v21 =>
(xI 100 v21 x1 h19).bind fun v22 =>
(isO 0 (some a0) h19).bind fun a => b2 (X0_isLetterOf a v22 x3 h19) fun v23 h24 =>
if v23 = 0 then (some (((-1), h24))) else ((gR 0 9 (some a0) h24).bind fun v25 =>
(gR 5 5 v25 h24).bind fun v26 =>
(xI 100 v26 x1 h24).bind fun v27 =>
(isO 0 (some a0) h24).bind fun a => b2 (X0_letterOf a v27 x3 h24) fun v28 h29 =>
(gR 0 9 (some a0) h29).bind fun v30 =>
(gR 5 6 v30 h29).bind fun v31 =>
(xR 106 v31 x1 h29).bind fun v32 =>
(xI 100 v32 x2 h29).bind fun v33 =>
X0_mend_63 va a0 x1 v28 v33 0 0 h29))
noncomputable def X0_undo (a0 : Nat) (h : AH) : Option (Int32 × AH) :=
(gI 0 13 (some a0) h).bind fun v1 =>
if v1 = 0 then ((isO 0 (some a0) h).bind fun a => b2 (X0_refuses a 4 h) fun v10 h11 =>
if v10 < 0 then (some ((0, h11))) else (some ((1, h11)))) else ((gI 0 13 (some a0) h).bind fun v2 =>
(pI 0 13 (some a0) (v2 - 1) h).bind fun h3 =>
(gR 0 9 (some a0) h3).bind fun v4 =>
(gR 0 12 (some a0) h3).bind fun v5 =>
(gI 0 13 (some a0) h3).bind fun v6 =>
(xR 107 v5 v6 h3).bind fun v7 =>
(isO 5 v4 h3).bind fun a => b2 (X5_copy a v7 h3) fun v8 h9 =>
some ((1, h9)))
noncomputable def X0_keeps_62 (a0 : Nat) (h : AH) : Option (AH) :=
(gR 0 12 (some a0) h).bind fun v1 =>
(gI 0 13 (some a0) h).bind fun v2 =>
(xR 107 v1 v2 h).bind fun v3 =>
(gR 0 9 (some a0) h).bind fun v4 =>
(isO 5 v3 h).bind fun a => b2 (X5_copy a v4 h) fun v5 h6 =>
(gI 0 13 (some a0) h6).bind fun v7 =>
(pI 0 13 (some a0) (v7 + 1) h6).bind fun h8 =>
some (h8)
noncomputable def X0_keeps_44 (a0 : Nat) (x1 : Option Nat) (h : AH) : Option (AH) :=
(gR 0 12 (some a0) h).bind fun v9 =>
(sR 107 [5] v9 19 x1 h).bind fun h10 =>
(gI 0 13 (some a0) h10).bind fun v11 =>
(pI 0 13 (some a0) (v11 - 1) h10).bind fun h12 =>
X0_keeps_62 a0 h12
noncomputable def X0_keeps_18b (a0 : Nat) (x1 : Option Nat) (x2 : Int32) (h : AH) : Option ((Int32 × AH) ⊕ (AH)) :=
if x2 < 20 then ((gR 0 12 (some a0) h).bind fun v13 =>
(gR 0 12 (some a0) h).bind fun v14 =>
(xR 107 v14 x2 h).bind fun v15 =>
(sR 107 [5] v13 (x2 - 1) v15 h).bind fun h16 =>
some (.inl ((x2 + 1), h16))) else ((X0_keeps_44 a0 x1 h).bind fun o => some (.inr o))
noncomputable def X0_keeps_18 (a0 : Nat) (x1 : Option Nat) (x2 : Int32) (h : AH) : Option (AH) := loopC (fun s : Int32 × AH => X0_keeps_18b a0 x1 s.1 s.2) (x2, h)
noncomputable def X0_keeps (a0 : Nat) (h : AH) : Option (AH) :=
(gI 0 13 (some a0) h).bind fun v17 =>
if v17 = 20 then ((gR 0 12 (some a0) h).bind fun v18 =>
(xR 107 v18 0 h).bind fun v19 =>
X0_keeps_18 a0 v19 1 h) else (X0_keeps_62 a0 h)
noncomputable def X0_years (va : VaT) (th : ThT) (a0 : Nat) (x1 : Int32) (h : AH) : Option (Int32 × AH) :=
(isO 0 (some a0) h).bind fun a => b2 (X0_isAhead a x1 1 100 h) fun v1 h2 =>
if v1 = 0 then ((isO 0 (some a0) h2).bind fun a => b2 (X0_refuses a 3 h2) fun v11 h12 =>
some ((v11, h12))) else ((isO 0 (some a0) h2).bind fun a => (X0_keeps a h2).bind fun h3 =>
(gR 0 9 (some a0) h3).bind fun v4 =>
(pI 5 2 v4 0 h3).bind fun h5 =>
(gR 0 9 (some a0) h5).bind fun v6 =>
(isO 5 v6 h5).bind fun a => b2 (X5_years va th a x1 h5) fun v7 h8 =>
(gR 0 9 (some a0) h8).bind fun v9 =>
(gI 5 2 v9 h8).bind fun v10 =>
some ((v10, h8)))
noncomputable def X0_chance_68 (va : VaT) (th : ThT) (a0 : Nat) (x1 : Int32) (x2 : Int32) (s0 : Option Nat) (s1 : Int32) (h : AH) : Option ((Int32 × AH) ⊕ (Int32 × AH)) :=
(isO 5 s0 h).bind fun a => (X5_passes va th a s1 h).bind fun h1 =>
some (.inl ((x2 + 1), h1))
noncomputable def X0_chance_67 (va : VaT) (th : ThT) (a0 : Nat) (x1 : Int32) (x2 : Int32) (s0 : Option Nat) (h : AH) : Option ((Int32 × AH) ⊕ (Int32 × AH)) :=
X0_chance_68 va th a0 x1 x2 s0 0 h
noncomputable def X0_chance_77 (va : VaT) (th : ThT) (a0 : Nat) (h : AH) : Option (Int32 × AH) :=
(gR 0 9 (some a0) h).bind fun v2 =>
(gI 5 3 v2 h).bind fun v3 =>
some ((v3, h))
noncomputable def X0_chance_31b (va : VaT) (th : ThT) (a0 : Nat) (x1 : Int32) (x2 : Int32) (h : AH) : Option ((Int32 × AH) ⊕ (Int32 × AH)) :=
if x2 < x1 then ((gR 0 9 (some a0) h).bind fun v4 =>
(isO 0 (some a0) h).bind fun a => b2 (X0_draw a 100 h) fun v5 h6 =>
(gR 0 0 (some a0) h6).bind fun v7 =>
(gI 1 3 v7 h6).bind fun v8 =>
if v5 < v8 then ((isO 0 (some a0) h6).bind fun a => b2 (X0_boards a h6) fun v9 h10 =>
if 0 < v9 then (X0_chance_68 va th a0 x1 x2 v4 1 h10) else (X0_chance_67 va th a0 x1 x2 v4 h10)) else (X0_chance_67 va th a0 x1 x2 v4 h6)) else ((X0_chance_77 va th a0 h).bind fun o => some (.inr o))
noncomputable def X0_chance_31 (va : VaT) (th : ThT) (a0 : Nat) (x1 : Int32) (x2 : Int32) (h : AH) : Option (Int32 × AH) := loopC (fun s : Int32 × AH => X0_chance_31b va th a0 x1 s.1 s.2) (x2, h)
noncomputable def X0_chance (va : VaT) (th : ThT) (a0 : Nat) (x1 : Int32) (h : AH) : Option (Int32 × AH) :=
(isO 0 (some a0) h).bind fun a => b2 (X0_isAhead a x1 1 100 h) fun v11 h12 =>
if v11 = 0 then ((isO 0 (some a0) h12).bind fun a => b2 (X0_refuses a 3 h12) fun v16 h17 =>
some ((v16, h17))) else ((isO 0 (some a0) h12).bind fun a => (X0_keeps a h12).bind fun h13 =>
(gR 0 9 (some a0) h13).bind fun v14 =>
(pI 5 3 v14 0 h13).bind fun h15 =>
X0_chance_31 va th a0 x1 0 h15)
noncomputable def X0_stroke_58 (a0 : Nat) (h : AH) : Option (Int32 × AH) :=
(isO 0 (some a0) h).bind fun a => b2 (X0_refuses a 2 h) fun v1 h2 =>
if v1 < 0 then (some ((0, h2))) else (some ((1, h2)))
noncomputable def X0_stroke_55 (a0 : Nat) (x1 : Int32) (x2 : Int32) (x3 : Int32) (s0 : Int32) (s1 : Int32) (h : AH) : Option (Int32 × AH) :=
if s0 = s1 then (X0_stroke_58 a0 h) else ((isO 0 (some a0) h).bind fun a => (X0_keeps a h).bind fun h3 =>
(gR 0 9 (some a0) h3).bind fun v4 =>
(gR 5 6 v4 h3).bind fun v5 =>
(xR 106 v5 x1 h3).bind fun v6 =>
(xI 100 v6 x2 h3).bind fun v7 =>
(sI 100 v6 x2 (v7 ^^^ (jshl 1 x3)) h3).bind fun h8 =>
some ((1, h8)))
noncomputable def X0_stroke (a0 : Nat) (x1 : Int32) (x2 : Int32) (x3 : Int32) (x4 : Int32) (h : AH) : Option (Int32 × AH) :=
(isO 0 (some a0) h).bind fun a => b2 (X0_isPlace a x1 x2 h) fun v9 h10 =>
if v9 = 0 then (X0_stroke_58 a0 h10) else (b2 (X0_is x3 0 14 h10) fun v11 h12 =>
if v11 = 0 then (X0_stroke_58 a0 h12) else (b2 (X0_is x4 0 1 h12) fun v13 h14 =>
if v13 = 0 then (X0_stroke_58 a0 h14) else ((gR 0 9 (some a0) h14).bind fun v15 =>
(gR 5 6 v15 h14).bind fun v16 =>
(xR 106 v16 x1 h14).bind fun v17 =>
(xI 100 v17 x2 h14).bind fun v18 =>
b2 (X0_has v18 x3 h14) fun v19 h20 =>
if x4 = 1 then (X0_stroke_55 a0 x1 x2 x3 v19 1 h20) else (X0_stroke_55 a0 x1 x2 x3 v19 0 h20))))
noncomputable def X0_paint_17 (a0 : Nat) (h : AH) : Option (Int32 × AH) :=
(isO 0 (some a0) h).bind fun a => b2 (X0_refuses a 2 h) fun v1 h2 =>
if v1 < 0 then (some ((0, h2))) else (some ((1, h2)))
noncomputable def X0_paint (a0 : Nat) (x1 : Int32) (x2 : Int32) (x3 : Int32) (h : AH) : Option (Int32 × AH) :=
(isO 0 (some a0) h).bind fun a => b2 (X0_isBoard a x1 h) fun v3 h4 =>
if v3 = 0 then (X0_paint_17 a0 h4) else ((isO 0 (some a0) h4).bind fun a => b2 (X0_canPaint a x2 x3 h4) fun v5 h6 =>
if v5 = 0 then (X0_paint_17 a0 h6) else ((isO 0 (some a0) h6).bind fun a => (X0_keeps a h6).bind fun h7 =>
(gR 0 9 (some a0) h7).bind fun v8 =>
(isO 5 v8 h7).bind fun a => (X5_paints a x1 x2 x3 h7).bind fun h9 =>
some ((1, h9))))
noncomputable def X0_seed (a0 : Nat) (x1 : Int32) (h : AH) : Option (Int32 × AH) :=
if x1 < 0 then ((isO 0 (some a0) h).bind fun a => b2 (X0_refuses a 5 h) fun v2 h3 =>
if v2 < 0 then (some ((0, h3))) else (some ((1, h3)))) else ((pL 0 14 (some a0) (Int32.toInt64 x1) h).bind fun h1 =>
some ((1, h1)))
noncomputable def X0_inkOf_4b (a0 : Nat) (x1 : Int32) (x2 : Int32) (x3 : Int32) (h : AH) : Option ((Int32 × Int32 × AH) ⊕ (Int32 × AH)) :=
(gR 0 0 (some a0) h).bind fun v1 =>
(gR 1 5 v1 h).bind fun v2 =>
(isO 23 v2 h).bind fun a => b2 (J2_get a x1 h) fun v3 h4 =>
(cst [9] v3 h4).bind fun _ =>
(isO 9 v3 h4).bind fun a => b2 (X9_size a h4) fun v5 h6 =>
if x3 < v5 then ((gR 0 0 (some a0) h6).bind fun v7 =>
(isO 1 v7 h6).bind fun a => b2 (X1_glyph a 0 x1 x3 h6) fun v8 h9 =>
b2 (J16_bitCount v8 h9) fun v10 h11 =>
some (.inl ((x2 + v10), (x3 + 1), h11))) else (some (.inr ((x2, h6))))
noncomputable def X0_inkOf_4 (a0 : Nat) (x1 : Int32) (x2 : Int32) (x3 : Int32) (h : AH) : Option (Int32 × AH) := loopC (fun s : Int32 × Int32 × AH => X0_inkOf_4b a0 x1 s.1 s.2.1 s.2.2) (x2, x3, h)
noncomputable def X0_inkOf (a0 : Nat) (x1 : Int32) (h : AH) : Option (Int32 × AH) :=
X0_inkOf_4 a0 x1 0 0 h
noncomputable def X22_answer_15 (a0 : Nat) (h : AH) : Option (Int64 × AH) :=
(gL 22 3 (some a0) h).bind fun v1 =>
some ((v1, h))
noncomputable def X22_answer (a0 : Nat) (h : AH) : Option (Int64 × AH) :=
(gI 22 4 (some a0) h).bind fun v2 =>
if v2 = 0 then ((gI 22 0 (some a0) h).bind fun v3 =>
if v3 < 2 then (X22_answer_15 a0 h) else (some ((0, h)))) else (X22_answer_15 a0 h)
noncomputable def X22_meets_65 (va : VaT) (th : ThT) (a0 : Nat) (s0 : Option Nat) (s1 : Int64) (h : AH) : Option (AH) :=
(pL 22 3 s0 s1 h).bind fun h1 =>
(pZ 22 4 (some a0) 1 h1).bind fun h2 =>
some (h2)
noncomputable def X22_meets_63 (va : VaT) (th : ThT) (a0 : Nat) (x1 : Int32) (s0 : Option Nat) (h : AH) : Option (AH) :=
X22_meets_65 va th a0 s0 (Int32.toInt64 x1) h
noncomputable def X22_meets_139 (va : VaT) (th : ThT) (a0 : Nat) (s0 : Option Nat) (s1 : Int64) (h : AH) : Option (AH) :=
(pL 22 3 s0 s1 h).bind fun h3 =>
(pZ 22 4 (some a0) 1 h3).bind fun h4 =>
some (h4)
noncomputable def X22_meets (va : VaT) (th : ThT) (a0 : Nat) (x1 : Int32) (x2 : Option Nat) (h : AH) : Option (AH) :=
(gI 22 0 (some a0) h).bind fun v5 =>
if v5 < 3 then ((gR 22 1 (some a0) h).bind fun v19 =>
b2 (th v19 x2 h) fun v20 h21 =>
if v20 = 0 then (some (h21)) else ((gI 22 0 (some a0) h21).bind fun v22 =>
if v22 = 2 then ((gL 22 3 (some a0) h21).bind fun v26 =>
b2 (J4_max_2 0 v26 h21) fun v27 h28 =>
X22_meets_65 va th a0 (some a0) (v27 + 1) h28) else ((gI 22 0 (some a0) h21).bind fun v23 =>
if v23 = 0 then ((gI 22 4 (some a0) h21).bind fun v24 =>
if v24 = 0 then (X22_meets_63 va th a0 x1 (some a0) h21) else ((gL 22 3 (some a0) h21).bind fun v25 =>
X22_meets_65 va th a0 (some a0) v25 h21)) else (X22_meets_63 va th a0 x1 (some a0) h21)))) else ((gR 22 2 (some a0) h).bind fun v6 =>
b2 (va v6 x2 h) fun v7 h8 =>
(gI 22 4 (some a0) h8).bind fun v9 =>
if v9 = 0 then (X22_meets_139 va th a0 (some a0) v7 h8) else ((gI 22 0 (some a0) h8).bind fun v10 =>
if v10 = 3 then ((gL 22 3 (some a0) h8).bind fun v18 =>
X22_meets_139 va th a0 (some a0) (v18 + v7) h8) else ((gI 22 0 (some a0) h8).bind fun v11 =>
if v11 = 4 then ((gL 22 3 (some a0) h8).bind fun v15 =>
b2 (J4_max_2 v15 v7 h8) fun v16 h17 =>
X22_meets_139 va th a0 (some a0) v16 h17) else ((gL 22 3 (some a0) h8).bind fun v12 =>
b2 (J4_min_2 v12 v7 h8) fun v13 h14 =>
X22_meets_139 va th a0 (some a0) v13 h14))))
noncomputable def X22_init (a0 : Nat) (x1 : Int32) (x2 : Option Nat) (x3 : Option Nat) (h : AH) : Option (AH) :=
(nn (some a0)).bind fun v1 =>
(pL 22 3 (some a0) (-1) h).bind fun h2 =>
(pI 22 0 (some a0) x1 h2).bind fun h3 =>
(pR 22 1 (some a0) x2 h3).bind fun h4 =>
(pR 22 2 (some a0) x3 h4).bind fun h5 =>
some (h5)
noncomputable def X0_check_6b (x0 : Option Nat) (x1 : Int32) (x2 : Int32) (x3 : Int32) (h : AH) : Option ((Int32 × Int32 × AH) ⊕ (Int32 × AH)) :=
if x3 < x1 then ((xI 101 x0 x3 h).bind fun v1 =>
(nz 251).bind fun _ =>
some (.inl ((jrem ((3 * x2) + (v1 &&& 255)) 251), (x3 + 1), h))) else (some (.inr ((x2, h))))
noncomputable def X0_check_6 (x0 : Option Nat) (x1 : Int32) (x2 : Int32) (x3 : Int32) (h : AH) : Option (Int32 × AH) := loopC (fun s : Int32 × Int32 × AH => X0_check_6b x0 x1 s.1 s.2.1 s.2.2) (x2, x3, h)
noncomputable def X0_check (x0 : Option Nat) (x1 : Int32) (h : AH) : Option (Int32 × AH) :=
X0_check_6 x0 x1 223 0 h
noncomputable def X0_writes_4b (a0 : Nat) (x1 : Int32) (x3 : Int32) (h : AH) : Option ((Int32 × AH) ⊕ (AH)) :=
if x3 < 0 then (some (.inr (h))) else ((gR 0 16 (some a0) h).bind fun v1 =>
(gI 0 17 (some a0) h).bind fun v2 =>
(pI 0 17 (some a0) (v2 + 1) h).bind fun h3 =>
(sI 101 v1 v2 (nB (ji2b (jshr x1 (8 * x3)))) h3).bind fun h4 =>
some (.inl ((x3 + (-1)), h4)))
noncomputable def X0_writes_4 (a0 : Nat) (x1 : Int32) (x3 : Int32) (h : AH) : Option (AH) := loopC (fun s : Int32 × AH => X0_writes_4b a0 x1 s.1 s.2) (x3, h)
noncomputable def X0_writes (a0 : Nat) (x1 : Int32) (x2 : Int32) (h : AH) : Option (AH) :=
X0_writes_4 a0 x1 (x2 - 1) h
noncomputable def X0_image_57b (a0 : Nat) (x1 : Int32) (x2 : Int32) (h : AH) : Option ((Int32 × AH) ⊕ ((Int32 × AH) ⊕ (Int32 × AH))) :=
if x2 < 6 then ((gR 0 9 (some a0) h).bind fun v1 =>
(gR 5 6 v1 h).bind fun v2 =>
(xR 106 v2 x1 h).bind fun v3 =>
(xI 100 v3 x2 h).bind fun v4 =>
(isO 0 (some a0) h).bind fun a => (X0_writes a v4 2 h).bind fun h5 =>
some (.inl ((x2 + 1), h5))) else (some (.inr (.inl ((x1 + 1), h))))
noncomputable def X0_image_57 (a0 : Nat) (x1 : Int32) (x2 : Int32) (h : AH) : Option ((Int32 × AH) ⊕ (Int32 × AH)) := loopC (fun s : Int32 × AH => X0_image_57b a0 x1 s.1 s.2) (x2, h)
noncomputable def X0_image_91 (a0 : Nat) (h : AH) : Option (Int32 × AH) :=
(gR 0 16 (some a0) h).bind fun v6 =>
(gI 0 17 (some a0) h).bind fun v7 =>
b2 (X0_check v6 v7 h) fun v8 h9 =>
(isO 0 (some a0) h9).bind fun a => (X0_writes a v8 1 h9).bind fun h10 =>
(gI 0 17 (some a0) h10).bind fun v11 =>
some ((v11, h10))
noncomputable def X0_image_19b (a0 : Nat) (x1 : Int32) (h : AH) : Option ((Int32 × AH) ⊕ (Int32 × AH)) :=
(isO 0 (some a0) h).bind fun a => b2 (X0_boards a h) fun v12 h13 =>
if x1 < v12 then ((gR 0 9 (some a0) h13).bind fun v14 =>
(gR 5 4 v14 h13).bind fun v15 =>
(xI 100 v15 x1 h13).bind fun v16 =>
(isO 0 (some a0) h13).bind fun a => (X0_writes a v16 1 h13).bind fun h17 =>
(gR 0 9 (some a0) h17).bind fun v18 =>
(gR 5 5 v18 h17).bind fun v19 =>
(xI 100 v19 x1 h17).bind fun v20 =>
(isO 0 (some a0) h17).bind fun a => (X0_writes a v20 1 h17).bind fun h21 =>
X0_image_57 a0 x1 0 h21) else ((X0_image_91 a0 h13).bind fun o => some (.inr o))
noncomputable def X0_image_19 (a0 : Nat) (x1 : Int32) (h : AH) : Option (Int32 × AH) := loopC (fun s : Int32 × AH => X0_image_19b a0 s.1 s.2) (x1, h)
noncomputable def X0_image (a0 : Nat) (h : AH) : Option (Int32 × AH) :=
(pI 0 17 (some a0) 0 h).bind fun h22 =>
(gR 0 9 (some a0) h22).bind fun v23 =>
(gI 5 0 v23 h22).bind fun v24 =>
(isO 0 (some a0) h22).bind fun a => (X0_writes a v24 2 h22).bind fun h25 =>
X0_image_19 a0 0 h25
noncomputable def X0_octet (a0 : Nat) (x1 : Int32) (h : AH) : Option (Int32 × AH) :=
if x1 < 0 then (some (((-1), h))) else ((gI 0 17 (some a0) h).bind fun v1 =>
if x1 < v1 then ((gR 0 16 (some a0) h).bind fun v2 =>
(xI 101 v2 x1 h).bind fun v3 =>
some (((v3 &&& 255), h))) else (some (((-1), h))))
noncomputable def X0_byteAt (a0 : Nat) (x1 : Int32) (h : AH) : Option (Int32 × AH) :=
(gR 0 1 (some a0) h).bind fun v1 =>
(xI 101 v1 x1 h).bind fun v2 =>
some (((v2 &&& 255), h))
noncomputable def X0_twoAt (a0 : Nat) (x1 : Int32) (h : AH) : Option (Int32 × AH) :=
(isO 0 (some a0) h).bind fun a => b2 (X0_byteAt a x1 h) fun v1 h2 =>
(isO 0 (some a0) h2).bind fun a => b2 (X0_byteAt a (x1 + 1) h2) fun v3 h4 =>
some ((((jshl v1 8) ||| v3), h4))
noncomputable def X0_boardOn_93 (a0 : Nat) (x1 : Int32) (x2 : Int32) (x3 : Int32) (x4 : Int32) (s0 : Int32) (s1 : Int32) (h : AH) : Option ((Int32 × AH) ⊕ (Int32 × AH)) :=
if s1 < s0 then (some (.inr ((0, h)))) else ((gR 0 10 (some a0) h).bind fun v1 =>
(gR 5 6 v1 h).bind fun v2 =>
(xR 106 v2 x1 h).bind fun v3 =>
(sI 100 v3 x3 x4 h).bind fun h4 =>
some (.inl ((x3 + 1), h4)))
noncomputable def X0_boardOn_53b (a0 : Nat) (x1 : Int32) (x2 : Int32) (x3 : Int32) (h : AH) : Option ((Int32 × AH) ⊕ (Int32 × AH)) :=
if x3 < 6 then ((isO 0 (some a0) h).bind fun a => b2 (X0_twoAt a ((x2 + 2) + (2 * x3)) h) fun v5 h6 =>
(gR 0 10 (some a0) h6).bind fun v7 =>
(isO 5 v7 h6).bind fun a => b2 (X5_places a x1 h6) fun v8 h9 =>
if x3 < v8 then (X0_boardOn_93 a0 x1 x2 x3 v5 v5 32767 h9) else (X0_boardOn_93 a0 x1 x2 x3 v5 v5 0 h9)) else (some (.inr ((1, h))))
noncomputable def X0_boardOn_53 (a0 : Nat) (x1 : Int32) (x2 : Int32) (x3 : Int32) (h : AH) : Option (Int32 × AH) := loopC (fun s : Int32 × AH => X0_boardOn_53b a0 x1 x2 s.1 s.2) (x3, h)
noncomputable def X0_boardOn (a0 : Nat) (x1 : Int32) (x2 : Int32) (h : AH) : Option (Int32 × AH) :=
(isO 0 (some a0) h).bind fun a => b2 (X0_byteAt a x2 h) fun v10 h11 =>
(isO 0 (some a0) h11).bind fun a => b2 (X0_byteAt a (x2 + 1) h11) fun v12 h13 =>
(isO 0 (some a0) h13).bind fun a => b2 (X0_canPaint a v10 v12 h13) fun v14 h15 =>
if v14 = 0 then (some ((0, h15))) else ((gR 0 10 (some a0) h15).bind fun v16 =>
(gR 5 4 v16 h15).bind fun v17 =>
(isO 0 (some a0) h15).bind fun a => b2 (X0_byteAt a x2 h15) fun v18 h19 =>
(sI 100 v17 x1 v18 h19).bind fun h20 =>
(gR 0 10 (some a0) h20).bind fun v21 =>
(gR 5 5 v21 h20).bind fun v22 =>
(isO 0 (some a0) h20).bind fun a => b2 (X0_byteAt a (x2 + 1) h20) fun v23 h24 =>
(sI 100 v22 x1 v23 h24).bind fun h25 =>
X0_boardOn_53 a0 x1 x2 0 h25)
noncomputable def X0_comesOn_77b (a0 : Nat) (x2 : Int32) (x3 : Int32) (h : AH) : Option ((Int32 × AH) ⊕ (Int32 × AH)) :=
(isO 0 (some a0) h).bind fun a => b2 (X0_boards a h) fun v1 h2 =>
if x3 < v1 then ((isO 0 (some a0) h2).bind fun a => b2 (X0_boardOn a x3 (2 + (x2 * x3)) h2) fun v3 h4 =>
if v3 = 0 then (some (.inr ((0, h4)))) else (some (.inl ((x3 + 1), h4)))) else (some (.inr ((1, h2))))
noncomputable def X0_comesOn_77 (a0 : Nat) (x2 : Int32) (x3 : Int32) (h : AH) : Option (Int32 × AH) := loopC (fun s : Int32 × AH => X0_comesOn_77b a0 x2 s.1 s.2) (x3, h)
noncomputable def X0_comesOn (a0 : Nat) (x1 : Int32) (h : AH) : Option (Int32 × AH) :=
(isO 0 (some a0) h).bind fun a => b2 (X0_boards a h) fun v5 h6 =>
if x1 = (3 + (14 * v5)) then ((isO 0 (some a0) h6).bind fun a => b2 (X0_byteAt a (x1 - 1) h6) fun v7 h8 =>
(gR 0 1 (some a0) h8).bind fun v9 =>
b2 (X0_check v9 (x1 - 1) h8) fun v10 h11 =>
if v7 = v10 then ((isO 0 (some a0) h11).bind fun a => b2 (X0_twoAt a 0 h11) fun v12 h13 =>
if 999 < v12 then (some ((0, h13))) else ((gR 0 10 (some a0) h13).bind fun v14 =>
(gR 0 9 (some a0) h13).bind fun v15 =>
(isO 5 v14 h13).bind fun a => b2 (X5_copy a v15 h13) fun v16 h17 =>
(isO 0 (some a0) h17).bind fun a => b2 (X0_twoAt a 0 h17) fun v18 h19 =>
(pI 5 0 v16 v18 h19).bind fun h20 =>
(gR 0 10 (some a0) h20).bind fun v21 =>
(pI 5 1 v21 0 h20).bind fun h22 =>
X0_comesOn_77 a0 14 0 h22)) else (some ((0, h11)))) else (some ((0, h6)))
noncomputable def X0_on (a0 : Nat) (h : AH) : Option (Int32 × AH) :=
(isO 0 (some a0) h).bind fun a => b2 (X0_taken a h) fun v1 h2 =>
(isO 0 (some a0) h2).bind fun a => b2 (X0_comesOn a v1 h2) fun v3 h4 =>
if v3 = 0 then ((isO 0 (some a0) h4).bind fun a => b2 (X0_refuses a 5 h4) fun v10 h11 =>
if v10 < 0 then (some ((0, h11))) else (some ((1, h11)))) else ((gR 0 9 (some a0) h4).bind fun v5 =>
(gR 0 10 (some a0) h4).bind fun v6 =>
(isO 5 v5 h4).bind fun a => b2 (X5_copy a v6 h4) fun v7 h8 =>
(pI 0 13 (some a0) 0 h8).bind fun h9 =>
some ((1, h9)))
noncomputable def X0_status (a0 : Nat) (x1 : Int32) (h : AH) : Option (Int32 × AH) :=
b2 (X0_is x1 0 5 h) fun v1 h2 =>
if v1 = 0 then (some (((-1), h2))) else ((gR 0 8 (some a0) h2).bind fun v3 =>
(xI 100 v3 x1 h2).bind fun v4 =>
some ((v4, h2)))
noncomputable def X12_two_44 (x1 : Int64) (x3 : Int64) (h : AH) : Option (Int64 × AH) :=
if (lg_cmp x3 0) = 0 then (some ((0, h))) else (b2 (J4_floorDiv x1 x3 h) fun v1 h2 =>
some ((v1, h2)))
noncomputable def X12_two (x0 : Int32) (x1 : Int64) (x3 : Int64) (h : AH) : Option (Int64 × AH) :=
if x0 = 42 then (some (((x1 * x3), h))) else (if x0 = 43 then (some (((x1 + x3), h))) else (if x0 = 44 then (X12_two_44 x1 x3 h) else (if x0 = 45 then (some (((x1 - x3), h))) else (X12_two_44 x1 x3 h))))
noncomputable def X12_at_21b (va : VaT) (a0 : Nat) (x1 : Option Nat) (x2 : Int64) (x4 : Int32) (h : AH) : Option ((Int64 × Int32 × AH) ⊕ (Int64 × AH)) :=
(gR 12 0 (some a0) h).bind fun v1 =>
(isO 23 v1 h).bind fun a => b2 (J2_size a h) fun v2 h3 =>
if x4 < v2 then ((gR 12 1 (some a0) h3).bind fun v4 =>
(isO 25 v4 h3).bind fun a => b2 (J15_charAt a x4 h3) fun v5 h6 =>
(gR 12 0 (some a0) h6).bind fun v7 =>
(isO 23 v7 h6).bind fun a => b2 (J2_get a x4 h6) fun v8 h9 =>
(cst [12, 13, 14, 15, 16] v8 h9).bind fun _ =>
b2 (va v8 x1 h9) fun v10 h11 =>
b2 (X12_two v5 x2 v10 h11) fun v12 h13 =>
b2 (X0_held v12 h13) fun v14 h15 =>
some (.inl (v14, (x4 + 1), h15))) else (some (.inr ((x2, h3))))
noncomputable def X12_at_21 (va : VaT) (a0 : Nat) (x1 : Option Nat) (x2 : Int64) (x4 : Int32) (h : AH) : Option (Int64 × AH) := loopC (fun s : Int64 × Int32 × AH => X12_at_21b va a0 x1 s.1 s.2.1 s.2.2) (x2, x4, h)
noncomputable def X12_at (va : VaT) (a0 : Nat) (x1 : Option Nat) (h : AH) : Option (Int64 × AH) :=
(gR 12 0 (some a0) h).bind fun v16 =>
(isO 23 v16 h).bind fun a => b2 (J2_get a 0 h) fun v17 h18 =>
(cst [12, 13, 14, 15, 16] v17 h18).bind fun _ =>
b2 (va v17 x1 h18) fun v19 h20 =>
X12_at_21 va a0 x1 v19 1 h20
noncomputable def X13_init (a0 : Nat) (x1 : Int32) (x2 : Option Nat) (x3 : Option Nat) (h : AH) : Option (AH) :=
(nn (some a0)).bind fun a => (X11_init a h).bind fun h1 =>
(pZ 13 0 (some a0) x1 h1).bind fun h2 =>
(pR 13 1 (some a0) x2 h2).bind fun h3 =>
(pR 13 2 (some a0) x3 h3).bind fun h4 =>
some (h4)
noncomputable def X13_at_35 (va : VaT) (x2 : Int64) (x4 : Int64) (s0 : Int32) (s1 : Int32) (h : AH) : Option (Int64 × AH) :=
if s0 = s1 then (some ((x2, h))) else (some ((x4, h)))
noncomputable def X13_at (va : VaT) (a0 : Nat) (x1 : Option Nat) (h : AH) : Option (Int64 × AH) :=
(gR 13 1 (some a0) h).bind fun v1 =>
b2 (va v1 x1 h) fun v2 h3 =>
(gR 13 2 (some a0) h3).bind fun v4 =>
b2 (va v4 x1 h3) fun v5 h6 =>
(gI 13 0 (some a0) h6).bind fun v7 =>
if 0 < (lg_cmp v2 v5) then (X13_at_35 va v2 v5 v7 1 h6) else (X13_at_35 va v2 v5 v7 0 h6)
noncomputable def X14_init (a0 : Nat) (x1 : Int64) (h : AH) : Option (AH) :=
(nn (some a0)).bind fun a => (X11_init a h).bind fun h1 =>
(pL 14 0 (some a0) x1 h1).bind fun h2 =>
some (h2)
noncomputable def X14_at (a0 : Nat) (x1 : Option Nat) (h : AH) : Option (Int64 × AH) :=
(gL 14 0 (some a0) h).bind fun v1 =>
some ((v1, h))
noncomputable def X15_init (a0 : Nat) (x1 : Int32) (h : AH) : Option (AH) :=
(nn (some a0)).bind fun a => (X11_init a h).bind fun h1 =>
(pI 15 0 (some a0) x1 h1).bind fun h2 =>
some (h2)
noncomputable def X15_at (a0 : Nat) (x1 : Option Nat) (h : AH) : Option (Int64 × AH) :=
(gR 4 0 x1 h).bind fun v1 =>
(gI 15 0 (some a0) h).bind fun v2 =>
(xL 103 v1 v2 h).bind fun v3 =>
b2 (X0_held v3 h) fun v4 h5 =>
some ((v4, h5))
noncomputable def X16_init (a0 : Nat) (x1 : Option Nat) (x2 : Int32) (x3 : Option Nat) (h : AH) : Option (AH) :=
(pR 16 2 (some a0) x1 h).bind fun h1 =>
(nn (some a0)).bind fun a => (X11_init a h1).bind fun h2 =>
(pI 16 0 (some a0) x2 h2).bind fun h3 =>
(pR 16 1 (some a0) x3 h3).bind fun h4 =>
some (h4)
noncomputable def X16_at (va : VaT) (a0 : Nat) (x1 : Option Nat) (h : AH) : Option (Int64 × AH) :=
(gR 16 2 (some a0) h).bind fun v1 =>
(gI 16 0 (some a0) h).bind fun v2 =>
(gR 16 1 (some a0) h).bind fun v3 =>
b2 (va v3 x1 h) fun v4 h5 =>
(isO 0 v1 h5).bind fun a => b2 (X0_looked va a v2 v4 h5) fun v6 h7 =>
b2 (X0_held v6 h7) fun v8 h9 =>
some ((v8, h9))
noncomputable def X18_holds_39 (th : ThT) (a0 : Nat) (h : AH) : Option (Int32 × AH) :=
(gI 18 1 (some a0) h).bind fun v1 =>
if v1 = 0 then (some ((1, h))) else (some ((0, h)))
noncomputable def X18_holds_58 (th : ThT) (a0 : Nat) (h : AH) : Option (Int32 × AH) :=
(gI 18 1 (some a0) h).bind fun v2 =>
b2 (rz v2 h) fun v3 h4 => some ((v3, h4))
noncomputable def X18_holds_2b (th : ThT) (a0 : Nat) (x1 : Option Nat) (x2 : Int32) (h : AH) : Option ((Int32 × AH) ⊕ (Int32 × AH)) :=
(gR 18 0 (some a0) h).bind fun v5 =>
(isO 23 v5 h).bind fun a => b2 (J2_size a h) fun v6 h7 =>
if x2 < v6 then ((gR 18 0 (some a0) h7).bind fun v8 =>
(isO 23 v8 h7).bind fun a => b2 (J2_get a x2 h7) fun v9 h10 =>
(cst [18, 19, 20, 21] v9 h10).bind fun _ =>
b2 (th v9 x1 h10) fun v11 h12 =>
(gI 18 1 (some a0) h12).bind fun v13 =>
if v11 = v13 then (some (.inl ((x2 + 1), h12))) else ((X18_holds_39 th a0 h12).bind fun o => some (.inr o))) else ((X18_holds_58 th a0 h7).bind fun o => some (.inr o))
noncomputable def X18_holds_2 (th : ThT) (a0 : Nat) (x1 : Option Nat) (x2 : Int32) (h : AH) : Option (Int32 × AH) := loopC (fun s : Int32 × AH => X18_holds_2b th a0 x1 s.1 s.2) (x2, h)
noncomputable def X18_holds (th : ThT) (a0 : Nat) (x1 : Option Nat) (h : AH) : Option (Int32 × AH) :=
X18_holds_2 th a0 x1 0 h
noncomputable def X19_init (a0 : Nat) (x1 : Option Nat) (h : AH) : Option (AH) :=
(nn (some a0)).bind fun a => (X17_init a h).bind fun h1 =>
(pR 19 0 (some a0) x1 h1).bind fun h2 =>
some (h2)
noncomputable def X19_holds (th : ThT) (a0 : Nat) (x1 : Option Nat) (h : AH) : Option (Int32 × AH) :=
(gR 19 0 (some a0) h).bind fun v1 =>
b2 (th v1 x1 h) fun v2 h3 =>
if v2 = 0 then (some ((1, h3))) else (some ((0, h3)))
noncomputable def X20_init (a0 : Nat) (h : AH) : Option (AH) :=
(nn (some a0)).bind fun a => (X17_init a h).bind fun h1 =>
some (h1)
noncomputable def X21_init (a0 : Nat) (x1 : Option Nat) (x2 : Int32) (x3 : Option Nat) (h : AH) : Option (AH) :=
(nn (some a0)).bind fun a => (X17_init a h).bind fun h1 =>
(pR 21 0 (some a0) x1 h1).bind fun h2 =>
(pI 21 2 (some a0) x2 h2).bind fun h3 =>
(pR 21 1 (some a0) x3 h3).bind fun h4 =>
some (h4)
noncomputable def X20_holds (a0 : Nat) (x1 : Option Nat) (h : AH) : Option (Int32 × AH) :=
some ((1, h))
noncomputable def X21_holds (va : VaT) (a0 : Nat) (x1 : Option Nat) (h : AH) : Option (Int32 × AH) :=
(gR 21 0 (some a0) h).bind fun v1 =>
b2 (va v1 x1 h) fun v2 h3 =>
(gR 21 1 (some a0) h3).bind fun v4 =>
b2 (va v4 x1 h3) fun v5 h6 =>
(gI 21 2 (some a0) h6).bind fun v7 =>
if v7 = 60 then (if (lg_cmp v2 v5) < 0 then (some ((1, h6))) else (some ((0, h6)))) else ((gI 21 2 (some a0) h6).bind fun v8 =>
if v8 = 62 then (if 0 < (lg_cmp v2 v5) then (some ((1, h6))) else (some ((0, h6)))) else (if (lg_cmp v2 v5) = 0 then (some ((1, h6))) else (some ((0, h6)))))
