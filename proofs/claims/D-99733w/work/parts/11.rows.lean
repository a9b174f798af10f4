set_option maxRecDepth 100000
section VRows
variable {G : GT} {X : CX} {nL d : Nat} {h0 h : AH} {Q : State → Prop} {pc : Nat} {lv : List (Nat × AV)} {st : List AV} {own : String} {cc : ByteArray} {τ : Type} {z : τ}
theorem V.sub {m : List (Nat × AV)} (hm : lle lv m) (k : V G X nL h0 Q h pc m st) : V G X nL h0 Q h pc lv st := fun H locs ls a b c e => k H locs ls a (lv_lle b hm) c e
def jrem (x y : Int32) : Int32 := x - x / y * y
def jremL (x y : Int64) : Int64 := x - x / y * y
def jshl (x y : Int32) : Int32 := x <<< (y &&& 31)
def jshr (x y : Int32) : Int32 := x >>> (y &&& 31)
def jushr (x y : Int32) : Int32 := (x.toUInt32 >>> (y.toUInt32 &&& Int32.toUInt32 31)).toInt32
def ji2b (x : Int32) : Int32 := x.toInt8.toInt32
def ji2c (x : Int32) : Int32 := (x.toUInt32 % 65536).toInt32
theorem v_iconst (ok : Ok G X own cc nL d h0) {n : Int} (v : Int32) (hd : decode cc pc = .ok (.iconst n, 1)) (hv : Int32.ofInt n = v) (k : V G X nL h0 Q h (pc + 1) lv (vi v :: st)) : V G X nL h0 Q h pc lv (st) := fun H locs ls a b c e => lv_iconst ok.1 ok.2.1 hd hv (k H locs ls a b c e)
theorem v_bipush (ok : Ok G X own cc nL d h0) {n : Int} (v : Int32) (hd : decode cc pc = .ok (.bipush n, 2)) (hv : (Int8.ofInt n).toInt32 = v) (k : V G X nL h0 Q h (pc + 2) lv (vi v :: st)) : V G X nL h0 Q h pc lv (st) := fun H locs ls a b c e => lv_bipush ok.1 ok.2.1 hd hv (k H locs ls a b c e)
theorem v_sipush (ok : Ok G X own cc nL d h0) {n : Int} (v : Int32) (hd : decode cc pc = .ok (.sipush n, 3)) (hv : (Int16.ofInt n).toInt32 = v) (k : V G X nL h0 Q h (pc + 3) lv (vi v :: st)) : V G X nL h0 Q h pc lv (st) := fun H locs ls a b c e => lv_sipush ok.1 ok.2.1 hd hv (k H locs ls a b c e)
theorem v_lconst (ok : Ok G X own cc nL d h0) {n : Fin 2} (v : Int64) (hd : decode cc pc = .ok (.lconst n, 1)) (hv : Int64.ofNat (n : Nat) = v) (k : V G X nL h0 Q h (pc + 1) lv (vl v :: st)) : V G X nL h0 Q h pc lv (st) := fun H locs ls a b c e => lv_lconst ok.1 ok.2.1 hd hv (k H locs ls a b c e)
theorem v_iload_n (ok : Ok G X own cc nL d h0) {i : Fin 4} (j : Nat) {x : Int32} (hd : decode cc pc = .ok (.iload_n i, 1)) (hi : (i : Nat) = j) (hl : lget lv j = some (vi x)) (k : V G X nL h0 Q h (pc + 1) lv (vi x :: st)) : V G X nL h0 Q h pc lv (st) := fun H locs ls a b c e => lv_iload_n ok.1 ok.2.1 hd hi (lv_lget b hl) (k H locs ls a b c e)
theorem v_iload (ok : Ok G X own cc nL d h0) {i : Nat} {x : Int32} (hd : decode cc pc = .ok (.iload i, 2)) (hl : lget lv i = some (vi x)) (k : V G X nL h0 Q h (pc + 2) lv (vi x :: st)) : V G X nL h0 Q h pc lv (st) := fun H locs ls a b c e => lv_iload ok.1 ok.2.1 hd (lv_lget b hl) (k H locs ls a b c e)
theorem v_lload_n (ok : Ok G X own cc nL d h0) {i : Fin 4} (j : Nat) {x : Int64} (hd : decode cc pc = .ok (.lload_n i, 1)) (hi : (i : Nat) = j) (hl : lget lv j = some (vl x)) (k : V G X nL h0 Q h (pc + 1) lv (vl x :: st)) : V G X nL h0 Q h pc lv (st) := fun H locs ls a b c e => lv_lload_n ok.1 ok.2.1 hd hi (lv_lget b hl) (k H locs ls a b c e)
theorem v_lload (ok : Ok G X own cc nL d h0) {i : Nat} {x : Int64} (hd : decode cc pc = .ok (.lload i, 2)) (hl : lget lv i = some (vl x)) (k : V G X nL h0 Q h (pc + 2) lv (vl x :: st)) : V G X nL h0 Q h pc lv (st) := fun H locs ls a b c e => lv_lload ok.1 ok.2.1 hd (lv_lget b hl) (k H locs ls a b c e)
theorem v_aload_n (ok : Ok G X own cc nL d h0) {i : Fin 4} (j : Nat) {x : Option Nat} (hd : decode cc pc = .ok (.aload_n i, 1)) (hi : (i : Nat) = j) (hl : lget lv j = some (vr x)) (k : V G X nL h0 Q h (pc + 1) lv (vr x :: st)) : V G X nL h0 Q h pc lv (st) := fun H locs ls a b c e => by
  have hl := lv_lget b hl
  have k := k H locs ls a b c e
  cases x with
  | none => exact lv_aload_nN ok.1 ok.2.1 hd hi hl k
  | some q => exact lv_aload_n ok.1 ok.2.1 hd hi hl k
theorem v_aload (ok : Ok G X own cc nL d h0) {i : Nat} {x : Option Nat} (hd : decode cc pc = .ok (.aload i, 2)) (hl : lget lv i = some (vr x)) (k : V G X nL h0 Q h (pc + 2) lv (vr x :: st)) : V G X nL h0 Q h pc lv (st) := fun H locs ls a b c e => by
  have hl := lv_lget b hl
  have k := k H locs ls a b c e
  cases x with
  | none => exact lv_aloadN ok.1 ok.2.1 hd hl k
  | some q => exact lv_aload ok.1 ok.2.1 hd hl k
theorem v_istore_n (ok : Ok G X own cc nL d h0) {i : Fin 4} (j : Nat) {x : Int32} (hd : decode cc pc = .ok (.istore_n i, 1)) (hi : (i : Nat) = j) (hn : j < nL) (k : V G X nL h0 Q h (pc + 1) (lset lv j (vi x)) st) : V G X nL h0 Q h pc lv (vi x :: st) := fun H locs ls a b c e => lv_istore_n ok.1 ok.2.1 hd hi b hn rfl (fun ls b => k H locs ls a (lv_lset b) c e)
theorem v_istore (ok : Ok G X own cc nL d h0) {i : Nat} {x : Int32} (hd : decode cc pc = .ok (.istore i, 2)) (hn : i < nL) (k : V G X nL h0 Q h (pc + 2) (lset lv i (vi x)) st) : V G X nL h0 Q h pc lv (vi x :: st) := fun H locs ls a b c e => lv_istore ok.1 ok.2.1 hd b hn rfl (fun ls b => k H locs ls a (lv_lset b) c e)
theorem v_lstore_n (ok : Ok G X own cc nL d h0) {i : Fin 4} (j : Nat) {x : Int64} (hd : decode cc pc = .ok (.lstore_n i, 1)) (hi : (i : Nat) = j) (hn : j + 1 < nL) (k : V G X nL h0 Q h (pc + 1) (lset2 lv j (vl x)) st) : V G X nL h0 Q h pc lv (vl x :: st) := fun H locs ls a b c e => lv_lstore_n ok.1 ok.2.1 hd hi b hn rfl (fun ls b => k H locs ls a (lv_lset2 b) c e)
theorem v_lstore (ok : Ok G X own cc nL d h0) {i : Nat} {x : Int64} (hd : decode cc pc = .ok (.lstore i, 2)) (hn : i + 1 < nL) (k : V G X nL h0 Q h (pc + 2) (lset2 lv i (vl x)) st) : V G X nL h0 Q h pc lv (vl x :: st) := fun H locs ls a b c e => lv_lstore ok.1 ok.2.1 hd b hn rfl (fun ls b => k H locs ls a (lv_lset2 b) c e)
theorem v_astore_n (ok : Ok G X own cc nL d h0) {i : Fin 4} (j : Nat) {x : Option Nat} (hd : decode cc pc = .ok (.astore_n i, 1)) (hi : (i : Nat) = j) (hn : j < nL) (k : V G X nL h0 Q h (pc + 1) (lset lv j (vr x)) st) : V G X nL h0 Q h pc lv (vr x :: st) := fun H locs ls a b c e => by
  cases x with
  | none => exact lv_astore_nN ok.1 ok.2.1 hd hi b hn rfl (fun ls b => k H locs ls a (lv_lset (v := vr none) b) c e)
  | some q => exact lv_astore_n ok.1 ok.2.1 hd hi b hn rfl (fun ls b => k H locs ls a (lv_lset (v := vr (some q)) b) c e)
theorem v_astore (ok : Ok G X own cc nL d h0) {i : Nat} {x : Option Nat} (hd : decode cc pc = .ok (.astore i, 2)) (hn : i < nL) (k : V G X nL h0 Q h (pc + 2) (lset lv i (vr x)) st) : V G X nL h0 Q h pc lv (vr x :: st) := fun H locs ls a b c e => by
  cases x with
  | none => exact lv_astoreN ok.1 ok.2.1 hd b hn rfl (fun ls b => k H locs ls a (lv_lset (v := vr none) b) c e)
  | some q => exact lv_astore ok.1 ok.2.1 hd b hn rfl (fun ls b => k H locs ls a (lv_lset (v := vr (some q)) b) c e)
theorem v_iinc (ok : Ok G X own cc nL d h0) {i : Nat} {n : Int} (x v : Int32) (hd : decode cc pc = .ok (.iinc i n, 3)) (hl : lget lv i = some (vi x)) (hv : x + Int32.ofInt n = v) (hn : i < nL) (k : V G X nL h0 Q h (pc + 3) (lset lv i (vi v)) st) : V G X nL h0 Q h pc lv st := by
  intro H locs ls a b c e
  obtain ⟨j, hj⟩ := List.getElem?_of_mem (List.mem_map.mpr ⟨_, lget_mem hl, rfl⟩ : cvp G (i, vi x) ∈ lv.map (cvp G))
  exact lv_iinc ok.1 ok.2.1 hd b hj hv hn rfl (fun ls b => k H locs ls a (lv_lset (v := vi v) b) c e)
theorem v_iadd (ok : Ok G X own cc nL d h0) {x y : Int32} (hd : decode cc pc = .ok (.iadd, 1)) (k : V G X nL h0 Q h (pc + 1) lv (vi (x + y) :: st)) : V G X nL h0 Q h pc lv (vi y :: vi x :: st) := fun H locs ls a b c e => lv_iadd ok.1 ok.2.1 hd (k H locs ls a b c e)
theorem v_isub (ok : Ok G X own cc nL d h0) {x y : Int32} (hd : decode cc pc = .ok (.isub, 1)) (k : V G X nL h0 Q h (pc + 1) lv (vi (x - y) :: st)) : V G X nL h0 Q h pc lv (vi y :: vi x :: st) := fun H locs ls a b c e => lv_isub ok.1 ok.2.1 hd (k H locs ls a b c e)
theorem v_imul (ok : Ok G X own cc nL d h0) {x y : Int32} (hd : decode cc pc = .ok (.imul, 1)) (k : V G X nL h0 Q h (pc + 1) lv (vi (x * y) :: st)) : V G X nL h0 Q h pc lv (vi y :: vi x :: st) := fun H locs ls a b c e => lv_imul ok.1 ok.2.1 hd (k H locs ls a b c e)
theorem v_iand (ok : Ok G X own cc nL d h0) {x y : Int32} (hd : decode cc pc = .ok (.iand, 1)) (k : V G X nL h0 Q h (pc + 1) lv (vi (x &&& y) :: st)) : V G X nL h0 Q h pc lv (vi y :: vi x :: st) := fun H locs ls a b c e => lv_iand ok.1 ok.2.1 hd (k H locs ls a b c e)
theorem v_ior (ok : Ok G X own cc nL d h0) {x y : Int32} (hd : decode cc pc = .ok (.ior, 1)) (k : V G X nL h0 Q h (pc + 1) lv (vi (x ||| y) :: st)) : V G X nL h0 Q h pc lv (vi y :: vi x :: st) := fun H locs ls a b c e => lv_ior ok.1 ok.2.1 hd (k H locs ls a b c e)
theorem v_ixor (ok : Ok G X own cc nL d h0) {x y : Int32} (hd : decode cc pc = .ok (.ixor, 1)) (k : V G X nL h0 Q h (pc + 1) lv (vi (x ^^^ y) :: st)) : V G X nL h0 Q h pc lv (vi y :: vi x :: st) := fun H locs ls a b c e => lv_ixor ok.1 ok.2.1 hd (k H locs ls a b c e)
theorem v_ladd (ok : Ok G X own cc nL d h0) {x y : Int64} (hd : decode cc pc = .ok (.ladd, 1)) (k : V G X nL h0 Q h (pc + 1) lv (vl (x + y) :: st)) : V G X nL h0 Q h pc lv (vl y :: vl x :: st) := fun H locs ls a b c e => lv_ladd ok.1 ok.2.1 hd (k H locs ls a b c e)
theorem v_lsub (ok : Ok G X own cc nL d h0) {x y : Int64} (hd : decode cc pc = .ok (.lsub, 1)) (k : V G X nL h0 Q h (pc + 1) lv (vl (x - y) :: st)) : V G X nL h0 Q h pc lv (vl y :: vl x :: st) := fun H locs ls a b c e => lv_lsub ok.1 ok.2.1 hd (k H locs ls a b c e)
theorem v_lmul (ok : Ok G X own cc nL d h0) {x y : Int64} (hd : decode cc pc = .ok (.lmul, 1)) (k : V G X nL h0 Q h (pc + 1) lv (vl (x * y) :: st)) : V G X nL h0 Q h pc lv (vl y :: vl x :: st) := fun H locs ls a b c e => lv_lmul ok.1 ok.2.1 hd (k H locs ls a b c e)
theorem v_land (ok : Ok G X own cc nL d h0) {x y : Int64} (hd : decode cc pc = .ok (.land, 1)) (k : V G X nL h0 Q h (pc + 1) lv (vl (x &&& y) :: st)) : V G X nL h0 Q h pc lv (vl y :: vl x :: st) := fun H locs ls a b c e => lv_land ok.1 ok.2.1 hd (k H locs ls a b c e)
theorem v_lor (ok : Ok G X own cc nL d h0) {x y : Int64} (hd : decode cc pc = .ok (.lor, 1)) (k : V G X nL h0 Q h (pc + 1) lv (vl (x ||| y) :: st)) : V G X nL h0 Q h pc lv (vl y :: vl x :: st) := fun H locs ls a b c e => lv_lor ok.1 ok.2.1 hd (k H locs ls a b c e)
theorem v_lxor (ok : Ok G X own cc nL d h0) {x y : Int64} (hd : decode cc pc = .ok (.lxor, 1)) (k : V G X nL h0 Q h (pc + 1) lv (vl (x ^^^ y) :: st)) : V G X nL h0 Q h pc lv (vl y :: vl x :: st) := fun H locs ls a b c e => lv_lxor ok.1 ok.2.1 hd (k H locs ls a b c e)
theorem v_ishl (ok : Ok G X own cc nL d h0) {x y : Int32} (hd : decode cc pc = .ok (.ishl, 1)) (k : V G X nL h0 Q h (pc + 1) lv (vi (jshl x y) :: st)) : V G X nL h0 Q h pc lv (vi y :: vi x :: st) := fun H locs ls a b c e => lv_ishl ok.1 ok.2.1 hd (k H locs ls a b c e)
theorem v_ishr (ok : Ok G X own cc nL d h0) {x y : Int32} (hd : decode cc pc = .ok (.ishr, 1)) (k : V G X nL h0 Q h (pc + 1) lv (vi (jshr x y) :: st)) : V G X nL h0 Q h pc lv (vi y :: vi x :: st) := fun H locs ls a b c e => lv_ishr ok.1 ok.2.1 hd (k H locs ls a b c e)
theorem v_iushr (ok : Ok G X own cc nL d h0) {x y : Int32} (hd : decode cc pc = .ok (.iushr, 1)) (k : V G X nL h0 Q h (pc + 1) lv (vi (jushr x y) :: st)) : V G X nL h0 Q h pc lv (vi y :: vi x :: st) := fun H locs ls a b c e => lv_iushr ok.1 ok.2.1 hd rfl (k H locs ls a b c e)
theorem v_idiv (ok : Ok G X own cc nL d h0) {x y : Int32} (hd : decode cc pc = .ok (.idiv, 1)) {f : Unit → Option τ} (hf : (nz y).bind f = some z) (k : f () = some z → V G X nL h0 Q h (pc + 1) lv (vi (x / y) :: st)) : V G X nL h0 Q h pc lv (vi y :: vi x :: st) := by
  intro H locs ls a b c e
  by_cases hy : y = 0
  · rw [nz, if_pos hy] at hf; cases hf
  · rw [nz, if_neg hy] at hf
    exact lv_idiv ok.1 ok.2.1 hd hy (k hf H locs ls a b c e)
theorem v_irem (ok : Ok G X own cc nL d h0) {x y : Int32} (hd : decode cc pc = .ok (.irem, 1)) {f : Unit → Option τ} (hf : (nz y).bind f = some z) (k : f () = some z → V G X nL h0 Q h (pc + 1) lv (vi (jrem x y) :: st)) : V G X nL h0 Q h pc lv (vi y :: vi x :: st) := by
  intro H locs ls a b c e
  by_cases hy : y = 0
  · rw [nz, if_pos hy] at hf; cases hf
  · rw [nz, if_neg hy] at hf
    exact lv_irem ok.1 ok.2.1 hd hy (k hf H locs ls a b c e)
theorem v_ldiv (ok : Ok G X own cc nL d h0) {x y : Int64} (hd : decode cc pc = .ok (.ldiv, 1)) {f : Unit → Option τ} (hf : (nzL y).bind f = some z) (k : f () = some z → V G X nL h0 Q h (pc + 1) lv (vl (x / y) :: st)) : V G X nL h0 Q h pc lv (vl y :: vl x :: st) := by
  intro H locs ls a b c e
  by_cases hy : y = 0
  · rw [nzL, if_pos hy] at hf; cases hf
  · rw [nzL, if_neg hy] at hf
    exact lv_ldiv ok.1 ok.2.1 hd hy (k hf H locs ls a b c e)
theorem v_lrem (ok : Ok G X own cc nL d h0) {x y : Int64} (hd : decode cc pc = .ok (.lrem, 1)) {f : Unit → Option τ} (hf : (nzL y).bind f = some z) (k : f () = some z → V G X nL h0 Q h (pc + 1) lv (vl (jremL x y) :: st)) : V G X nL h0 Q h pc lv (vl y :: vl x :: st) := by
  intro H locs ls a b c e
  by_cases hy : y = 0
  · rw [nzL, if_pos hy] at hf; cases hf
  · rw [nzL, if_neg hy] at hf
    exact lv_lrem ok.1 ok.2.1 hd hy (k hf H locs ls a b c e)
theorem v_ineg (ok : Ok G X own cc nL d h0) {x : Int32} (hd : decode cc pc = .ok (.ineg, 1)) (k : V G X nL h0 Q h (pc + 1) lv (vi (-x) :: st)) : V G X nL h0 Q h pc lv (vi x :: st) := fun H locs ls a b c e => lv_ineg ok.1 ok.2.1 hd (k H locs ls a b c e)
theorem v_lneg (ok : Ok G X own cc nL d h0) {x : Int64} (hd : decode cc pc = .ok (.lneg, 1)) (k : V G X nL h0 Q h (pc + 1) lv (vl (-x) :: st)) : V G X nL h0 Q h pc lv (vl x :: st) := fun H locs ls a b c e => lv_lneg ok.1 ok.2.1 hd (k H locs ls a b c e)
theorem v_i2l (ok : Ok G X own cc nL d h0) {x : Int32} (hd : decode cc pc = .ok (.i2l, 1)) (k : V G X nL h0 Q h (pc + 1) lv (vl x.toInt64 :: st)) : V G X nL h0 Q h pc lv (vi x :: st) := fun H locs ls a b c e => lv_i2l ok.1 ok.2.1 hd rfl (k H locs ls a b c e)
theorem v_l2i (ok : Ok G X own cc nL d h0) {x : Int64} (hd : decode cc pc = .ok (.l2i, 1)) (k : V G X nL h0 Q h (pc + 1) lv (vi x.toInt32 :: st)) : V G X nL h0 Q h pc lv (vl x :: st) := fun H locs ls a b c e => lv_l2i ok.1 ok.2.1 hd rfl (k H locs ls a b c e)
theorem v_i2b (ok : Ok G X own cc nL d h0) {x : Int32} (hd : decode cc pc = .ok (.i2b, 1)) (k : V G X nL h0 Q h (pc + 1) lv (vi (ji2b x) :: st)) : V G X nL h0 Q h pc lv (vi x :: st) := fun H locs ls a b c e => lv_i2b ok.1 ok.2.1 hd rfl (k H locs ls a b c e)
theorem v_i2c (ok : Ok G X own cc nL d h0) {x : Int32} (hd : decode cc pc = .ok (.i2c, 1)) (k : V G X nL h0 Q h (pc + 1) lv (vi (ji2c x) :: st)) : V G X nL h0 Q h pc lv (vi x :: st) := fun H locs ls a b c e => lv_i2c ok.1 ok.2.1 hd rfl (k H locs ls a b c e)
theorem v_lcmp (ok : Ok G X own cc nL d h0) {x y : Int64} (hd : decode cc pc = .ok (.lcmp, 1)) (k : V G X nL h0 Q h (pc + 1) lv (vi (lg_cmp x y) :: st)) : V G X nL h0 Q h pc lv (vl y :: vl x :: st) := fun H locs ls a b c e => W.lcmp ok.1 ok.2.1 hd (k H locs ls a b c e)
theorem v_dup (ok : Ok G X own cc nL d h0) {v : AV} (hd : decode cc pc = .ok (.dup, 1)) (hv : cat2 v = false) (k : V G X nL h0 Q h (pc + 1) lv (v :: v :: st)) : V G X nL h0 Q h pc lv (v :: st) := fun H locs ls a b c e => lv_dup ok.1 ok.2.1 hd (by rw [cat_cv, hv]; rfl) (k H locs ls a b c e)
theorem v_pop (ok : Ok G X own cc nL d h0) {v : AV} (hd : decode cc pc = .ok (.pop, 1)) (hv : cat2 v = false) (k : V G X nL h0 Q h (pc + 1) lv (st)) : V G X nL h0 Q h pc lv (v :: st) := fun H locs ls a b c e => lv_pop ok.1 ok.2.1 hd (by rw [cat_cv, hv]; rfl) (k H locs ls a b c e)
theorem v_dup_x1 (ok : Ok G X own cc nL d h0) {v w : AV} (hd : decode cc pc = .ok (.dup_x1, 1)) (hv : cat2 v = false) (hw : cat2 w = false) (k : V G X nL h0 Q h (pc + 1) lv (v :: w :: v :: st)) : V G X nL h0 Q h pc lv (v :: w :: st) := fun H locs ls a b c e => lv_dup_x1 ok.1 ok.2.1 hd (by rw [cat_cv, hv]; rfl) (by rw [cat_cv, hw]; rfl) (k H locs ls a b c e)
theorem v_dup2 (ok : Ok G X own cc nL d h0) {v w : AV} (hd : decode cc pc = .ok (.dup2, 1)) (hv : cat2 v = false) (hw : cat2 w = false) (k : V G X nL h0 Q h (pc + 1) lv (v :: w :: v :: w :: st)) : V G X nL h0 Q h pc lv (v :: w :: st) := fun H locs ls a b c e => lv_dup2_11 ok.1 ok.2.1 hd (by rw [cat_cv, hv]; rfl) (by rw [cat_cv, hw]; rfl) (k H locs ls a b c e)
theorem v_dup2L (ok : Ok G X own cc nL d h0) {x : Int64} (hd : decode cc pc = .ok (.dup2, 1)) (k : V G X nL h0 Q h (pc + 1) lv (vl x :: vl x :: st)) : V G X nL h0 Q h pc lv (vl x :: st) := fun H locs ls a b c e => lv_dup2_2 ok.1 ok.2.1 hd rfl (k H locs ls a b c e)
theorem v_pop2L (ok : Ok G X own cc nL d h0) {x : Int64} (hd : decode cc pc = .ok (.pop2, 1)) (k : V G X nL h0 Q h (pc + 1) lv (st)) : V G X nL h0 Q h pc lv (vl x :: st) := fun H locs ls a b c e => lv_pop2_2 ok.1 ok.2.1 hd rfl (k H locs ls a b c e)
theorem v_null (ok : Ok G X own cc nL d h0)  (hd : decode cc pc = .ok (.aconst_null, 1)) (k : V G X nL h0 Q h (pc + 1) lv (vr none :: st)) : V G X nL h0 Q h pc lv (st) := fun H locs ls a b c e => lv_null ok.1 ok.2.1 hd (k H locs ls a b c e)
theorem v_goto (ok : Ok G X own cc nL d h0) {off : Int} (tgt : Nat) (hd : decode cc pc = .ok (.goto off, 3)) (ht : (pc : Int) + off = (tgt : Int)) (k : V G X nL h0 Q h tgt lv st) : V G X nL h0 Q h pc lv st := fun H locs ls a b c e => lv_goto ok.1 ok.2.1 hd ht (k H locs ls a b c e)
theorem v_if_eq (ok : Ok G X own cc nL d h0) {x : Int32} {off : Int} (tgt : Nat) (hd : decode cc pc = .ok (.ifCond .eq off, 3)) (ht : (pc : Int) + off = (tgt : Int)) {A B : Option τ} (hf : (if x = 0 then A else B) = some z) (kt : A = some z → V G X nL h0 Q h tgt lv st) (kf : B = some z → V G X nL h0 Q h (pc + 3) lv st) : V G X nL h0 Q h pc lv (vi x :: st) := fun H locs ls a b c e => lv_if_eq ok.1 ok.2.1 hd ht (fun q => kt (by rw [if_pos q] at hf; exact hf) H locs ls a b c e) (fun q => kf (by rw [if_neg q] at hf; exact hf) H locs ls a b c e)
theorem v_if_ne (ok : Ok G X own cc nL d h0) {x : Int32} {off : Int} (tgt : Nat) (hd : decode cc pc = .ok (.ifCond .ne off, 3)) (ht : (pc : Int) + off = (tgt : Int)) {A B : Option τ} (hf : (if x = 0 then B else A) = some z) (kt : A = some z → V G X nL h0 Q h tgt lv st) (kf : B = some z → V G X nL h0 Q h (pc + 3) lv st) : V G X nL h0 Q h pc lv (vi x :: st) := fun H locs ls a b c e => lv_if_ne ok.1 ok.2.1 hd ht (fun q => kt (by rw [if_neg q] at hf; exact hf) H locs ls a b c e) (fun q => kf (by rw [if_pos q] at hf; exact hf) H locs ls a b c e)
theorem v_if_lt (ok : Ok G X own cc nL d h0) {x : Int32} {off : Int} (tgt : Nat) (hd : decode cc pc = .ok (.ifCond .lt off, 3)) (ht : (pc : Int) + off = (tgt : Int)) {A B : Option τ} (hf : (if x < 0 then A else B) = some z) (kt : A = some z → V G X nL h0 Q h tgt lv st) (kf : B = some z → V G X nL h0 Q h (pc + 3) lv st) : V G X nL h0 Q h pc lv (vi x :: st) := fun H locs ls a b c e => lv_if_lt ok.1 ok.2.1 hd ht (fun q => kt (by rw [if_pos q] at hf; exact hf) H locs ls a b c e) (fun q => kf (by rw [if_neg q] at hf; exact hf) H locs ls a b c e)
theorem v_if_ge (ok : Ok G X own cc nL d h0) {x : Int32} {off : Int} (tgt : Nat) (hd : decode cc pc = .ok (.ifCond .ge off, 3)) (ht : (pc : Int) + off = (tgt : Int)) {A B : Option τ} (hf : (if x < 0 then B else A) = some z) (kt : A = some z → V G X nL h0 Q h tgt lv st) (kf : B = some z → V G X nL h0 Q h (pc + 3) lv st) : V G X nL h0 Q h pc lv (vi x :: st) := fun H locs ls a b c e => lv_if_ge ok.1 ok.2.1 hd ht (fun q => kt (by rw [if_neg (Int32.not_lt.mpr q)] at hf; exact hf) H locs ls a b c e) (fun q => kf (by rw [if_pos (Int32.not_le.mp q)] at hf; exact hf) H locs ls a b c e)
theorem v_if_gt (ok : Ok G X own cc nL d h0) {x : Int32} {off : Int} (tgt : Nat) (hd : decode cc pc = .ok (.ifCond .gt off, 3)) (ht : (pc : Int) + off = (tgt : Int)) {A B : Option τ} (hf : (if 0 < x then A else B) = some z) (kt : A = some z → V G X nL h0 Q h tgt lv st) (kf : B = some z → V G X nL h0 Q h (pc + 3) lv st) : V G X nL h0 Q h pc lv (vi x :: st) := fun H locs ls a b c e => lv_if_gt ok.1 ok.2.1 hd ht (fun q => kt (by rw [if_pos q] at hf; exact hf) H locs ls a b c e) (fun q => kf (by rw [if_neg q] at hf; exact hf) H locs ls a b c e)
theorem v_if_le (ok : Ok G X own cc nL d h0) {x : Int32} {off : Int} (tgt : Nat) (hd : decode cc pc = .ok (.ifCond .le off, 3)) (ht : (pc : Int) + off = (tgt : Int)) {A B : Option τ} (hf : (if 0 < x then B else A) = some z) (kt : A = some z → V G X nL h0 Q h tgt lv st) (kf : B = some z → V G X nL h0 Q h (pc + 3) lv st) : V G X nL h0 Q h pc lv (vi x :: st) := fun H locs ls a b c e => lv_if_le ok.1 ok.2.1 hd ht (fun q => kt (by rw [if_neg (Int32.not_lt.mpr q)] at hf; exact hf) H locs ls a b c e) (fun q => kf (by rw [if_pos (Int32.not_le.mp q)] at hf; exact hf) H locs ls a b c e)
theorem v_icmp_eq (ok : Ok G X own cc nL d h0) {x y : Int32} {off : Int} (tgt : Nat) (hd : decode cc pc = .ok (.if_icmp .eq off, 3)) (ht : (pc : Int) + off = (tgt : Int)) {A B : Option τ} (hf : (if x = y then A else B) = some z) (kt : A = some z → V G X nL h0 Q h tgt lv st) (kf : B = some z → V G X nL h0 Q h (pc + 3) lv st) : V G X nL h0 Q h pc lv (vi y :: vi x :: st) := fun H locs ls a b c e => lv_icmp_eq ok.1 ok.2.1 hd ht (fun q => kt (by rw [if_pos q] at hf; exact hf) H locs ls a b c e) (fun q => kf (by rw [if_neg q] at hf; exact hf) H locs ls a b c e)
theorem v_icmp_ne (ok : Ok G X own cc nL d h0) {x y : Int32} {off : Int} (tgt : Nat) (hd : decode cc pc = .ok (.if_icmp .ne off, 3)) (ht : (pc : Int) + off = (tgt : Int)) {A B : Option τ} (hf : (if x = y then B else A) = some z) (kt : A = some z → V G X nL h0 Q h tgt lv st) (kf : B = some z → V G X nL h0 Q h (pc + 3) lv st) : V G X nL h0 Q h pc lv (vi y :: vi x :: st) := fun H locs ls a b c e => lv_icmp_ne ok.1 ok.2.1 hd ht (fun q => kt (by rw [if_neg q] at hf; exact hf) H locs ls a b c e) (fun q => kf (by rw [if_pos q] at hf; exact hf) H locs ls a b c e)
theorem v_icmp_lt (ok : Ok G X own cc nL d h0) {x y : Int32} {off : Int} (tgt : Nat) (hd : decode cc pc = .ok (.if_icmp .lt off, 3)) (ht : (pc : Int) + off = (tgt : Int)) {A B : Option τ} (hf : (if x < y then A else B) = some z) (kt : A = some z → V G X nL h0 Q h tgt lv st) (kf : B = some z → V G X nL h0 Q h (pc + 3) lv st) : V G X nL h0 Q h pc lv (vi y :: vi x :: st) := fun H locs ls a b c e => lv_icmp_lt ok.1 ok.2.1 hd ht (fun q => kt (by rw [if_pos q] at hf; exact hf) H locs ls a b c e) (fun q => kf (by rw [if_neg q] at hf; exact hf) H locs ls a b c e)
theorem v_icmp_ge (ok : Ok G X own cc nL d h0) {x y : Int32} {off : Int} (tgt : Nat) (hd : decode cc pc = .ok (.if_icmp .ge off, 3)) (ht : (pc : Int) + off = (tgt : Int)) {A B : Option τ} (hf : (if x < y then B else A) = some z) (kt : A = some z → V G X nL h0 Q h tgt lv st) (kf : B = some z → V G X nL h0 Q h (pc + 3) lv st) : V G X nL h0 Q h pc lv (vi y :: vi x :: st) := fun H locs ls a b c e => lv_icmp_ge ok.1 ok.2.1 hd ht (fun q => kt (by rw [if_neg (Int32.not_lt.mpr q)] at hf; exact hf) H locs ls a b c e) (fun q => kf (by rw [if_pos (Int32.not_le.mp q)] at hf; exact hf) H locs ls a b c e)
theorem v_icmp_gt (ok : Ok G X own cc nL d h0) {x y : Int32} {off : Int} (tgt : Nat) (hd : decode cc pc = .ok (.if_icmp .gt off, 3)) (ht : (pc : Int) + off = (tgt : Int)) {A B : Option τ} (hf : (if y < x then A else B) = some z) (kt : A = some z → V G X nL h0 Q h tgt lv st) (kf : B = some z → V G X nL h0 Q h (pc + 3) lv st) : V G X nL h0 Q h pc lv (vi y :: vi x :: st) := fun H locs ls a b c e => lv_icmp_gt ok.1 ok.2.1 hd ht (fun q => kt (by rw [if_pos q] at hf; exact hf) H locs ls a b c e) (fun q => kf (by rw [if_neg q] at hf; exact hf) H locs ls a b c e)
theorem v_icmp_le (ok : Ok G X own cc nL d h0) {x y : Int32} {off : Int} (tgt : Nat) (hd : decode cc pc = .ok (.if_icmp .le off, 3)) (ht : (pc : Int) + off = (tgt : Int)) {A B : Option τ} (hf : (if y < x then B else A) = some z) (kt : A = some z → V G X nL h0 Q h tgt lv st) (kf : B = some z → V G X nL h0 Q h (pc + 3) lv st) : V G X nL h0 Q h pc lv (vi y :: vi x :: st) := fun H locs ls a b c e => lv_icmp_le ok.1 ok.2.1 hd ht (fun q => kt (by rw [if_neg (Int32.not_lt.mpr q)] at hf; exact hf) H locs ls a b c e) (fun q => kf (by rw [if_pos (Int32.not_le.mp q)] at hf; exact hf) H locs ls a b c e)
theorem v_ifnull (ok : Ok G X own cc nL d h0) {r : Option Nat} {off : Int} (tgt : Nat) (hd : decode cc pc = .ok (.ifnull off, 3)) (ht : (pc : Int) + off = (tgt : Int)) {A B : Option τ} (hf : (if r = none then A else B) = some z) (kt : A = some z → V G X nL h0 Q h tgt lv st) (kf : B = some z → V G X nL h0 Q h (pc + 3) lv st) : V G X nL h0 Q h pc lv (vr r :: st) := by
  intro H locs ls a b c e
  cases r with
  | none => exact lv_ifnullN ok.1 ok.2.1 hd ht (kt (by rw [if_pos rfl] at hf; exact hf) H locs ls a b c e)
  | some q => exact lv_ifnull ok.1 ok.2.1 hd (kf (by rw [if_neg (by intro z; cases z)] at hf; exact hf) H locs ls a b c e)
theorem v_ifnonnull (ok : Ok G X own cc nL d h0) {r : Option Nat} {off : Int} (tgt : Nat) (hd : decode cc pc = .ok (.ifnonnull off, 3)) (ht : (pc : Int) + off = (tgt : Int)) {A B : Option τ} (hf : (if r = none then B else A) = some z) (kt : A = some z → V G X nL h0 Q h tgt lv st) (kf : B = some z → V G X nL h0 Q h (pc + 3) lv st) : V G X nL h0 Q h pc lv (vr r :: st) := by
  intro H locs ls a b c e
  cases r with
  | none => exact lv_ifnonnullN ok.1 ok.2.1 hd (kf (by rw [if_pos rfl] at hf; exact hf) H locs ls a b c e)
  | some q => exact lv_ifnonnull ok.1 ok.2.1 hd ht (kt (by rw [if_neg (by intro z; cases z)] at hf; exact hf) H locs ls a b c e)
/-! switches: the function has a chain of ifs; the last goes to the default -/
theorem v_tableIn (ok : Ok G X own cc nL d h0) {dflt lo hi : Int} {offs : Array Int} {len : Nat} {x : Int32} (v : Int32) {off : Int} (tgt : Nat) (hd : decode cc pc = .ok (.tableswitch dflt lo hi offs, len)) (hv : x = v) (h1 : ¬ v.toInt < lo) (h2 : ¬ hi < v.toInt) (ho : offs[(v.toInt - lo).toNat]? = some off) (ht : (pc : Int) + off = (tgt : Int)) (k : V G X nL h0 Q h tgt lv st) : V G X nL h0 Q h pc lv (vi x :: st) := by
  subst hv
  exact fun H locs ls a b c e => lv_tableIn ok.1 ok.2.1 hd h1 h2 ho ht (k H locs ls a b c e)
theorem v_tableOut (ok : Ok G X own cc nL d h0) {dflt lo hi : Int} {offs : Array Int} {len : Nat} {x : Int32} (tgt : Nat) (hd : decode cc pc = .ok (.tableswitch dflt lo hi offs, len)) (h1 : x.toInt < lo ∨ hi < x.toInt) (ht : (pc : Int) + dflt = (tgt : Int)) (k : V G X nL h0 Q h tgt lv st) : V G X nL h0 Q h pc lv (vi x :: st) := fun H locs ls a b c e => lv_tableOut ok.1 ok.2.1 hd h1 ht (k H locs ls a b c e)
theorem v_lookup (ok : Ok G X own cc nL d h0) {dflt : Int} {ps : Array (Int × Int)} {len : Nat} {x : Int32} {off : Int} (tgt : Nat) (hd : decode cc pc = .ok (.lookupswitch dflt ps, len)) (hp : (ps.toList.zip (ps.toList.drop 1)).all (fun (a, next) => a.1 < next.1) = true) (ho : Op.lookupswitch.offset ps.toList dflt x.toInt = off) (ht : (pc : Int) + off = (tgt : Int)) (k : V G X nL h0 Q h tgt lv st) : V G X nL h0 Q h pc lv (vi x :: st) := fun H locs ls a b c e => lv_lookup ok.1 ok.2.1 hd hp ho ht (k H locs ls a b c e)
/-! words of the tables -/
theorem gw {A : Array Value} (ok : Ok G X own cc nL d h0) {w : Cond} (hw : w ∈ lw_all) : w.before A X.2.2.2.2.1 = true := by
  obtain ⟨A0, ht⟩ := ok.2.2.2.2.2.2.1.1
  exact word_at ok.2.2.2.2.1 (good_of_word (List.mem_filter.mp hw).2) (ht w (lw_all_tbl hw))
theorem gwB {G : GT} {A : Array Value} {U : State} (hG : Glob G) (hW : (g_s G).WarmedH U.vm) {w : Cond} (hw : w ∈ lw_all) : w.before A U = true := by
  obtain ⟨A0, ht⟩ := hG.1
  exact word_at hW (good_of_word (List.mem_filter.mp hw).2) (ht w (lw_all_tbl hw))
theorem gKn (ok : Ok G X own cc nL d h0) {ci : Nat} {q : vw_C} (hq : clT[ci]? = some q) : u_Kn X.2.2.2.2.1 q.1 q.2.1 q.2.2 (g_C G ci) (g_I G ci) := u_Kn_moved ok.2.2.2.2.1.alike (ok.2.2.2.2.2.2.1.2.1 ci q hq)
theorem gAK (ok : Ok G X own cc nL d h0) {t : Nat} (h1 : 100 ≤ t) (h2 : t ≤ 107) : AK G X.2.2.2.2.1 t := AK.moved ok.2.2.2.2.1.alike (ok.2.2.2.2.2.2.1.2.2.1 t h1 h2)
theorem v_ldc (ok : Ok G X own cc nL d h0) {index : Nat} {v : Int32} (hq : Cond.constant own index v ∈ lw_all) (hd : decode cc pc = .ok (.ldc index, 2)) (k : V G X nL h0 Q h (pc + 2) lv (vi v :: st)) : V G X nL h0 Q h pc lv st := fun H locs ls a b c e => lv_ldc ok.1 ok.2.1 ok.2.2.2.1 (gw ok hq) hd (k H locs ls a b c e)
theorem v_ldc2 (ok : Ok G X own cc nL d h0) {index : Nat} {v : Int64} (hq : Cond.constantLong own index v ∈ lw_all) (hd : decode cc pc = .ok (.ldc2_w index, 3)) (k : V G X nL h0 Q h (pc + 3) lv (vl v :: st)) : V G X nL h0 Q h pc lv st := fun H locs ls a b c e => lv_ldc2 ok.1 ok.2.1 ok.2.2.2.1 (gw ok hq) hd (k H locs ls a b c e)
/-! reads -/
theorem clT_lt {ci : Nat} {q : vw_C} (hq : clT[ci]? = some q) : ci < 100 := by
  have := (List.getElem?_eq_some_iff.mp hq).1
  exact Nat.lt_of_lt_of_le this (by decide)
theorem Abs.obj {H : Heap} (hA : Abs G h H) {ci a : Nat} {q : vw_C} (hq : clT[ci]? = some q) (hk : (hK h a).1 = ci) : ∃ c, H[rho G a]? = some c ∧ c.vm ≠ .unknown ∧ (∀ q, c.vm ≠ .statics q) ∧ (NC ≤ a → c.vm = .none) ∧ c.cls = g_C G ci ∧ ∀ k, k < q.2.2 → c.slots[g_I G ci k]? = some (fv G (tyT ci k) h a k) := by
  have hl := clT_lt hq
  obtain ⟨c, h1, h2, h3, h4, h5, -⟩ := hA.2.2.2.2 a (by omega)
  rw [hk] at h5
  obtain ⟨h6, h7⟩ := h5 q hq
  exact ⟨c, h1, h2, h3, h4, h6, h7⟩
theorem Abs.arr {H : Heap} (hA : Abs G h H) {t a : Nat} (ht : 100 ≤ t) (ht2 : t ≤ 107) (hk : (hK h a).1 = t) : ∃ c, H[rho G a]? = some c ∧ c.vm ≠ .unknown ∧ (∀ q, c.vm ≠ .statics q) ∧ (NC ≤ a → c.vm = .none) ∧ ((g_s G).isArrayOf c (atT t) ∧ (NC ≤ a → c.cls = g_A G t)) ∧ SzOk c a (hK h a).2 ∧ ∀ k, k < (hK h a).2 → c.slots[k]? = some (fv G (atT t) h a k) := by
  obtain ⟨c, h1, h2, h3, h4, -, h5⟩ := hA.2.2.2.2 a (by omega)
  rw [hk] at h5
  obtain ⟨h6, h7, h8⟩ := h5 ht
  exact ⟨c, h1, h2, h3, h4, h6, h7, h8⟩
theorem isA_ok (ok : Ok G X own cc nL d h0) {c : Cell} {ty : FieldType} (h : (g_s G).isArrayOf c ty) : X.2.2.2.2.1.isArrayOf c ty := State.isArrayOf_alike ok.2.2.2.2.1.alike h
/-- a field read: any link that is found, the row of the machine given -/
theorem v_getA (ok : Ok G X own cc nL d h0) {ci k : Nat} {q : vw_C} {r : Option Nat} (hq : clT[ci]? = some q) (hk : k < q.2.2) {ref : String} {index : Nat} {hin : ∀ w ∈ u_ws q.1 q.2.1 q.2.2, w ∈ lw_all} (hl : Cond.fieldLink own index ref (q.2.1 k).2.1 (q.2.1 k).2.2.1 ∈ lw_all) (hsame : ref = (q.2.1 k).1) {a : Nat} (hr : isO ci r h = some a) (hd : decode cc pc = .ok (.getfield index, 3)) {v : AV} (hv : fv G (tyT ci k) h a k = cv G v)
    (kk : V G X nL h0 Q h (pc + 3) lv (v :: st)) : V G X nL h0 Q h pc lv (vr r :: st) := by
  intro H locs ls a1 b c e
  cases r with
  | none => cases hr
  | some a0 =>
    rw [isO] at hr
    split at hr
    · rename_i hK
      cases hr
      obtain ⟨cell, e1, e2, -, -, e5, e6⟩ := a1.obj hq hK
      obtain ⟨hS, hfc, kC, hkC, hkind⟩ := gKn ok hq
      obtain ⟨cf, kf, fi, f, hi, hsl⟩ := hS k hk
      have hts : ∀ w ∈ lw_all, w.before X.2.2.2.2.2.2.1 X.2.2.2.2.1 = true := fun w hw => gw ok hw
      refine W.getf ok.1 ok.2.1 ok.2.2.2.1 (gw ok hl) (by rw [hsame]; exact hi) (u_facts hfc hkC (u_lays hts hin hk) hi).1 e1 e2 (v := cv G v) ?_ rfl rfl hd (kk H locs ls a1 b c e)
      rw [hsl, e6 k hk, hv]
    · cases hr

theorem v_getI (ok : Ok G X own cc nL d h0) {ci k : Nat} {r : Option Nat} (q : vw_C) (hq : clT[ci]? = some q) (hk : k < q.2.2) {ref : String} {index : Nat} (hin : ∀ w ∈ u_ws q.1 q.2.1 q.2.2, w ∈ lw_all) (hl : Cond.fieldLink own index ref (q.2.1 k).2.1 (q.2.1 k).2.2.1 ∈ lw_all) (hsame : ref = (q.2.1 k).1) (hty : ∀ a, fv G (tyT ci k) h a k = .int (hI h a k)) (hd : decode cc pc = .ok (.getfield index, 3)) {f : Int32 → Option τ} (hf : (gI ci k r h).bind f = some z)
    (kk : ∀ v, f v = some z → V G X nL h0 Q h (pc + 3) lv (vi v :: st)) : V G X nL h0 Q h pc lv (vr r :: st) := by
  cases r with
  | none => cases hf
  | some a0 =>
    by_cases hK : (hK h a0).1 = ci
    · refine v_getA ok hq hk (hin := hin) hl hsame (a := a0) (by simp only [isO]; rw [if_pos hK]) hd (v := vi (hI h a0 k)) (hty a0) (kk _ ?_)
      simp only [gI] at hf
      rw [if_pos hK] at hf
      exact hf
    · simp only [gI] at hf
      rw [if_neg hK] at hf
      cases hf
theorem v_getL (ok : Ok G X own cc nL d h0) {ci k : Nat} {r : Option Nat} (q : vw_C) (hq : clT[ci]? = some q) (hk : k < q.2.2) {ref : String} {index : Nat} (hin : ∀ w ∈ u_ws q.1 q.2.1 q.2.2, w ∈ lw_all) (hl : Cond.fieldLink own index ref (q.2.1 k).2.1 (q.2.1 k).2.2.1 ∈ lw_all) (hsame : ref = (q.2.1 k).1) (hty : ∀ a, fv G (tyT ci k) h a k = .long (hL h a k)) (hd : decode cc pc = .ok (.getfield index, 3)) {f : Int64 → Option τ} (hf : (gL ci k r h).bind f = some z)
    (kk : ∀ v, f v = some z → V G X nL h0 Q h (pc + 3) lv (vl v :: st)) : V G X nL h0 Q h pc lv (vr r :: st) := by
  cases r with
  | none => cases hf
  | some a0 =>
    by_cases hK : (hK h a0).1 = ci
    · refine v_getA ok hq hk (hin := hin) hl hsame (a := a0) (by simp only [isO]; rw [if_pos hK]) hd (v := vl (hL h a0 k)) (hty a0) (kk _ ?_)
      simp only [gL] at hf
      rw [if_pos hK] at hf
      exact hf
    · simp only [gL] at hf
      rw [if_neg hK] at hf
      cases hf
theorem v_getR (ok : Ok G X own cc nL d h0) {ci k : Nat} {r : Option Nat} (q : vw_C) (hq : clT[ci]? = some q) (hk : k < q.2.2) {ref : String} {index : Nat} (hin : ∀ w ∈ u_ws q.1 q.2.1 q.2.2, w ∈ lw_all) (hl : Cond.fieldLink own index ref (q.2.1 k).2.1 (q.2.1 k).2.2.1 ∈ lw_all) (hsame : ref = (q.2.1 k).1) (hty : ∀ a, fv G (tyT ci k) h a k = va_rf ((hR h a k).map (rho G))) (hd : decode cc pc = .ok (.getfield index, 3)) {f : Option Nat → Option τ} (hf : (gR ci k r h).bind f = some z)
    (kk : ∀ v, f v = some z → V G X nL h0 Q h (pc + 3) lv (vr v :: st)) : V G X nL h0 Q h pc lv (vr r :: st) := by
  cases r with
  | none => cases hf
  | some a0 =>
    by_cases hK : (hK h a0).1 = ci
    · refine v_getA ok hq hk (hin := hin) hl hsame (a := a0) (by simp only [isO]; rw [if_pos hK]) hd (v := vr (hR h a0 k)) (hty a0) (kk _ ?_)
      simp only [gR] at hf
      rw [if_pos hK] at hf
      exact hf
    · simp only [gR] at hf
      rw [if_neg hK] at hf
      cases hf
theorem v_iald (ok : Ok G X own cc nL d h0) {t : Nat} (ht : t = 100) {r : Option Nat} {i : Int32} (hd : decode cc pc = .ok (.iaload, 1)) {f : Int32 → Option τ} (hf : (xI t r i h).bind f = some z) (kk : ∀ v, f v = some z → V G X nL h0 Q h (pc + 1) lv (vi v :: st)) : V G X nL h0 Q h pc lv (vi i :: vr r :: st) := by
  subst ht
  cases r with
  | none => cases hf
  | some a0 =>
    by_cases hC : (hK h a0).1 = 100 ∧ ¬ i < 0 ∧ i.toNatClampNeg < (hK h a0).2
    · simp only [xI] at hf
      rw [if_pos hC] at hf
      intro H locs ls a b c e
      obtain ⟨cell, e1, e2, e3, -, e5, e6, e7⟩ := a.arr (by decide) (by decide) hC.1
      refine W.iald ok.1 ok.2.1 e1 (isA_ok ok e5.1) e2 (v := cv G (vi (hI h a0 i.toNatClampNeg))) (fun q => q.elim hC.2.1 (fun q => absurd hC.2.2 (by have := e6.1; omega))) (e7 _ hC.2.2) rfl rfl hd (kk _ hf H locs ls a b c e)
    · simp only [xI] at hf
      rw [if_neg hC] at hf
      cases hf
theorem v_bald (ok : Ok G X own cc nL d h0) {t : Nat} (ht : t = 101) {r : Option Nat} {i : Int32} (hd : decode cc pc = .ok (.baload, 1)) {f : Int32 → Option τ} (hf : (xI t r i h).bind f = some z) (kk : ∀ v, f v = some z → V G X nL h0 Q h (pc + 1) lv (vi v :: st)) : V G X nL h0 Q h pc lv (vi i :: vr r :: st) := by
  subst ht
  cases r with
  | none => cases hf
  | some a0 =>
    by_cases hC : (hK h a0).1 = 101 ∧ ¬ i < 0 ∧ i.toNatClampNeg < (hK h a0).2
    · simp only [xI] at hf
      rw [if_pos hC] at hf
      intro H locs ls a b c e
      obtain ⟨cell, e1, e2, e3, -, e5, e6, e7⟩ := a.arr (by decide) (by decide) hC.1
      refine W.bald ok.1 ok.2.1 e1 (isA_ok ok e5.1) e2 (v := cv G (vi (hI h a0 i.toNatClampNeg))) (fun q => q.elim hC.2.1 (fun q => absurd hC.2.2 (by have := e6.1; omega))) (e7 _ hC.2.2) rfl rfl hd (kk _ hf H locs ls a b c e)
    · simp only [xI] at hf
      rw [if_neg hC] at hf
      cases hf
theorem v_cald (ok : Ok G X own cc nL d h0) {t : Nat} (ht : t = 102) {r : Option Nat} {i : Int32} (hd : decode cc pc = .ok (.caload, 1)) {f : Int32 → Option τ} (hf : (xI t r i h).bind f = some z) (kk : ∀ v, f v = some z → V G X nL h0 Q h (pc + 1) lv (vi v :: st)) : V G X nL h0 Q h pc lv (vi i :: vr r :: st) := by
  subst ht
  cases r with
  | none => cases hf
  | some a0 =>
    by_cases hC : (hK h a0).1 = 102 ∧ ¬ i < 0 ∧ i.toNatClampNeg < (hK h a0).2
    · simp only [xI] at hf
      rw [if_pos hC] at hf
      intro H locs ls a b c e
      obtain ⟨cell, e1, e2, e3, -, e5, e6, e7⟩ := a.arr (by decide) (by decide) hC.1
      refine W.cald ok.1 ok.2.1 e1 (isA_ok ok e5.1) e2 (v := cv G (vi (hI h a0 i.toNatClampNeg))) (fun q => q.elim hC.2.1 (fun q => absurd hC.2.2 (by have := e6.1; omega))) (e7 _ hC.2.2) rfl rfl hd (kk _ hf H locs ls a b c e)
    · simp only [xI] at hf
      rw [if_neg hC] at hf
      cases hf
theorem v_lald (ok : Ok G X own cc nL d h0) {t : Nat} (ht : t = 103) {r : Option Nat} {i : Int32} (hd : decode cc pc = .ok (.laload, 1)) {f : Int64 → Option τ} (hf : (xL t r i h).bind f = some z) (kk : ∀ v, f v = some z → V G X nL h0 Q h (pc + 1) lv (vl v :: st)) : V G X nL h0 Q h pc lv (vi i :: vr r :: st) := by
  subst ht
  cases r with
  | none => cases hf
  | some a0 =>
    by_cases hC : (hK h a0).1 = 103 ∧ ¬ i < 0 ∧ i.toNatClampNeg < (hK h a0).2
    · simp only [xL] at hf
      rw [if_pos hC] at hf
      intro H locs ls a b c e
      obtain ⟨cell, e1, e2, e3, -, e5, e6, e7⟩ := a.arr (by decide) (by decide) hC.1
      refine W.lald ok.1 ok.2.1 e1 (isA_ok ok e5.1) e2 (v := cv G (vl (hL h a0 i.toNatClampNeg))) (fun q => q.elim hC.2.1 (fun q => absurd hC.2.2 (by have := e6.1; omega))) (e7 _ hC.2.2) rfl rfl hd (kk _ hf H locs ls a b c e)
    · simp only [xL] at hf
      rw [if_neg hC] at hf
      cases hf
theorem v_aald4 (ok : Ok G X own cc nL d h0) {t : Nat} (ht : t = 104) {r : Option Nat} {i : Int32} (hd : decode cc pc = .ok (.aaload, 1)) {f : Option Nat → Option τ} (hf : (xR t r i h).bind f = some z) (kk : ∀ v, f v = some z → V G X nL h0 Q h (pc + 1) lv (vr v :: st)) : V G X nL h0 Q h pc lv (vi i :: vr r :: st) := by
  subst ht
  cases r with
  | none => cases hf
  | some a0 =>
    by_cases hC : (hK h a0).1 = 104 ∧ ¬ i < 0 ∧ i.toNatClampNeg < (hK h a0).2
    · simp only [xR] at hf
      rw [if_pos hC] at hf
      intro H locs ls a b c e
      obtain ⟨cell, e1, e2, e3, -, e5, e6, e7⟩ := a.arr (by decide) (by decide) hC.1
      refine W.aald ok.1 ok.2.1 e1 (isA_ok ok e5.1) rfl e2 (v := cv G (vr (hR h a0 i.toNatClampNeg))) (fun q => q.elim hC.2.1 (fun q => absurd hC.2.2 (by have := e6.1; omega))) (e7 _ hC.2.2) rfl rfl hd (kk _ hf H locs ls a b c e)
    · simp only [xR] at hf
      rw [if_neg hC] at hf
      cases hf
theorem v_aald5 (ok : Ok G X own cc nL d h0) {t : Nat} (ht : t = 105) {r : Option Nat} {i : Int32} (hd : decode cc pc = .ok (.aaload, 1)) {f : Option Nat → Option τ} (hf : (xR t r i h).bind f = some z) (kk : ∀ v, f v = some z → V G X nL h0 Q h (pc + 1) lv (vr v :: st)) : V G X nL h0 Q h pc lv (vi i :: vr r :: st) := by
  subst ht
  cases r with
  | none => cases hf
  | some a0 =>
    by_cases hC : (hK h a0).1 = 105 ∧ ¬ i < 0 ∧ i.toNatClampNeg < (hK h a0).2
    · simp only [xR] at hf
      rw [if_pos hC] at hf
      intro H locs ls a b c e
      obtain ⟨cell, e1, e2, e3, -, e5, e6, e7⟩ := a.arr (by decide) (by decide) hC.1
      refine W.aald ok.1 ok.2.1 e1 (isA_ok ok e5.1) rfl e2 (v := cv G (vr (hR h a0 i.toNatClampNeg))) (fun q => q.elim hC.2.1 (fun q => absurd hC.2.2 (by have := e6.1; omega))) (e7 _ hC.2.2) rfl rfl hd (kk _ hf H locs ls a b c e)
    · simp only [xR] at hf
      rw [if_neg hC] at hf
      cases hf
theorem v_aald6 (ok : Ok G X own cc nL d h0) {t : Nat} (ht : t = 106) {r : Option Nat} {i : Int32} (hd : decode cc pc = .ok (.aaload, 1)) {f : Option Nat → Option τ} (hf : (xR t r i h).bind f = some z) (kk : ∀ v, f v = some z → V G X nL h0 Q h (pc + 1) lv (vr v :: st)) : V G X nL h0 Q h pc lv (vi i :: vr r :: st) := by
  subst ht
  cases r with
  | none => cases hf
  | some a0 =>
    by_cases hC : (hK h a0).1 = 106 ∧ ¬ i < 0 ∧ i.toNatClampNeg < (hK h a0).2
    · simp only [xR] at hf
      rw [if_pos hC] at hf
      intro H locs ls a b c e
      obtain ⟨cell, e1, e2, e3, -, e5, e6, e7⟩ := a.arr (by decide) (by decide) hC.1
      refine W.aald ok.1 ok.2.1 e1 (isA_ok ok e5.1) rfl e2 (v := cv G (vr (hR h a0 i.toNatClampNeg))) (fun q => q.elim hC.2.1 (fun q => absurd hC.2.2 (by have := e6.1; omega))) (e7 _ hC.2.2) rfl rfl hd (kk _ hf H locs ls a b c e)
    · simp only [xR] at hf
      rw [if_neg hC] at hf
      cases hf
theorem v_aald7 (ok : Ok G X own cc nL d h0) {t : Nat} (ht : t = 107) {r : Option Nat} {i : Int32} (hd : decode cc pc = .ok (.aaload, 1)) {f : Option Nat → Option τ} (hf : (xR t r i h).bind f = some z) (kk : ∀ v, f v = some z → V G X nL h0 Q h (pc + 1) lv (vr v :: st)) : V G X nL h0 Q h pc lv (vi i :: vr r :: st) := by
  subst ht
  cases r with
  | none => cases hf
  | some a0 =>
    by_cases hC : (hK h a0).1 = 107 ∧ ¬ i < 0 ∧ i.toNatClampNeg < (hK h a0).2
    · simp only [xR] at hf
      rw [if_pos hC] at hf
      intro H locs ls a b c e
      obtain ⟨cell, e1, e2, e3, -, e5, e6, e7⟩ := a.arr (by decide) (by decide) hC.1
      refine W.aald ok.1 ok.2.1 e1 (isA_ok ok e5.1) rfl e2 (v := cv G (vr (hR h a0 i.toNatClampNeg))) (fun q => q.elim hC.2.1 (fun q => absurd hC.2.2 (by have := e6.1; omega))) (e7 _ hC.2.2) rfl rfl hd (kk _ hf H locs ls a b c e)
    · simp only [xR] at hf
      rw [if_neg hC] at hf
      cases hf
theorem v_alen (ok : Ok G X own cc nL d h0) {r : Option Nat} (hd : decode cc pc = .ok (.arraylength, 1)) {f : Int32 → Option τ} (hf : (aln r h).bind f = some z) (kk : ∀ v, f v = some z → V G X nL h0 Q h (pc + 1) lv (vi v :: st)) : V G X nL h0 Q h pc lv (vr r :: st) := by
  cases r with
  | none => cases hf
  | some a0 =>
    by_cases hC : 100 ≤ (hK h a0).1 ∧ (hK h a0).1 ≤ 107
    · simp only [aln] at hf
      rw [if_pos hC] at hf
      intro H locs ls a b c e
      obtain ⟨cell, e1, e2, e3, -, e5, e6, e7⟩ := a.arr hC.1 hC.2 rfl
      exact W.alen ok.1 ok.2.1 e1 (isA_ok ok e5.1) (n := nI (hK h a0).2) e6.2.1 rfl rfl hd (kk _ hf H locs ls a b c e)
    · simp only [aln] at hf
      rw [if_neg hC] at hf
      cases hf
end VRows
