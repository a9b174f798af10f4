set_option maxRecDepth 100000
/-! ===== codes and what they tell: plain ===== -/
/-- what may be asked: parts; line; at -/
abbrev ENV : Type := (Nat → Int) × (Int → Int) × (Int → Int)
def clp (v : Int) : Int := if 1000000 < v then 1000000 else if v < -1000000 then -1000000 else v
def rng (v : Int) : Prop := -1000000 ≤ v ∧ v ≤ 1000000
theorem clp_rng (v : Int) : rng (clp v) := by unfold clp rng; repeat' split <;> omega
theorem clp_id {v : Int} (h : rng v) : clp v = v := by unfold clp; unfold rng at h; rw [if_neg (by omega), if_neg (by omega)]
def fl (a b : Int) : Int := if b = 0 then 0 else if Int.tmod a b = 0 ∨ (a < 0 ↔ b < 0) then Int.tdiv a b else Int.tdiv a b - 1
theorem fl_rng {a b : Int} (h : rng a) : rng (fl a b) := by
  unfold rng at h ⊢
  unfold fl
  by_cases hb : b = 0
  · rw [if_pos hb]; omega
  rw [if_neg hb]
  have h1 := Int.tmod_add_mul_tdiv a b
  have h2 : (a.tdiv b).natAbs ≤ a.natAbs := Int.natAbs_tdiv_le_natAbs a b
  split
  · omega
  · rename_i hc
    have hm : Int.tmod a b ≠ 0 := fun e => hc (Or.inl e)
    have h3 : (a.tdiv b).natAbs ≠ a.natAbs := by
      intro e
      apply hm
      have h4 : (a.tdiv b).natAbs = a.natAbs / b.natAbs := Int.natAbs_tdiv a b
      have h5 : (Int.tmod a b).natAbs = a.natAbs % b.natAbs := Int.natAbs_tmod a b
      rcases Nat.eq_zero_or_pos a.natAbs with z | z
      · rw [z, Nat.zero_mod] at h5; omega
      · rcases Nat.lt_or_ge 1 b.natAbs with y | y
        · have := Nat.div_lt_self z y; omega
        · have : b.natAbs = 1 := by omega
          rw [this, Nat.mod_one] at h5; omega
    omega
def jn (c : Nat) (a b : Int) : Int :=
  if c = 1 then clp (a + b) else if c = 2 then clp (a - b) else if c = 3 then clp (a * b) else if c = 4 then fl a b else if c = 5 then (if a < b then a else b) else if c = 6 then (if b < a then a else b)
  else if c = 7 then (if a < b then 1 else 0) else if c = 8 then (if b < a then 1 else 0) else if c = 9 then (if a = b then 1 else 0) else if c = 10 then a * b else if 0 < a + b then 1 else 0
/-- one code, on a pile (its top first) -/
def stp (e : ENV) (c : Nat) (st : List Int) : Option (List Int) :=
  if 1000 ≤ c then (if c ≤ 10999 then some (((c - 1000 : Nat) : Int) :: st) else none)
  else if 60 ≤ c then (match st with | a :: r => some (clp (if c = 60 then e.2.1 a else e.2.2 a) :: r) | [] => none)
  else if 40 ≤ c then some (clp (e.1 (c - 40)) :: st)
  else if c = 13 then some (1 :: st)
  else if c = 12 then (match st with | a :: r => if a = 0 ∨ a = 1 then some ((1 - a) :: r) else none | [] => none)
  else match st with
    | b :: a :: r => if c = 10 ∨ c = 11 then (if (a = 0 ∨ a = 1) ∧ (b = 0 ∨ b = 1) then some (jn c a b :: r) else none) else if 1 ≤ c ∧ c ≤ 9 then some (jn c a b :: r) else none
    | _ => none
def run (e : ENV) : List Nat → List Int → Option (List Int)
  | [], st => some st
  | c :: L, st => (stp e c st).bind (run e L)
theorem run_app (e : ENV) : ∀ (L M : List Nat) (st : List Int), run e (L ++ M) st = (run e L st).bind (run e M)
  | [], M, st => rfl
  | c :: L, M, st => by
    rw [List.cons_append, run, run]
    cases stp e c st with
    | none => rfl
    | some st' => exact run_app e L M st'
theorem run_one (e : ENV) (c : Nat) (st : List Int) : run e [c] st = stp e c st := by
  rw [run]
  cases stp e c st <;> rfl
theorem jn_rng {c : Nat} {a b : Int} (ha : rng a) (hb : rng b) (hc : (1 ≤ c ∧ c ≤ 9) ∨ ((c = 10 ∨ c = 11) ∧ (a = 0 ∨ a = 1) ∧ (b = 0 ∨ b = 1))) : rng (jn c a b) := by
  unfold jn
  by_cases c1 : c = 1
  · rw [if_pos c1]; exact clp_rng _
  rw [if_neg c1]
  by_cases c2 : c = 2
  · rw [if_pos c2]; exact clp_rng _
  rw [if_neg c2]
  by_cases c3 : c = 3
  · rw [if_pos c3]; exact clp_rng _
  rw [if_neg c3]
  by_cases c4 : c = 4
  · rw [if_pos c4]; exact fl_rng ha
  rw [if_neg c4]
  by_cases c10 : c = 10
  · rcases hc with z | ⟨-, z1, z2⟩
    · omega
    · subst c10
      simp only [rng] at *
      rcases z1 with rfl | rfl <;> rcases z2 with rfl | rfl <;> simp
  · unfold rng at *
    repeat' split
    all_goals omega
theorem stp_rng {e : ENV} {c : Nat} {st st' : List Int} (h : ∀ v ∈ st, rng v) (hs : stp e c st = some st') : (∀ v ∈ st', rng v) ∧ st'.length ≤ st.length + 1 ∧ c < 11000 := by
  unfold stp at hs
  by_cases c1 : 1000 ≤ c
  · rw [if_pos c1] at hs
    by_cases c2 : c ≤ 10999
    · rw [if_pos c2] at hs
      cases hs
      refine ⟨?_, by simp, by omega⟩
      intro v hv
      rcases List.mem_cons.mp hv with rfl | hv
      · unfold rng; omega
      · exact h v hv
    · rw [if_neg c2] at hs; cases hs
  rw [if_neg c1] at hs
  by_cases c2 : 60 ≤ c
  · rw [if_pos c2] at hs
    cases st with
    | nil => cases hs
    | cons a r =>
      cases hs
      refine ⟨?_, by simp, by omega⟩
      intro v hv
      rcases List.mem_cons.mp hv with rfl | hv
      · exact clp_rng _
      · exact h v (List.mem_cons_of_mem _ hv)
  rw [if_neg c2] at hs
  by_cases c3 : 40 ≤ c
  · rw [if_pos c3] at hs
    cases hs
    refine ⟨?_, by simp, by omega⟩
    intro v hv
    rcases List.mem_cons.mp hv with rfl | hv
    · exact clp_rng _
    · exact h v hv
  rw [if_neg c3] at hs
  by_cases c4 : c = 13
  · rw [if_pos c4] at hs
    cases hs
    refine ⟨?_, by simp, by omega⟩
    intro v hv
    rcases List.mem_cons.mp hv with rfl | hv
    · unfold rng; omega
    · exact h v hv
  rw [if_neg c4] at hs
  by_cases c5 : c = 12
  · rw [if_pos c5] at hs
    cases st with
    | nil => cases hs
    | cons a r =>
      simp only at hs
      by_cases q : a = 0 ∨ a = 1
      · rw [if_pos q] at hs
        cases hs
        refine ⟨?_, by simp, by omega⟩
        intro v hv
        rcases List.mem_cons.mp hv with rfl | hv
        · unfold rng; omega
        · exact h v (List.mem_cons_of_mem _ hv)
      · rw [if_neg q] at hs; cases hs
  rw [if_neg c5] at hs
  match st, h, hs with
  | [], _, hs => cases hs
  | [_], _, hs => cases hs
  | b :: a :: r, h, hs =>
    have ha : rng a := h a (by simp)
    have hb : rng b := h b (by simp)
    simp only at hs
    have fin : ∀ w, some (jn c a b :: r) = some w → (c = 10 ∨ c = 11 ∨ (1 ≤ c ∧ c ≤ 9)) → rng (jn c a b) → (∀ v ∈ w, rng v) ∧ w.length ≤ (b :: a :: r).length + 1 ∧ c < 11000 := by
      intro w e q g
      cases e
      refine ⟨?_, by simp, by omega⟩
      intro v hv
      rcases List.mem_cons.mp hv with rfl | hv
      · exact g
      · exact h v (by simp [hv])
    by_cases q : c = 10 ∨ c = 11
    · rw [if_pos q] at hs
      by_cases q2 : (a = 0 ∨ a = 1) ∧ (b = 0 ∨ b = 1)
      · rw [if_pos q2] at hs
        exact fin _ hs (by omega) (jn_rng ha hb (Or.inr ⟨q, q2⟩))
      · rw [if_neg q2] at hs; cases hs
    · rw [if_neg q] at hs
      by_cases q2 : 1 ≤ c ∧ c ≤ 9
      · rw [if_pos q2] at hs
        exact fin _ hs (by omega) (jn_rng ha hb (Or.inl q2))
      · rw [if_neg q2] at hs; cases hs
/-- codes that tell one value more, whatever lies below -/
def tel (e : ENV) (L : List Nat) (v : Int) : Prop := ∀ st, run e L st = some (v :: st)
theorem tel_num (e : ENV) {n : Nat} (h : n ≤ 9999) : tel e [1000 + n] n := by
  intro st
  rw [run_one, stp.eq_def, if_pos (by omega), if_pos (by omega)]
  congr 2
  omega
theorem tel_part (e : ENV) {k : Nat} (h : k < 20) : tel e [40 + k] (clp (e.1 k)) := by
  intro st
  rw [run_one, stp.eq_def, if_neg (by omega), if_neg (by omega), if_pos (by omega), Nat.add_sub_cancel_left]
theorem tel_all (e : ENV) : tel e [13] 1 := by
  intro st
  rfl
theorem tel_of {e : ENV} {L : List Nat} {v : Int} (h : tel e L v) (k : Nat) (hk : k < 2) : tel e (L ++ [60 + k]) (clp (if k = 0 then e.2.1 v else e.2.2 v)) := by
  intro st
  rw [run_app, h st, Option.bind_some, run_one, stp.eq_def, if_neg (by omega), if_pos (by omega)]
  simp only
  by_cases q : k = 0
  · subst q; rfl
  · rw [if_neg (show ¬ 60 + k = 60 by omega), if_neg q]
theorem tel_not {e : ENV} {L : List Nat} {v : Int} (h : tel e L v) (hv : v = 0 ∨ v = 1) : tel e (L ++ [12]) (1 - v) := by
  intro st
  rw [run_app, h st, Option.bind_some, run_one, stp.eq_def]
  simp only [Nat.reduceLeDiff, if_false, if_true, Nat.reduceEqDiff]
  rw [if_pos hv]
theorem tel_two {e : ENV} {L M : List Nat} {a b : Int} {c : Nat} (h : tel e L a) (g : tel e M b) (hc : (1 ≤ c ∧ c ≤ 9) ∨ ((c = 10 ∨ c = 11) ∧ (a = 0 ∨ a = 1) ∧ (b = 0 ∨ b = 1))) : tel e (L ++ M ++ [c]) (jn c a b) := by
  intro st
  rw [run_app, run_app, h st, Option.bind_some, g, Option.bind_some, run_one, stp.eq_def, if_neg (by omega), if_neg (by omega), if_neg (by omega), if_neg (by omega), if_neg (by omega)]
  simp only
  rcases hc with q | ⟨q, q1⟩
  · rw [if_neg (by omega), if_pos q]
  · rw [if_pos q, if_pos q1]
theorem stp_num {e : ENV} {c : Nat} {st st' : List Int} (hc : 1000 ≤ c) (hs : stp e c st = some st') : c ≤ 10999 ∧ st' = ((c - 1000 : Nat) : Int) :: st := by
  rw [stp.eq_def, if_pos hc] at hs
  split at hs
  · cases hs; exact ⟨by assumption, rfl⟩
  · cases hs
theorem stp_of {e : ENV} {c : Nat} {st st' : List Int} (h1 : 60 ≤ c) (h2 : c < 1000) (hs : stp e c st = some st') : ∃ a r, st = a :: r ∧ st' = clp (if c = 60 then e.2.1 a else e.2.2 a) :: r := by
  rw [stp.eq_def, if_neg (by omega), if_pos h1] at hs
  cases st with
  | nil => cases hs
  | cons a r => cases hs; exact ⟨a, r, rfl, rfl⟩
theorem stp_part {e : ENV} {c : Nat} {st st' : List Int} (h1 : 40 ≤ c) (h2 : c < 60) (hs : stp e c st = some st') : st' = clp (e.1 (c - 40)) :: st := by
  rw [stp.eq_def, if_neg (by omega), if_neg (by omega), if_pos h1] at hs
  cases hs; rfl
theorem stp_13 {e : ENV} {st st' : List Int} (hs : stp e 13 st = some st') : st' = 1 :: st := by
  rw [stp.eq_def, if_neg (by omega), if_neg (by omega), if_neg (by omega), if_pos rfl] at hs
  cases hs; rfl
theorem stp_12 {e : ENV} {st st' : List Int} (hs : stp e 12 st = some st') : ∃ a r, st = a :: r ∧ (a = 0 ∨ a = 1) ∧ st' = (1 - a) :: r := by
  rw [stp.eq_def, if_neg (by omega), if_neg (by omega), if_neg (by omega), if_neg (by omega), if_pos rfl] at hs
  cases st with
  | nil => cases hs
  | cons a r =>
    simp only at hs
    split at hs
    · cases hs; exact ⟨a, r, rfl, by assumption, rfl⟩
    · cases hs
theorem stp_jn {e : ENV} {c : Nat} {st st' : List Int} (h1 : c < 40) (h2 : c ≠ 13) (h3 : c ≠ 12) (hs : stp e c st = some st') : ∃ a b r, st = b :: a :: r ∧ ((1 ≤ c ∧ c ≤ 9) ∨ ((c = 10 ∨ c = 11) ∧ (a = 0 ∨ a = 1) ∧ (b = 0 ∨ b = 1))) ∧ st' = jn c a b :: r := by
  rw [stp.eq_def, if_neg (by omega), if_neg (by omega), if_neg (by omega), if_neg h2, if_neg h3] at hs
  match st, hs with
  | [], hs => cases hs
  | [_], hs => cases hs
  | b :: a :: r, hs =>
    simp only at hs
    split at hs
    · rename_i q
      split at hs
      · rename_i q2; cases hs; exact ⟨a, b, r, rfl, Or.inr ⟨q, q2⟩, rfl⟩
      · cases hs
    · split at hs
      · rename_i q2; cases hs; exact ⟨a, b, r, rfl, Or.inl q2, rfl⟩
      · cases hs
/-- codes of a sum, of a test -/
def CDK (c : Option (List Nat)) : Prop := ∀ L, c = some L → (∀ c ∈ L, c < 43 ∨ 1000 ≤ c) ∧ ∀ e, ∃ v, tel e L v
def CDT (c : Option (List Nat)) : Prop := ∀ L, c = some L → (∀ c ∈ L, c < 40 ∨ (43 ≤ c ∧ c < 48) ∨ 1000 ≤ c) ∧ ∀ e, ∃ v, (v = 0 ∨ v = 1) ∧ tel e L v
def evl (e : ENV) (L : List Nat) : Int := match run e L [] with
  | some (v :: _) => v
  | _ => 0
theorem evl_tel {e : ENV} {L : List Nat} {v : Int} (h : tel e L v) : evl e L = v := by rw [evl, h]
theorem run_rng {e : ENV} : ∀ {L : List Nat} {st st' : List Int}, (∀ v ∈ st, rng v) → run e L st = some st' → ∀ v ∈ st', rng v
  | [], st, st', h, hs => by rw [run] at hs; cases hs; exact h
  | c :: L, st, st', h, hs => by
    rw [run] at hs
    obtain ⟨s1, h1, h2⟩ := Option.bind_eq_some_iff.mp hs
    exact run_rng (stp_rng h h1).1 h2
theorem tel_rng {e : ENV} {L : List Nat} {v : Int} (h : tel e L v) : rng v := run_rng (st := []) (by simp) (h []) v (by simp)
