set_option maxRecDepth 100000
/-! THE CLAIM OUT OF ONE WALK OF THE LAW'S BODY. Your part is whole_start (and what it stands on); all else here is the same for every law, but numbers. -/
def R_law : String := "TurnedBoardsLaw"
def lw_P (b : Addr) (xs : List Int32) (args : Array Value) (s : State) : Prop := args = #[.ref b] ∧ s.IntsAt b xs ∧ xs.length ≤ 384 ∧ (Jvm.Cond.and given_1 narrow_1).before args s = true
def lw_Q (_ : Array Value) (s : State) (o : Outcome) (t : State) : Prop := o = .returned (some (.int 1)) ∧ Framed s o t [] 874973 6471184
def lw_Z (below : List Frame) (a : Array Value) (s : State) : State → Prop := fun t => ∃ o, t.status = .running ∧ Ended t below o ∧ lw_Q a s o t
/-- the law's own end, with 1 on the stack, nothing written that was there before, its room as the claim has it -/
theorem lw_ret {p : Program} {l : Launch} {e : Env} {s : State} {m : MethodId} {below : List Frame} {meth : Method} {c : Code} {b : Nat} (hx : p.tables.exec = Jvm.exec) (hb : c.code = code) (hr : meth.sig.returnType = ret) (hlocks : meth.locks = false) {pc : Nat} {H : Heap} {ls : Array Slot} (hdg : decode code pc = .ok (.ireturn, 1)) : W p l e room_1 s m #[Value.ref b] below meth c H [] 874973 6471184 (lw_Z below #[Value.ref b] s) (F0 m pc ls [.int 1]) := by
  intro T hT X
  obtain ⟨fs, hret, hrun, hended, hW, hframe⟩ := X.leave (v := some (.int 1)) (hlocks := hlocks) (fun h => by rw [hr] at h; cases h)
  have hmeth' : T.vm.method? m = some meth := X.method'
  refine ⟨T.setFrames fs, ?_, .returned (some (.int 1)), hrun, hended, rfl, ⟨_, rfl⟩, hW, hframe⟩
  jvm_step X.here [X.here.top, hx, hb, hdg, hmeth', hr, ret, narrow_b1]
  (try refine ⟨rfl, ?_⟩); (try refine ⟨rfl, ?_⟩)
  first | (intro acts; rw [hret _ acts rfl rfl rfl]) | rw [hret _ _ rfl rfl rfl]
  exact Steps.refl _
/-- what holds at the law's entry: the machine, the code, the tables' words (any of lw_tbl by 'hts w (by decide +kernel)'), the script of L ints xs at the cell b, what the Statement gives of the start (any of its parts by flat_of_before) -/
def lw_At (p : Program) (s : State) (m : MethodId) (meth : Method) (c : Code) (b L : Nat) (xs : Nat → Int32) : Prop :=
  p.tables.exec = Jvm.exec ∧ c.code = code ∧ meth.sig.returnType = ret ∧ c.maxLocals = 4 ∧ s.vm.findClass R_law = some m.cls ∧ (∀ w ∈ lw_tbl, w.before #[Value.ref b] s = true) ∧ va_X b L xs s s.heap ∧ b < s.heap.size ∧ meth.locks = false ∧ (Jvm.Cond.and given_1 narrow_1).before #[Value.ref b] s = true
def RL : String := "TurnedBoardsLaw"
def LawAt (G : GT) (X : CX) (h0 : AH) : Prop := X.2.2.2.1 = room_1 ∧ (∃ b, X.2.2.2.2.2.2.1 = #[Value.ref b]) ∧ X.2.2.2.2.1.heap.size ≤ g_B G ∧ hn h0 = NC ∧ hs h0 = 0
theorem v_lawret {G : GT} {X : CX} {d : Nat} {h0 h : AH} {Q : State → Prop} {pc : Nat} {lv : List (Nat × AV)} (ok : Ok G X RL cL_law 4 d h0) (hr : (cxm X).sig.returnType = some .boolean) (hb : LawAt G X h0) (hQ : Q = lw_Z X.2.2.2.2.2.2.2.1 X.2.2.2.2.2.2.1 X.2.2.2.2.1) (hd : decode cL_law pc = .ok (.ireturn, 1)) : V G X 4 h0 Q h pc lv [vi 1] := by
  intro H locs ls A b c e
  subst hQ
  obtain ⟨p, l, e0, R, s, m, args, below, meth, cd⟩ := X
  obtain ⟨hR, ⟨b0, hargs⟩, hB, hn0, hs0⟩ := hb
  dsimp only at hR hargs hB
  subst hR; subst hargs
  have h1 := A.2.1
  refine va_forget (fun q hq => Nat.le_trans hB (c q hq)) ?_
  refine W.widen (k := 874973) (n := 6471184) (by rw [hn0]; have : CMX = 875101 := rfl; have : NC = 128 := rfl; omega) (by rw [hs0]; have : SMX = 6471184 := rfl; omega) ?_
  exact lw_ret ok.1 ok.2.1 hr ok.2.2.2.2.2.1 hd
noncomputable def L_law_18b (va : VaT) (th : ThT) (pa : PaT) (pf : PaT) (x0 : Option Nat) (x1 : Option Nat) (x2 : Option Nat) (x3 : Int32) (h : AH) : Option ((Int32 × AH) ⊕ (Int32 × AH)) :=
(aln x0 h).bind fun v1 =>
if (v1 - 6) < x3 then (some (.inr ((1, h)))) else ((xI 100 x0 x3 h).bind fun v2 =>
if (v2 &&& 63) = 0 then ((xI 100 x0 (x3 + 1) h).bind fun v4 =>
(xI 100 x0 (x3 + 2) h).bind fun v5 =>
(xI 100 x0 (x3 + 3) h).bind fun v6 =>
(xI 100 x0 (x3 + 4) h).bind fun v7 =>
(xI 100 x0 (x3 + 5) h).bind fun v8 =>
(isO 0 x1 h).bind fun a => b2 (X0_feed a v4 v5 v6 v7 v8 h) fun v9 h10 =>
(xI 100 x0 (x3 + 1) h10).bind fun v11 =>
(xI 100 x0 (x3 + 2) h10).bind fun v12 =>
(xI 100 x0 (x3 + 3) h10).bind fun v13 =>
(xI 100 x0 (x3 + 4) h10).bind fun v14 =>
(xI 100 x0 (x3 + 5) h10).bind fun v15 =>
(isO 7 x2 h10).bind fun a => b2 (X7_feed a v11 v12 v13 v14 v15 h10) fun v16 h17 =>
if v9 = v16 then (some (.inl ((x3 + 6), h17))) else (some (.inr ((0, h17))))) else (if (v2 &&& 63) = 1 then ((xI 100 x0 (x3 + 1) h).bind fun v19 =>
(isO 0 x1 h).bind fun a => b2 (X0_end a v19 h) fun v20 h21 =>
(xI 100 x0 (x3 + 1) h21).bind fun v22 =>
(isO 7 x2 h21).bind fun a => b2 (X7_end a v22 h21) fun v23 h24 =>
if v20 = v23 then (some (.inl ((x3 + 6), h24))) else (some (.inr ((0, h24))))) else (if (v2 &&& 63) = 2 then ((isO 0 x1 h).bind fun a => b2 (X0_shop pa pf a h) fun v26 h27 =>
(isO 7 x2 h27).bind fun a => b2 (X7_shop a h27) fun v28 h29 =>
if v26 = v28 then (some (.inl ((x3 + 6), h29))) else (some (.inr ((0, h29))))) else (if (v2 &&& 63) = 3 then ((xI 100 x0 (x3 + 1) h).bind fun v31 =>
(isO 0 x1 h).bind fun a => b2 (X0_fault a v31 h) fun v32 h33 =>
(xI 100 x0 (x3 + 1) h33).bind fun v34 =>
(isO 7 x2 h33).bind fun a => b2 (X7_fault a v34 h33) fun v35 h36 =>
if v32 = v35 then (some (.inl ((x3 + 6), h36))) else (some (.inr ((0, h36))))) else (if (v2 &&& 63) = 4 then ((xI 100 x0 (x3 + 1) h).bind fun v38 =>
(isO 0 x1 h).bind fun a => b2 (X0_has_2 a v38 h) fun v39 h40 =>
(xI 100 x0 (x3 + 1) h40).bind fun v41 =>
(isO 7 x2 h40).bind fun a => b2 (X7_has a v41 h40) fun v42 h43 =>
if v39 = v42 then (some (.inl ((x3 + 6), h43))) else (some (.inr ((0, h43))))) else (if (v2 &&& 63) = 5 then ((xI 100 x0 (x3 + 1) h).bind fun v45 =>
(xI 100 x0 (x3 + 2) h).bind fun v46 =>
(xI 100 x0 (x3 + 3) h).bind fun v47 =>
(isO 0 x1 h).bind fun a => b2 (X0_letter a v45 v46 v47 h) fun v48 h49 =>
(xI 100 x0 (x3 + 1) h49).bind fun v50 =>
(xI 100 x0 (x3 + 2) h49).bind fun v51 =>
(xI 100 x0 (x3 + 3) h49).bind fun v52 =>
(isO 7 x2 h49).bind fun a => b2 (X7_letter a v50 v51 v52 h49) fun v53 h54 =>
if v48 = v53 then (some (.inl ((x3 + 6), h54))) else (some (.inr ((0, h54))))) else (if (v2 &&& 63) = 6 then ((xI 100 x0 (x3 + 1) h).bind fun v56 =>
(xI 100 x0 (x3 + 2) h).bind fun v57 =>
(isO 0 x1 h).bind fun a => b2 (X0_word a v56 v57 h) fun v58 h59 =>
(xI 100 x0 (x3 + 1) h59).bind fun v60 =>
(xI 100 x0 (x3 + 2) h59).bind fun v61 =>
(isO 7 x2 h59).bind fun a => b2 (X7_word a v60 v61 h59) fun v62 h63 =>
if v58 = v62 then (some (.inl ((x3 + 6), h63))) else (some (.inr ((0, h63))))) else (if (v2 &&& 63) = 7 then ((xI 100 x0 (x3 + 1) h).bind fun v65 =>
(xI 100 x0 (x3 + 2) h).bind fun v66 =>
(isO 0 x1 h).bind fun a => b2 (X0_board a v65 v66 h) fun v67 h68 =>
(xI 100 x0 (x3 + 1) h68).bind fun v69 =>
(xI 100 x0 (x3 + 2) h68).bind fun v70 =>
(isO 7 x2 h68).bind fun a => b2 (X7_board a v69 v70 h68) fun v71 h72 =>
if v67 = v71 then (some (.inl ((x3 + 6), h72))) else (some (.inr ((0, h72))))) else (if (v2 &&& 63) = 8 then ((xI 100 x0 (x3 + 1) h).bind fun v74 =>
(xI 100 x0 (x3 + 2) h).bind fun v75 =>
(isO 0 x1 h).bind fun a => b2 (X0_glyph a v74 v75 h) fun v76 h77 =>
(xI 100 x0 (x3 + 1) h77).bind fun v78 =>
(xI 100 x0 (x3 + 2) h77).bind fun v79 =>
(isO 7 x2 h77).bind fun a => b2 (X7_glyph a v78 v79 h77) fun v80 h81 =>
if v76 = v80 then (some (.inl ((x3 + 6), h81))) else (some (.inr ((0, h81))))) else (if (v2 &&& 63) = 9 then ((xI 100 x0 (x3 + 1) h).bind fun v83 =>
(xI 100 x0 (x3 + 2) h).bind fun v84 =>
(isO 0 x1 h).bind fun a => b2 (X0_kept a v83 v84 h) fun v85 h86 =>
(xI 100 x0 (x3 + 1) h86).bind fun v87 =>
(xI 100 x0 (x3 + 2) h86).bind fun v88 =>
(isO 7 x2 h86).bind fun a => b2 (X7_kept a v87 v88 h86) fun v89 h90 =>
if v85 = v89 then (some (.inl ((x3 + 6), h90))) else (some (.inr ((0, h90))))) else (if (v2 &&& 63) = 10 then ((xI 100 x0 (x3 + 1) h).bind fun v92 =>
(xI 100 x0 (x3 + 2) h).bind fun v93 =>
(isO 0 x1 h).bind fun a => b2 (X0_seen a v92 v93 h) fun v94 h95 =>
(xI 100 x0 (x3 + 1) h95).bind fun v96 =>
(xI 100 x0 (x3 + 2) h95).bind fun v97 =>
(isO 7 x2 h95).bind fun a => b2 (X7_seen a v96 v97 h95) fun v98 h99 =>
if v94 = v98 then (some (.inl ((x3 + 6), h99))) else (some (.inr ((0, h99))))) else (if (v2 &&& 63) = 11 then ((xI 100 x0 (x3 + 1) h).bind fun v101 =>
(xI 100 x0 (x3 + 2) h).bind fun v102 =>
(xI 100 x0 (x3 + 3) h).bind fun v103 =>
(isO 0 x1 h).bind fun a => b2 (X0_doubt va a v101 v102 v103 h) fun v104 h105 =>
(xI 100 x0 (x3 + 1) h105).bind fun v106 =>
(xI 100 x0 (x3 + 2) h105).bind fun v107 =>
(xI 100 x0 (x3 + 3) h105).bind fun v108 =>
(isO 7 x2 h105).bind fun a => b2 (X7_doubt a v106 v107 v108 h105) fun v109 h110 =>
if (lg_cmp v104 v109) = 0 then (some (.inl ((x3 + 6), h110))) else (some (.inr ((0, h110))))) else (if (v2 &&& 63) = 12 then ((xI 100 x0 (x3 + 1) h).bind fun v112 =>
(xI 100 x0 (x3 + 2) h).bind fun v113 =>
(xI 100 x0 (x3 + 3) h).bind fun v114 =>
(isO 0 x1 h).bind fun a => b2 (X0_reads va a v112 v113 v114 h) fun v115 h116 =>
(xI 100 x0 (x3 + 1) h116).bind fun v117 =>
(xI 100 x0 (x3 + 2) h116).bind fun v118 =>
(xI 100 x0 (x3 + 3) h116).bind fun v119 =>
(isO 7 x2 h116).bind fun a => b2 (X7_reads a v117 v118 v119 h116) fun v120 h121 =>
if v115 = v120 then (some (.inl ((x3 + 6), h121))) else (some (.inr ((0, h121))))) else (if (v2 &&& 63) = 13 then ((xI 100 x0 (x3 + 1) h).bind fun v123 =>
(xI 100 x0 (x3 + 2) h).bind fun v124 =>
(xI 100 x0 (x3 + 3) h).bind fun v125 =>
(xI 100 x0 (x3 + 4) h).bind fun v126 =>
(isO 0 x1 h).bind fun a => b2 (X0_says va th a v123 v124 v125 v126 h) fun v127 h128 =>
(xI 100 x0 (x3 + 1) h128).bind fun v129 =>
(xI 100 x0 (x3 + 2) h128).bind fun v130 =>
(xI 100 x0 (x3 + 3) h128).bind fun v131 =>
(xI 100 x0 (x3 + 4) h128).bind fun v132 =>
(isO 7 x2 h128).bind fun a => b2 (X7_says a v129 v130 v131 v132 h128) fun v133 h134 =>
if v127 = v133 then (some (.inl ((x3 + 6), h134))) else (some (.inr ((0, h134))))) else (if (v2 &&& 63) = 14 then ((xI 100 x0 (x3 + 1) h).bind fun v136 =>
(xI 100 x0 (x3 + 2) h).bind fun v137 =>
(xI 100 x0 (x3 + 3) h).bind fun v138 =>
(isO 0 x1 h).bind fun a => b2 (X0_becomes va a v136 v137 v138 h) fun v139 h140 =>
(xI 100 x0 (x3 + 1) h140).bind fun v141 =>
(xI 100 x0 (x3 + 2) h140).bind fun v142 =>
(xI 100 x0 (x3 + 3) h140).bind fun v143 =>
(isO 7 x2 h140).bind fun a => b2 (X7_becomes a v141 v142 v143 h140) fun v144 h145 =>
if v139 = v144 then (some (.inl ((x3 + 6), h145))) else (some (.inr ((0, h145))))) else (if (v2 &&& 63) = 15 then ((xI 100 x0 (x3 + 1) h).bind fun v147 =>
(xI 100 x0 (x3 + 2) h).bind fun v148 =>
(xI 100 x0 (x3 + 3) h).bind fun v149 =>
(xI 100 x0 (x3 + 4) h).bind fun v150 =>
(isO 0 x1 h).bind fun a => b2 (X0_line va a v147 v148 v149 v150 h) fun v151 h152 =>
(xI 100 x0 (x3 + 1) h152).bind fun v153 =>
(xI 100 x0 (x3 + 2) h152).bind fun v154 =>
(xI 100 x0 (x3 + 3) h152).bind fun v155 =>
(xI 100 x0 (x3 + 4) h152).bind fun v156 =>
(isO 7 x2 h152).bind fun a => b2 (X7_line a v153 v154 v155 v156 h152) fun v157 h158 =>
if v151 = v157 then (some (.inl ((x3 + 6), h158))) else (some (.inr ((0, h158))))) else (if (v2 &&& 63) = 16 then ((xI 100 x0 (x3 + 1) h).bind fun v160 =>
(xI 100 x0 (x3 + 2) h).bind fun v161 =>
(xI 100 x0 (x3 + 3) h).bind fun v162 =>
(xI 100 x0 (x3 + 4) h).bind fun v163 =>
(xI 100 x0 (x3 + 5) h).bind fun v164 =>
(isO 0 x1 h).bind fun a => b2 (X0_piece va a v160 v161 v162 v163 v164 h) fun v165 h166 =>
(xI 100 x0 (x3 + 1) h166).bind fun v167 =>
(xI 100 x0 (x3 + 2) h166).bind fun v168 =>
(xI 100 x0 (x3 + 3) h166).bind fun v169 =>
(xI 100 x0 (x3 + 4) h166).bind fun v170 =>
(xI 100 x0 (x3 + 5) h166).bind fun v171 =>
(isO 7 x2 h166).bind fun a => b2 (X7_piece a v167 v168 v169 v170 v171 h166) fun v172 h173 =>
if v165 = v172 then (some (.inl ((x3 + 6), h173))) else (some (.inr ((0, h173))))) else (if (v2 &&& 63) = 17 then ((xI 100 x0 (x3 + 1) h).bind fun v175 =>
(isO 0 x1 h).bind fun a => b2 (X0_best va a v175 h) fun v176 h177 =>
(xI 100 x0 (x3 + 1) h177).bind fun v178 =>
(isO 7 x2 h177).bind fun a => b2 (X7_best a v178 h177) fun v179 h180 =>
if v176 = v179 then (some (.inl ((x3 + 6), h180))) else (some (.inr ((0, h180))))) else (if (v2 &&& 63) = 18 then ((xI 100 x0 (x3 + 1) h).bind fun v182 =>
(xI 100 x0 (x3 + 2) h).bind fun v183 =>
(isO 0 x1 h).bind fun a => b2 (X0_hand va a v182 v183 h) fun v184 h185 =>
(xI 100 x0 (x3 + 1) h185).bind fun v186 =>
(xI 100 x0 (x3 + 2) h185).bind fun v187 =>
(isO 7 x2 h185).bind fun a => b2 (X7_hand a v186 v187 h185) fun v188 h189 =>
if v184 = v188 then (some (.inl ((x3 + 6), h189))) else (some (.inr ((0, h189))))) else (if (v2 &&& 63) = 19 then ((xI 100 x0 (x3 + 1) h).bind fun v191 =>
(isO 0 x1 h).bind fun a => b2 (X0_been a v191 h) fun v192 h193 =>
(xI 100 x0 (x3 + 1) h193).bind fun v194 =>
(isO 7 x2 h193).bind fun a => b2 (X7_been a v194 h193) fun v195 h196 =>
if v192 = v195 then (some (.inl ((x3 + 6), h196))) else (some (.inr ((0, h196))))) else (if (v2 &&& 63) = 20 then ((xI 100 x0 (x3 + 1) h).bind fun v198 =>
(isO 0 x1 h).bind fun a => b2 (X0_lasts va th a v198 h) fun v199 h200 =>
(xI 100 x0 (x3 + 1) h200).bind fun v201 =>
(isO 7 x2 h200).bind fun a => b2 (X7_lasts a v201 h200) fun v202 h203 =>
if v199 = v202 then (some (.inl ((x3 + 6), h203))) else (some (.inr ((0, h203))))) else (if (v2 &&& 63) = 21 then ((xI 100 x0 (x3 + 1) h).bind fun v205 =>
(xI 100 x0 (x3 + 2) h).bind fun v206 =>
(xI 100 x0 (x3 + 3) h).bind fun v207 =>
(isO 0 x1 h).bind fun a => b2 (X0_mend va a v205 v206 v207 h) fun v208 h209 =>
(xI 100 x0 (x3 + 1) h209).bind fun v210 =>
(xI 100 x0 (x3 + 2) h209).bind fun v211 =>
(xI 100 x0 (x3 + 3) h209).bind fun v212 =>
(isO 7 x2 h209).bind fun a => b2 (X7_mend a v210 v211 v212 h209) fun v213 h214 =>
if v208 = v213 then (some (.inl ((x3 + 6), h214))) else (some (.inr ((0, h214))))) else (if (v2 &&& 63) = 22 then ((xI 100 x0 (x3 + 1) h).bind fun v216 =>
(isO 0 x1 h).bind fun a => b2 (X0_years va th a v216 h) fun v217 h218 =>
(xI 100 x0 (x3 + 1) h218).bind fun v219 =>
(isO 7 x2 h218).bind fun a => b2 (X7_years a v219 h218) fun v220 h221 =>
if v217 = v220 then (some (.inl ((x3 + 6), h221))) else (some (.inr ((0, h221))))) else (if (v2 &&& 63) = 23 then ((xI 100 x0 (x3 + 1) h).bind fun v223 =>
(isO 0 x1 h).bind fun a => b2 (X0_chance va th a v223 h) fun v224 h225 =>
(xI 100 x0 (x3 + 1) h225).bind fun v226 =>
(isO 7 x2 h225).bind fun a => b2 (X7_chance a v226 h225) fun v227 h228 =>
if v224 = v227 then (some (.inl ((x3 + 6), h228))) else (some (.inr ((0, h228))))) else (if (v2 &&& 63) = 24 then ((xI 100 x0 (x3 + 1) h).bind fun v230 =>
(xI 100 x0 (x3 + 2) h).bind fun v231 =>
(xI 100 x0 (x3 + 3) h).bind fun v232 =>
(xI 100 x0 (x3 + 4) h).bind fun v233 =>
(isO 0 x1 h).bind fun a => b2 (X0_stroke a v230 v231 v232 v233 h) fun v234 h235 =>
(xI 100 x0 (x3 + 1) h235).bind fun v236 =>
(xI 100 x0 (x3 + 2) h235).bind fun v237 =>
(xI 100 x0 (x3 + 3) h235).bind fun v238 =>
(xI 100 x0 (x3 + 4) h235).bind fun v239 =>
(isO 7 x2 h235).bind fun a => b2 (X7_stroke a v236 v237 v238 v239 h235) fun v240 h241 =>
if v234 = v240 then (some (.inl ((x3 + 6), h241))) else (some (.inr ((0, h241))))) else (if (v2 &&& 63) = 25 then ((xI 100 x0 (x3 + 1) h).bind fun v243 =>
(xI 100 x0 (x3 + 2) h).bind fun v244 =>
(xI 100 x0 (x3 + 3) h).bind fun v245 =>
(isO 0 x1 h).bind fun a => b2 (X0_paint a v243 v244 v245 h) fun v246 h247 =>
(xI 100 x0 (x3 + 1) h247).bind fun v248 =>
(xI 100 x0 (x3 + 2) h247).bind fun v249 =>
(xI 100 x0 (x3 + 3) h247).bind fun v250 =>
(isO 7 x2 h247).bind fun a => b2 (X7_paint a v248 v249 v250 h247) fun v251 h252 =>
if v246 = v251 then (some (.inl ((x3 + 6), h252))) else (some (.inr ((0, h252))))) else (if (v2 &&& 63) = 26 then ((isO 0 x1 h).bind fun a => b2 (X0_undo a h) fun v254 h255 =>
(isO 7 x2 h255).bind fun a => b2 (X7_undo a h255) fun v256 h257 =>
if v254 = v256 then (some (.inl ((x3 + 6), h257))) else (some (.inr ((0, h257))))) else (if (v2 &&& 63) = 27 then ((xI 100 x0 (x3 + 1) h).bind fun v259 =>
(isO 0 x1 h).bind fun a => b2 (X0_seed a v259 h) fun v260 h261 =>
(xI 100 x0 (x3 + 1) h261).bind fun v262 =>
(isO 7 x2 h261).bind fun a => b2 (X7_seed a v262 h261) fun v263 h264 =>
if v260 = v263 then (some (.inl ((x3 + 6), h264))) else (some (.inr ((0, h264))))) else (if (v2 &&& 63) = 28 then ((isO 0 x1 h).bind fun a => b2 (X0_ask va th pa pf a h) fun v266 h267 =>
(isO 7 x2 h267).bind fun a => b2 (X7_ask a h267) fun v268 h269 =>
if (lg_cmp v266 v268) = 0 then (some (.inl ((x3 + 6), h269))) else (some (.inr ((0, h269))))) else (if (v2 &&& 63) = 29 then ((isO 0 x1 h).bind fun a => b2 (X0_image a h) fun v271 h272 =>
(isO 7 x2 h272).bind fun a => b2 (X7_image a h272) fun v273 h274 =>
if v271 = v273 then (some (.inl ((x3 + 6), h274))) else (some (.inr ((0, h274))))) else (if (v2 &&& 63) = 30 then ((xI 100 x0 (x3 + 1) h).bind fun v276 =>
(isO 0 x1 h).bind fun a => b2 (X0_octet a v276 h) fun v277 h278 =>
(xI 100 x0 (x3 + 1) h278).bind fun v279 =>
(isO 7 x2 h278).bind fun a => b2 (X7_octet a v279 h278) fun v280 h281 =>
if v277 = v280 then (some (.inl ((x3 + 6), h281))) else (some (.inr ((0, h281))))) else (if (v2 &&& 63) = 31 then ((isO 0 x1 h).bind fun a => b2 (X0_on a h) fun v283 h284 =>
(isO 7 x2 h284).bind fun a => b2 (X7_on a h284) fun v285 h286 =>
if v283 = v285 then (some (.inl ((x3 + 6), h286))) else (some (.inr ((0, h286))))) else (if (v2 &&& 63) = 32 then ((xI 100 x0 (x3 + 1) h).bind fun v288 =>
(isO 0 x1 h).bind fun a => b2 (X0_status a v288 h) fun v289 h290 =>
(xI 100 x0 (x3 + 1) h290).bind fun v291 =>
(isO 7 x2 h290).bind fun a => b2 (X7_status a v291 h290) fun v292 h293 =>
if v289 = v292 then (some (.inl ((x3 + 6), h293))) else (some (.inr ((0, h293))))) else (some (.inl ((x3 + 6), h))))))))))))))))))))))))))))))))))))
noncomputable def L_law_18 (va : VaT) (th : ThT) (pa : PaT) (pf : PaT) (x0 : Option Nat) (x1 : Option Nat) (x2 : Option Nat) (x3 : Int32) (h : AH) : Option (Int32 × AH) := loopC (fun s : Int32 × AH => L_law_18b va th pa pf x0 x1 x2 s.1 s.2) (x3, h)
noncomputable def L_law (va : VaT) (th : ThT) (pa : PaT) (pf : PaT) (x0 : Option Nat) (h : AH) : Option (Int32 × AH) :=
b2 (newO 0 18 h) fun v294 h295 =>
(nn v294).bind fun a => (X0_init a h295).bind fun h296 =>
b2 (newO 7 117 h296) fun v297 h298 =>
(nn v297).bind fun a => (X7_init a h298).bind fun h299 =>
L_law_18 va th pa pf x0 v294 v297 0 h299
def pkL_law_18 (G : GT) (X : CX) (h0 : AH) (Q : State → Prop) (x0 : Option Nat) (x1 : Option Nat) (x2 : Option Nat) (o : ((Int32 × AH) ⊕ (Int32 × AH))) : Prop := match o with
  | .inl s => ∀ lv : List (Nat × AV), lle lv [(0, vr x0), (1, vr x1), (2, vr x2), (3, vi s.1)] → V G X 4 h0 Q s.2 18 lv []
  | .inr z => z.1 = 1 ∧ Q = lw_Z X.2.2.2.2.2.2.2.1 X.2.2.2.2.2.2.1 X.2.2.2.2.1
theorem W_L_law_18b {G : GT} {X : CX} {d : Nat} {h0 : AH} {Q : State → Prop} (ok : Ok G X RL cL_law 4 d h0) (hr : (cxm X).sig.returnType = (Option.some Jvm.ClassFile.FieldType.boolean)) {va : VaT} {th : ThT} {pa : PaT} {pf : PaT} {e : Nat} (hva : DVA G X.2.1 e va) (hth : DTH G X.2.1 e th) (hpa : DPA G X.2.1 e pa) (hpf : DPF G X.2.1 e pf) (hd : e + 16 ≤ d) (hb : LawAt G X h0) {x0 : Option Nat} {x1 : Option Nat} {x2 : Option Nat} {x3 : Int32} {h : AH} {z : ((Int32 × AH) ⊕ (Int32 × AH))} (hf : L_law_18b  va th pa pf x0 x1 x2 x3 h = some z) (hk : pkL_law_18 G X h0 Q x0 x1 x2 z) {lv : List (Nat × AV)} (hl : lle lv [(0, vr x0), (1, vr x1), (2, vr x2), (3, vi x3)]) : V G X 4 h0 Q h 18 lv [] := by
  refine V.sub hl ?_
  unfold L_law_18b at hf
  refine v_iload_n ok 3 dL_law_18 rfl rfl ?_
  refine v_aload_n ok 0 dL_law_19 rfl rfl ?_
  refine v_alen ok dL_law_20 hf (fun v1 hf => ?_)
  refine v_bipush ok 6 dL_law_21 rfl ?_
  refine v_isub ok dL_law_23 ?_
  refine v_icmp_gt ok 1247 dL_law_24 rfl hf (fun hf => ?_) (fun hf => ?_)
  ·
    refine v_iconst ok 1 dL_law_1247 rfl ?_
    cases hf; exact v_lawret ok hr hb hk.2 dL_law_1248
  ·
    refine v_aload_n ok 0 dL_law_27 rfl rfl ?_
    refine v_iload_n ok 3 dL_law_28 rfl rfl ?_
    refine v_iald ok rfl dL_law_29 hf (fun v2 hf => ?_)
    refine v_bipush ok 63 dL_law_30 rfl ?_
    refine v_iand ok dL_law_32 ?_
    refine sw_if (v := 0) hf (fun e_ hf => ?_) (fun n3 hf => ?_)
    ·
      refine v_tableIn ok 0 180 dL_law_33 e_ (by decide) (by decide) rfl rfl ?_
      refine v_aload_n ok 1 dL_law_180 rfl rfl ?_
      refine v_aload_n ok 0 dL_law_181 rfl rfl ?_
      refine v_iload_n ok 3 dL_law_182 rfl rfl ?_
      refine v_iconst ok 1 dL_law_183 rfl ?_
      refine v_iadd ok dL_law_184 ?_
      refine v_iald ok rfl dL_law_185 hf (fun v4 hf => ?_)
      refine v_aload_n ok 0 dL_law_186 rfl rfl ?_
      refine v_iload_n ok 3 dL_law_187 rfl rfl ?_
      refine v_iconst ok 2 dL_law_188 rfl ?_
      refine v_iadd ok dL_law_189 ?_
      refine v_iald ok rfl dL_law_190 hf (fun v5 hf => ?_)
      refine v_aload_n ok 0 dL_law_191 rfl rfl ?_
      refine v_iload_n ok 3 dL_law_192 rfl rfl ?_
      refine v_iconst ok 3 dL_law_193 rfl ?_
      refine v_iadd ok dL_law_194 ?_
      refine v_iald ok rfl dL_law_195 hf (fun v6 hf => ?_)
      refine v_aload_n ok 0 dL_law_196 rfl rfl ?_
      refine v_iload_n ok 3 dL_law_197 rfl rfl ?_
      refine v_iconst ok 4 dL_law_198 rfl ?_
      refine v_iadd ok dL_law_199 ?_
      refine v_iald ok rfl dL_law_200 hf (fun v7 hf => ?_)
      refine v_aload_n ok 0 dL_law_201 rfl rfl ?_
      refine v_iload_n ok 3 dL_law_202 rfl rfl ?_
      refine v_iconst ok 5 dL_law_203 rfl ?_
      refine v_iadd ok dL_law_204 ?_
      refine v_iald ok rfl dL_law_205 hf (fun v8 hf => ?_)
      refine v_cVi ok (RX0, TX0, 18) cf_0.1 [vi v4, vi v5, vi v6, vi v7, vi v8] (F := fun a => X0_feed a v4 v5 v6 v7 v8 h) (fun a v h1 _ hv => M_X0_feed ok.2.2.2.2.2.2.1 (d := 2) (Nat.le_refl _) hv) (by omega) cw_X0_feed q641 q642 q643 dL_law_206 [] rfl (Nat.le_of_ble_eq_true rfl) hf (fun v9 h10 hf => ?_)
      refine v_aload_n ok 2 dL_law_209 rfl rfl ?_
      refine v_aload_n ok 0 dL_law_210 rfl rfl ?_
      refine v_iload_n ok 3 dL_law_211 rfl rfl ?_
      refine v_iconst ok 1 dL_law_212 rfl ?_
      refine v_iadd ok dL_law_213 ?_
      refine v_iald ok rfl dL_law_214 hf (fun v11 hf => ?_)
      refine v_aload_n ok 0 dL_law_215 rfl rfl ?_
      refine v_iload_n ok 3 dL_law_216 rfl rfl ?_
      refine v_iconst ok 2 dL_law_217 rfl ?_
      refine v_iadd ok dL_law_218 ?_
      refine v_iald ok rfl dL_law_219 hf (fun v12 hf => ?_)
      refine v_aload_n ok 0 dL_law_220 rfl rfl ?_
      refine v_iload_n ok 3 dL_law_221 rfl rfl ?_
      refine v_iconst ok 3 dL_law_222 rfl ?_
      refine v_iadd ok dL_law_223 ?_
      refine v_iald ok rfl dL_law_224 hf (fun v13 hf => ?_)
      refine v_aload_n ok 0 dL_law_225 rfl rfl ?_
      refine v_iload_n ok 3 dL_law_226 rfl rfl ?_
      refine v_iconst ok 4 dL_law_227 rfl ?_
      refine v_iadd ok dL_law_228 ?_
      refine v_iald ok rfl dL_law_229 hf (fun v14 hf => ?_)
      refine v_aload_n ok 0 dL_law_230 rfl rfl ?_
      refine v_iload_n ok 3 dL_law_231 rfl rfl ?_
      refine v_iconst ok 5 dL_law_232 rfl ?_
      refine v_iadd ok dL_law_233 ?_
      refine v_iald ok rfl dL_law_234 hf (fun v15 hf => ?_)
      refine v_cVi ok (RX7, TX7, 117) cf_7.1 [vi v11, vi v12, vi v13, vi v14, vi v15] (F := fun a => X7_feed a v11 v12 v13 v14 v15 h10) (fun a v h1 _ hv => M_X7_feed ok.2.2.2.2.2.2.1 (d := 1) (Nat.le_refl _) hv) (by omega) cw_X7_feed q2157 q2158 q2159 dL_law_235 [vi v9] rfl (Nat.le_of_ble_eq_true rfl) hf (fun v16 h17 hf => ?_)
      refine v_icmp_eq ok 1241 dL_law_238 rfl hf (fun hf => ?_) (fun hf => ?_)
      ·
        refine v_iinc ok x3 (x3 + 6) dL_law_1241 rfl rfl (by decide) ?_
        refine v_goto ok 18 dL_law_1244 rfl ?_
        cases hf; exact hk _ ⟨rfl, rfl, rfl, rfl, trivial⟩
      ·
        refine v_iconst ok 0 dL_law_241 rfl ?_
        cases hf; exact absurd (show (0 : Int32) = 1 from hk.1) (by decide)
    ·
      refine sw_if (v := 1) hf (fun e_ hf => ?_) (fun n18 hf => ?_)
      ·
        refine v_tableIn ok 1 243 dL_law_33 e_ (by decide) (by decide) rfl rfl ?_
        refine v_aload_n ok 1 dL_law_243 rfl rfl ?_
        refine v_aload_n ok 0 dL_law_244 rfl rfl ?_
        refine v_iload_n ok 3 dL_law_245 rfl rfl ?_
        refine v_iconst ok 1 dL_law_246 rfl ?_
        refine v_iadd ok dL_law_247 ?_
        refine v_iald ok rfl dL_law_248 hf (fun v19 hf => ?_)
        refine v_cVi ok (RX0, TX0, 18) cf_0.1 [vi v19] (F := fun a => X0_end a v19 h) (fun a v h1 _ hv => M_X0_end ok.2.2.2.2.2.2.1 (d := 2) (Nat.le_refl _) hv) (by omega) cw_X0_end q653 q654 q655 dL_law_249 [] rfl (Nat.le_of_ble_eq_true rfl) hf (fun v20 h21 hf => ?_)
        refine v_aload_n ok 2 dL_law_252 rfl rfl ?_
        refine v_aload_n ok 0 dL_law_253 rfl rfl ?_
        refine v_iload_n ok 3 dL_law_254 rfl rfl ?_
        refine v_iconst ok 1 dL_law_255 rfl ?_
        refine v_iadd ok dL_law_256 ?_
        refine v_iald ok rfl dL_law_257 hf (fun v22 hf => ?_)
        refine v_cVi ok (RX7, TX7, 117) cf_7.1 [vi v22] (F := fun a => X7_end a v22 h21) (fun a v h1 _ hv => M_X7_end ok.2.2.2.2.2.2.1 (d := 1) (Nat.le_refl _) hv) (by omega) cw_X7_end q2161 q2162 q2163 dL_law_258 [vi v20] rfl (Nat.le_of_ble_eq_true rfl) hf (fun v23 h24 hf => ?_)
        refine v_icmp_eq ok 1241 dL_law_261 rfl hf (fun hf => ?_) (fun hf => ?_)
        ·
          refine v_iinc ok x3 (x3 + 6) dL_law_1241 rfl rfl (by decide) ?_
          refine v_goto ok 18 dL_law_1244 rfl ?_
          cases hf; exact hk _ ⟨rfl, rfl, rfl, rfl, trivial⟩
        ·
          refine v_iconst ok 0 dL_law_264 rfl ?_
          cases hf; exact absurd (show (0 : Int32) = 1 from hk.1) (by decide)
      ·
        refine sw_if (v := 2) hf (fun e_ hf => ?_) (fun n25 hf => ?_)
        ·
          refine v_tableIn ok 2 266 dL_law_33 e_ (by decide) (by decide) rfl rfl ?_
          refine v_aload_n ok 1 dL_law_266 rfl rfl ?_
          refine v_cWi ok (RX0, TX0, 18) cf_0.1 [] (F := fun a => X0_shop pa pf a h) (fun a v h1 _ hv => M_X0_shop ok.2.2.2.2.2.2.1 hpa hpf (d := e + 15) (Nat.le_refl _) hv) (by omega) cw_X0_shop q657 q658 q659 dL_law_267 [] rfl (Nat.le_of_ble_eq_true rfl) hf (fun v26 h27 hf => ?_)
          refine v_aload_n ok 2 dL_law_270 rfl rfl ?_
          refine v_cVi ok (RX7, TX7, 117) cf_7.1 [] (F := fun a => X7_shop a h27) (fun a v h1 _ hv => M_X7_shop ok.2.2.2.2.2.2.1 (d := 12) (Nat.le_refl _) hv) (by omega) cw_X7_shop q2165 q2166 q2167 dL_law_271 [vi v26] rfl (Nat.le_of_ble_eq_true rfl) hf (fun v28 h29 hf => ?_)
          refine v_icmp_eq ok 1241 dL_law_274 rfl hf (fun hf => ?_) (fun hf => ?_)
          ·
            refine v_iinc ok x3 (x3 + 6) dL_law_1241 rfl rfl (by decide) ?_
            refine v_goto ok 18 dL_law_1244 rfl ?_
            cases hf; exact hk _ ⟨rfl, rfl, rfl, rfl, trivial⟩
          ·
            refine v_iconst ok 0 dL_law_277 rfl ?_
            cases hf; exact absurd (show (0 : Int32) = 1 from hk.1) (by decide)
        ·
          refine sw_if (v := 3) hf (fun e_ hf => ?_) (fun n30 hf => ?_)
          ·
            refine v_tableIn ok 3 279 dL_law_33 e_ (by decide) (by decide) rfl rfl ?_
            refine v_aload_n ok 1 dL_law_279 rfl rfl ?_
            refine v_aload_n ok 0 dL_law_280 rfl rfl ?_
            refine v_iload_n ok 3 dL_law_281 rfl rfl ?_
            refine v_iconst ok 1 dL_law_282 rfl ?_
            refine v_iadd ok dL_law_283 ?_
            refine v_iald ok rfl dL_law_284 hf (fun v31 hf => ?_)
            refine v_cVi ok (RX0, TX0, 18) cf_0.1 [vi v31] (F := fun a => X0_fault a v31 h) (fun a v h1 _ hv => M_X0_fault ok.2.2.2.2.2.2.1 (d := 1) (Nat.le_refl _) hv) (by omega) cw_X0_fault q1314 q1315 q1316 dL_law_285 [] rfl (Nat.le_of_ble_eq_true rfl) hf (fun v32 h33 hf => ?_)
            refine v_aload_n ok 2 dL_law_288 rfl rfl ?_
            refine v_aload_n ok 0 dL_law_289 rfl rfl ?_
            refine v_iload_n ok 3 dL_law_290 rfl rfl ?_
            refine v_iconst ok 1 dL_law_291 rfl ?_
            refine v_iadd ok dL_law_292 ?_
            refine v_iald ok rfl dL_law_293 hf (fun v34 hf => ?_)
            refine v_cVi ok (RX7, TX7, 117) cf_7.1 [vi v34] (F := fun a => X7_fault a v34 h33) (fun a v h1 _ hv => M_X7_fault ok.2.2.2.2.2.2.1 (d := 1) (Nat.le_refl _) hv) (by omega) cw_X7_fault q2357 q2358 q2359 dL_law_294 [vi v32] rfl (Nat.le_of_ble_eq_true rfl) hf (fun v35 h36 hf => ?_)
            refine v_icmp_eq ok 1241 dL_law_297 rfl hf (fun hf => ?_) (fun hf => ?_)
            ·
              refine v_iinc ok x3 (x3 + 6) dL_law_1241 rfl rfl (by decide) ?_
              refine v_goto ok 18 dL_law_1244 rfl ?_
              cases hf; exact hk _ ⟨rfl, rfl, rfl, rfl, trivial⟩
            ·
              refine v_iconst ok 0 dL_law_300 rfl ?_
              cases hf; exact absurd (show (0 : Int32) = 1 from hk.1) (by decide)
          ·
            refine sw_if (v := 4) hf (fun e_ hf => ?_) (fun n37 hf => ?_)
            ·
              refine v_tableIn ok 4 302 dL_law_33 e_ (by decide) (by decide) rfl rfl ?_
              refine v_aload_n ok 1 dL_law_302 rfl rfl ?_
              refine v_aload_n ok 0 dL_law_303 rfl rfl ?_
              refine v_iload_n ok 3 dL_law_304 rfl rfl ?_
              refine v_iconst ok 1 dL_law_305 rfl ?_
              refine v_iadd ok dL_law_306 ?_
              refine v_iald ok rfl dL_law_307 hf (fun v38 hf => ?_)
              refine v_cVi ok (RX0, TX0, 18) cf_0.1 [vi v38] (F := fun a => X0_has_2 a v38 h) (fun a v h1 _ hv => M_X0_has_2 ok.2.2.2.2.2.2.1 (d := 5) (Nat.le_refl _) hv) (by omega) cw_X0_has_2 q1318 q1319 q1320 dL_law_308 [] rfl (Nat.le_of_ble_eq_true rfl) hf (fun v39 h40 hf => ?_)
              refine v_aload_n ok 2 dL_law_311 rfl rfl ?_
              refine v_aload_n ok 0 dL_law_312 rfl rfl ?_
              refine v_iload_n ok 3 dL_law_313 rfl rfl ?_
              refine v_iconst ok 1 dL_law_314 rfl ?_
              refine v_iadd ok dL_law_315 ?_
              refine v_iald ok rfl dL_law_316 hf (fun v41 hf => ?_)
              refine v_cVi ok (RX7, TX7, 117) cf_7.1 [vi v41] (F := fun a => X7_has a v41 h40) (fun a v h1 _ hv => M_X7_has ok.2.2.2.2.2.2.1 (d := 3) (Nat.le_refl _) hv) (by omega) cw_X7_has q2361 q2362 q2363 dL_law_317 [vi v39] rfl (Nat.le_of_ble_eq_true rfl) hf (fun v42 h43 hf => ?_)
              refine v_icmp_eq ok 1241 dL_law_320 rfl hf (fun hf => ?_) (fun hf => ?_)
              ·
                refine v_iinc ok x3 (x3 + 6) dL_law_1241 rfl rfl (by decide) ?_
                refine v_goto ok 18 dL_law_1244 rfl ?_
                cases hf; exact hk _ ⟨rfl, rfl, rfl, rfl, trivial⟩
              ·
                refine v_iconst ok 0 dL_law_323 rfl ?_
                cases hf; exact absurd (show (0 : Int32) = 1 from hk.1) (by decide)
            ·
              refine sw_if (v := 5) hf (fun e_ hf => ?_) (fun n44 hf => ?_)
              ·
                refine v_tableIn ok 5 325 dL_law_33 e_ (by decide) (by decide) rfl rfl ?_
                refine v_aload_n ok 1 dL_law_325 rfl rfl ?_
                refine v_aload_n ok 0 dL_law_326 rfl rfl ?_
                refine v_iload_n ok 3 dL_law_327 rfl rfl ?_
                refine v_iconst ok 1 dL_law_328 rfl ?_
                refine v_iadd ok dL_law_329 ?_
                refine v_iald ok rfl dL_law_330 hf (fun v45 hf => ?_)
                refine v_aload_n ok 0 dL_law_331 rfl rfl ?_
                refine v_iload_n ok 3 dL_law_332 rfl rfl ?_
                refine v_iconst ok 2 dL_law_333 rfl ?_
                refine v_iadd ok dL_law_334 ?_
                refine v_iald ok rfl dL_law_335 hf (fun v46 hf => ?_)
                refine v_aload_n ok 0 dL_law_336 rfl rfl ?_
                refine v_iload_n ok 3 dL_law_337 rfl rfl ?_
                refine v_iconst ok 3 dL_law_338 rfl ?_
                refine v_iadd ok dL_law_339 ?_
                refine v_iald ok rfl dL_law_340 hf (fun v47 hf => ?_)
                refine v_cVi ok (RX0, TX0, 18) cf_0.1 [vi v45, vi v46, vi v47] (F := fun a => X0_letter a v45 v46 v47 h) (fun a v h1 _ hv => M_X0_letter ok.2.2.2.2.2.2.1 (d := 6) (Nat.le_refl _) hv) (by omega) cw_X0_letter q1344 q1345 q1346 dL_law_341 [] rfl (Nat.le_of_ble_eq_true rfl) hf (fun v48 h49 hf => ?_)
                refine v_aload_n ok 2 dL_law_344 rfl rfl ?_
                refine v_aload_n ok 0 dL_law_345 rfl rfl ?_
                refine v_iload_n ok 3 dL_law_346 rfl rfl ?_
                refine v_iconst ok 1 dL_law_347 rfl ?_
                refine v_iadd ok dL_law_348 ?_
                refine v_iald ok rfl dL_law_349 hf (fun v50 hf => ?_)
                refine v_aload_n ok 0 dL_law_350 rfl rfl ?_
                refine v_iload_n ok 3 dL_law_351 rfl rfl ?_
                refine v_iconst ok 2 dL_law_352 rfl ?_
                refine v_iadd ok dL_law_353 ?_
                refine v_iald ok rfl dL_law_354 hf (fun v51 hf => ?_)
                refine v_aload_n ok 0 dL_law_355 rfl rfl ?_
                refine v_iload_n ok 3 dL_law_356 rfl rfl ?_
                refine v_iconst ok 3 dL_law_357 rfl ?_
                refine v_iadd ok dL_law_358 ?_
                refine v_iald ok rfl dL_law_359 hf (fun v52 hf => ?_)
                refine v_cVi ok (RX7, TX7, 117) cf_7.1 [vi v50, vi v51, vi v52] (F := fun a => X7_letter a v50 v51 v52 h49) (fun a v h1 _ hv => M_X7_letter ok.2.2.2.2.2.2.1 (d := 4) (Nat.le_refl _) hv) (by omega) cw_X7_letter q2384 q2385 q2386 dL_law_360 [vi v48] rfl (Nat.le_of_ble_eq_true rfl) hf (fun v53 h54 hf => ?_)
                refine v_icmp_eq ok 1241 dL_law_363 rfl hf (fun hf => ?_) (fun hf => ?_)
                ·
                  refine v_iinc ok x3 (x3 + 6) dL_law_1241 rfl rfl (by decide) ?_
                  refine v_goto ok 18 dL_law_1244 rfl ?_
                  cases hf; exact hk _ ⟨rfl, rfl, rfl, rfl, trivial⟩
                ·
                  refine v_iconst ok 0 dL_law_366 rfl ?_
                  cases hf; exact absurd (show (0 : Int32) = 1 from hk.1) (by decide)
              ·
                refine sw_if (v := 6) hf (fun e_ hf => ?_) (fun n55 hf => ?_)
                ·
                  refine v_tableIn ok 6 368 dL_law_33 e_ (by decide) (by decide) rfl rfl ?_
                  refine v_aload_n ok 1 dL_law_368 rfl rfl ?_
                  refine v_aload_n ok 0 dL_law_369 rfl rfl ?_
                  refine v_iload_n ok 3 dL_law_370 rfl rfl ?_
                  refine v_iconst ok 1 dL_law_371 rfl ?_
                  refine v_iadd ok dL_law_372 ?_
                  refine v_iald ok rfl dL_law_373 hf (fun v56 hf => ?_)
                  refine v_aload_n ok 0 dL_law_374 rfl rfl ?_
                  refine v_iload_n ok 3 dL_law_375 rfl rfl ?_
                  refine v_iconst ok 2 dL_law_376 rfl ?_
                  refine v_iadd ok dL_law_377 ?_
                  refine v_iald ok rfl dL_law_378 hf (fun v57 hf => ?_)
                  refine v_cVi ok (RX0, TX0, 18) cf_0.1 [vi v56, vi v57] (F := fun a => X0_word a v56 v57 h) (fun a v h1 _ hv => M_X0_word ok.2.2.2.2.2.2.1 (d := 7) (Nat.le_refl _) hv) (by omega) cw_X0_word q1366 q1367 q1368 dL_law_379 [] rfl (Nat.le_of_ble_eq_true rfl) hf (fun v58 h59 hf => ?_)
                  refine v_aload_n ok 2 dL_law_382 rfl rfl ?_
                  refine v_aload_n ok 0 dL_law_383 rfl rfl ?_
                  refine v_iload_n ok 3 dL_law_384 rfl rfl ?_
                  refine v_iconst ok 1 dL_law_385 rfl ?_
                  refine v_iadd ok dL_law_386 ?_
                  refine v_iald ok rfl dL_law_387 hf (fun v60 hf => ?_)
                  refine v_aload_n ok 0 dL_law_388 rfl rfl ?_
                  refine v_iload_n ok 3 dL_law_389 rfl rfl ?_
                  refine v_iconst ok 2 dL_law_390 rfl ?_
                  refine v_iadd ok dL_law_391 ?_
                  refine v_iald ok rfl dL_law_392 hf (fun v61 hf => ?_)
                  refine v_cVi ok (RX7, TX7, 117) cf_7.1 [vi v60, vi v61] (F := fun a => X7_word a v60 v61 h59) (fun a v h1 _ hv => M_X7_word ok.2.2.2.2.2.2.1 (d := 3) (Nat.le_refl _) hv) (by omega) cw_X7_word q2396 q2397 q2398 dL_law_393 [vi v58] rfl (Nat.le_of_ble_eq_true rfl) hf (fun v62 h63 hf => ?_)
                  refine v_icmp_eq ok 1241 dL_law_396 rfl hf (fun hf => ?_) (fun hf => ?_)
                  ·
                    refine v_iinc ok x3 (x3 + 6) dL_law_1241 rfl rfl (by decide) ?_
                    refine v_goto ok 18 dL_law_1244 rfl ?_
                    cases hf; exact hk _ ⟨rfl, rfl, rfl, rfl, trivial⟩
                  ·
                    refine v_iconst ok 0 dL_law_399 rfl ?_
                    cases hf; exact absurd (show (0 : Int32) = 1 from hk.1) (by decide)
                ·
                  refine sw_if (v := 7) hf (fun e_ hf => ?_) (fun n64 hf => ?_)
                  ·
                    refine v_tableIn ok 7 401 dL_law_33 e_ (by decide) (by decide) rfl rfl ?_
                    refine v_aload_n ok 1 dL_law_401 rfl rfl ?_
                    refine v_aload_n ok 0 dL_law_402 rfl rfl ?_
                    refine v_iload_n ok 3 dL_law_403 rfl rfl ?_
                    refine v_iconst ok 1 dL_law_404 rfl ?_
                    refine v_iadd ok dL_law_405 ?_
                    refine v_iald ok rfl dL_law_406 hf (fun v65 hf => ?_)
                    refine v_aload_n ok 0 dL_law_407 rfl rfl ?_
                    refine v_iload_n ok 3 dL_law_408 rfl rfl ?_
                    refine v_iconst ok 2 dL_law_409 rfl ?_
                    refine v_iadd ok dL_law_410 ?_
                    refine v_iald ok rfl dL_law_411 hf (fun v66 hf => ?_)
                    refine v_cVi ok (RX0, TX0, 18) cf_0.1 [vi v65, vi v66] (F := fun a => X0_board a v65 v66 h) (fun a v h1 _ hv => M_X0_board ok.2.2.2.2.2.2.1 (d := 5) (Nat.le_refl _) hv) (by omega) cw_X0_board q1376 q1377 q1378 dL_law_412 [] rfl (Nat.le_of_ble_eq_true rfl) hf (fun v67 h68 hf => ?_)
                    refine v_aload_n ok 2 dL_law_415 rfl rfl ?_
                    refine v_aload_n ok 0 dL_law_416 rfl rfl ?_
                    refine v_iload_n ok 3 dL_law_417 rfl rfl ?_
                    refine v_iconst ok 1 dL_law_418 rfl ?_
                    refine v_iadd ok dL_law_419 ?_
                    refine v_iald ok rfl dL_law_420 hf (fun v69 hf => ?_)
                    refine v_aload_n ok 0 dL_law_421 rfl rfl ?_
                    refine v_iload_n ok 3 dL_law_422 rfl rfl ?_
                    refine v_iconst ok 2 dL_law_423 rfl ?_
                    refine v_iadd ok dL_law_424 ?_
                    refine v_iald ok rfl dL_law_425 hf (fun v70 hf => ?_)
                    refine v_cVi ok (RX7, TX7, 117) cf_7.1 [vi v69, vi v70] (F := fun a => X7_board a v69 v70 h68) (fun a v h1 _ hv => M_X7_board ok.2.2.2.2.2.2.1 (d := 3) (Nat.le_refl _) hv) (by omega) cw_X7_board q2405 q2406 q2407 dL_law_426 [vi v67] rfl (Nat.le_of_ble_eq_true rfl) hf (fun v71 h72 hf => ?_)
                    refine v_icmp_eq ok 1241 dL_law_429 rfl hf (fun hf => ?_) (fun hf => ?_)
                    ·
                      refine v_iinc ok x3 (x3 + 6) dL_law_1241 rfl rfl (by decide) ?_
                      refine v_goto ok 18 dL_law_1244 rfl ?_
                      cases hf; exact hk _ ⟨rfl, rfl, rfl, rfl, trivial⟩
                    ·
                      refine v_iconst ok 0 dL_law_432 rfl ?_
                      cases hf; exact absurd (show (0 : Int32) = 1 from hk.1) (by decide)
                  ·
                    refine sw_if (v := 8) hf (fun e_ hf => ?_) (fun n73 hf => ?_)
                    ·
                      refine v_tableIn ok 8 434 dL_law_33 e_ (by decide) (by decide) rfl rfl ?_
                      refine v_aload_n ok 1 dL_law_434 rfl rfl ?_
                      refine v_aload_n ok 0 dL_law_435 rfl rfl ?_
                      refine v_iload_n ok 3 dL_law_436 rfl rfl ?_
                      refine v_iconst ok 1 dL_law_437 rfl ?_
                      refine v_iadd ok dL_law_438 ?_
                      refine v_iald ok rfl dL_law_439 hf (fun v74 hf => ?_)
                      refine v_aload_n ok 0 dL_law_440 rfl rfl ?_
                      refine v_iload_n ok 3 dL_law_441 rfl rfl ?_
                      refine v_iconst ok 2 dL_law_442 rfl ?_
                      refine v_iadd ok dL_law_443 ?_
                      refine v_iald ok rfl dL_law_444 hf (fun v75 hf => ?_)
                      refine v_cVi ok (RX0, TX0, 18) cf_0.1 [vi v74, vi v75] (F := fun a => X0_glyph a v74 v75 h) (fun a v h1 _ hv => M_X0_glyph ok.2.2.2.2.2.2.1 (d := 6) (Nat.le_refl _) hv) (by omega) cw_X0_glyph q1385 q1386 q1387 dL_law_445 [] rfl (Nat.le_of_ble_eq_true rfl) hf (fun v76 h77 hf => ?_)
                      refine v_aload_n ok 2 dL_law_448 rfl rfl ?_
                      refine v_aload_n ok 0 dL_law_449 rfl rfl ?_
                      refine v_iload_n ok 3 dL_law_450 rfl rfl ?_
                      refine v_iconst ok 1 dL_law_451 rfl ?_
                      refine v_iadd ok dL_law_452 ?_
                      refine v_iald ok rfl dL_law_453 hf (fun v78 hf => ?_)
                      refine v_aload_n ok 0 dL_law_454 rfl rfl ?_
                      refine v_iload_n ok 3 dL_law_455 rfl rfl ?_
                      refine v_iconst ok 2 dL_law_456 rfl ?_
                      refine v_iadd ok dL_law_457 ?_
                      refine v_iald ok rfl dL_law_458 hf (fun v79 hf => ?_)
                      refine v_cVi ok (RX7, TX7, 117) cf_7.1 [vi v78, vi v79] (F := fun a => X7_glyph a v78 v79 h77) (fun a v h1 _ hv => M_X7_glyph ok.2.2.2.2.2.2.1 (d := 4) (Nat.le_refl _) hv) (by omega) cw_X7_glyph q2421 q2422 q2423 dL_law_459 [vi v76] rfl (Nat.le_of_ble_eq_true rfl) hf (fun v80 h81 hf => ?_)
                      refine v_icmp_eq ok 1241 dL_law_462 rfl hf (fun hf => ?_) (fun hf => ?_)
                      ·
                        refine v_iinc ok x3 (x3 + 6) dL_law_1241 rfl rfl (by decide) ?_
                        refine v_goto ok 18 dL_law_1244 rfl ?_
                        cases hf; exact hk _ ⟨rfl, rfl, rfl, rfl, trivial⟩
                      ·
                        refine v_iconst ok 0 dL_law_465 rfl ?_
                        cases hf; exact absurd (show (0 : Int32) = 1 from hk.1) (by decide)
                    ·
                      refine sw_if (v := 9) hf (fun e_ hf => ?_) (fun n82 hf => ?_)
                      ·
                        refine v_tableIn ok 9 467 dL_law_33 e_ (by decide) (by decide) rfl rfl ?_
                        refine v_aload_n ok 1 dL_law_467 rfl rfl ?_
                        refine v_aload_n ok 0 dL_law_468 rfl rfl ?_
                        refine v_iload_n ok 3 dL_law_469 rfl rfl ?_
                        refine v_iconst ok 1 dL_law_470 rfl ?_
                        refine v_iadd ok dL_law_471 ?_
                        refine v_iald ok rfl dL_law_472 hf (fun v83 hf => ?_)
                        refine v_aload_n ok 0 dL_law_473 rfl rfl ?_
                        refine v_iload_n ok 3 dL_law_474 rfl rfl ?_
                        refine v_iconst ok 2 dL_law_475 rfl ?_
                        refine v_iadd ok dL_law_476 ?_
                        refine v_iald ok rfl dL_law_477 hf (fun v84 hf => ?_)
                        refine v_cVi ok (RX0, TX0, 18) cf_0.1 [vi v83, vi v84] (F := fun a => X0_kept a v83 v84 h) (fun a v h1 _ hv => M_X0_kept ok.2.2.2.2.2.2.1 (d := 2) (Nat.le_refl _) hv) (by omega) cw_X0_kept q1393 q1394 q1395 dL_law_478 [] rfl (Nat.le_of_ble_eq_true rfl) hf (fun v85 h86 hf => ?_)
                        refine v_aload_n ok 2 dL_law_481 rfl rfl ?_
                        refine v_aload_n ok 0 dL_law_482 rfl rfl ?_
                        refine v_iload_n ok 3 dL_law_483 rfl rfl ?_
                        refine v_iconst ok 1 dL_law_484 rfl ?_
                        refine v_iadd ok dL_law_485 ?_
                        refine v_iald ok rfl dL_law_486 hf (fun v87 hf => ?_)
                        refine v_aload_n ok 0 dL_law_487 rfl rfl ?_
                        refine v_iload_n ok 3 dL_law_488 rfl rfl ?_
                        refine v_iconst ok 2 dL_law_489 rfl ?_
                        refine v_iadd ok dL_law_490 ?_
                        refine v_iald ok rfl dL_law_491 hf (fun v88 hf => ?_)
                        refine v_cVi ok (RX7, TX7, 117) cf_7.1 [vi v87, vi v88] (F := fun a => X7_kept a v87 v88 h86) (fun a v h1 _ hv => M_X7_kept ok.2.2.2.2.2.2.1 (d := 2) (Nat.le_refl _) hv) (by omega) cw_X7_kept q2429 q2430 q2431 dL_law_492 [vi v85] rfl (Nat.le_of_ble_eq_true rfl) hf (fun v89 h90 hf => ?_)
                        refine v_icmp_eq ok 1241 dL_law_495 rfl hf (fun hf => ?_) (fun hf => ?_)
                        ·
                          refine v_iinc ok x3 (x3 + 6) dL_law_1241 rfl rfl (by decide) ?_
                          refine v_goto ok 18 dL_law_1244 rfl ?_
                          cases hf; exact hk _ ⟨rfl, rfl, rfl, rfl, trivial⟩
                        ·
                          refine v_iconst ok 0 dL_law_498 rfl ?_
                          cases hf; exact absurd (show (0 : Int32) = 1 from hk.1) (by decide)
                      ·
                        refine sw_if (v := 10) hf (fun e_ hf => ?_) (fun n91 hf => ?_)
                        ·
                          refine v_tableIn ok 10 500 dL_law_33 e_ (by decide) (by decide) rfl rfl ?_
                          refine v_aload_n ok 1 dL_law_500 rfl rfl ?_
                          refine v_aload_n ok 0 dL_law_501 rfl rfl ?_
                          refine v_iload_n ok 3 dL_law_502 rfl rfl ?_
                          refine v_iconst ok 1 dL_law_503 rfl ?_
                          refine v_iadd ok dL_law_504 ?_
                          refine v_iald ok rfl dL_law_505 hf (fun v92 hf => ?_)
                          refine v_aload_n ok 0 dL_law_506 rfl rfl ?_
                          refine v_iload_n ok 3 dL_law_507 rfl rfl ?_
                          refine v_iconst ok 2 dL_law_508 rfl ?_
                          refine v_iadd ok dL_law_509 ?_
                          refine v_iald ok rfl dL_law_510 hf (fun v93 hf => ?_)
                          refine v_cVi ok (RX0, TX0, 18) cf_0.1 [vi v92, vi v93] (F := fun a => X0_seen a v92 v93 h) (fun a v h1 _ hv => M_X0_seen ok.2.2.2.2.2.2.1 (d := 3) (Nat.le_refl _) hv) (by omega) cw_X0_seen q1397 q1398 q1399 dL_law_511 [] rfl (Nat.le_of_ble_eq_true rfl) hf (fun v94 h95 hf => ?_)
                          refine v_aload_n ok 2 dL_law_514 rfl rfl ?_
                          refine v_aload_n ok 0 dL_law_515 rfl rfl ?_
                          refine v_iload_n ok 3 dL_law_516 rfl rfl ?_
                          refine v_iconst ok 1 dL_law_517 rfl ?_
                          refine v_iadd ok dL_law_518 ?_
                          refine v_iald ok rfl dL_law_519 hf (fun v96 hf => ?_)
                          refine v_aload_n ok 0 dL_law_520 rfl rfl ?_
                          refine v_iload_n ok 3 dL_law_521 rfl rfl ?_
                          refine v_iconst ok 2 dL_law_522 rfl ?_
                          refine v_iadd ok dL_law_523 ?_
                          refine v_iald ok rfl dL_law_524 hf (fun v97 hf => ?_)
                          refine v_cVi ok (RX7, TX7, 117) cf_7.1 [vi v96, vi v97] (F := fun a => X7_seen a v96 v97 h95) (fun a v h1 _ hv => M_X7_seen ok.2.2.2.2.2.2.1 (d := 3) (Nat.le_refl _) hv) (by omega) cw_X7_seen q2434 q2435 q2436 dL_law_525 [vi v94] rfl (Nat.le_of_ble_eq_true rfl) hf (fun v98 h99 hf => ?_)
                          refine v_icmp_eq ok 1241 dL_law_528 rfl hf (fun hf => ?_) (fun hf => ?_)
                          ·
                            refine v_iinc ok x3 (x3 + 6) dL_law_1241 rfl rfl (by decide) ?_
                            refine v_goto ok 18 dL_law_1244 rfl ?_
                            cases hf; exact hk _ ⟨rfl, rfl, rfl, rfl, trivial⟩
                          ·
                            refine v_iconst ok 0 dL_law_531 rfl ?_
                            cases hf; exact absurd (show (0 : Int32) = 1 from hk.1) (by decide)
                        ·
                          refine sw_if (v := 11) hf (fun e_ hf => ?_) (fun n100 hf => ?_)
                          ·
                            refine v_tableIn ok 11 533 dL_law_33 e_ (by decide) (by decide) rfl rfl ?_
                            refine v_aload_n ok 1 dL_law_533 rfl rfl ?_
                            refine v_aload_n ok 0 dL_law_534 rfl rfl ?_
                            refine v_iload_n ok 3 dL_law_535 rfl rfl ?_
                            refine v_iconst ok 1 dL_law_536 rfl ?_
                            refine v_iadd ok dL_law_537 ?_
                            refine v_iald ok rfl dL_law_538 hf (fun v101 hf => ?_)
                            refine v_aload_n ok 0 dL_law_539 rfl rfl ?_
                            refine v_iload_n ok 3 dL_law_540 rfl rfl ?_
                            refine v_iconst ok 2 dL_law_541 rfl ?_
                            refine v_iadd ok dL_law_542 ?_
                            refine v_iald ok rfl dL_law_543 hf (fun v102 hf => ?_)
                            refine v_aload_n ok 0 dL_law_544 rfl rfl ?_
                            refine v_iload_n ok 3 dL_law_545 rfl rfl ?_
                            refine v_iconst ok 3 dL_law_546 rfl ?_
                            refine v_iadd ok dL_law_547 ?_
                            refine v_iald ok rfl dL_law_548 hf (fun v103 hf => ?_)
                            refine v_cVl ok (RX0, TX0, 18) cf_0.1 [vi v101, vi v102, vi v103] (F := fun a => X0_doubt va a v101 v102 v103 h) (fun a v h1 _ hv => M_X0_doubt ok.2.2.2.2.2.2.1 hva (d := e + 6) (Nat.le_refl _) hv) (by omega) cw_X0_doubt q1407 q1408 q1409 dL_law_549 [] rfl (Nat.le_of_ble_eq_true rfl) hf (fun v104 h105 hf => ?_)
                            refine v_aload_n ok 2 dL_law_552 rfl rfl ?_
                            refine v_aload_n ok 0 dL_law_553 rfl rfl ?_
                            refine v_iload_n ok 3 dL_law_554 rfl rfl ?_
                            refine v_iconst ok 1 dL_law_555 rfl ?_
                            refine v_iadd ok dL_law_556 ?_
                            refine v_iald ok rfl dL_law_557 hf (fun v106 hf => ?_)
                            refine v_aload_n ok 0 dL_law_558 rfl rfl ?_
                            refine v_iload_n ok 3 dL_law_559 rfl rfl ?_
                            refine v_iconst ok 2 dL_law_560 rfl ?_
                            refine v_iadd ok dL_law_561 ?_
                            refine v_iald ok rfl dL_law_562 hf (fun v107 hf => ?_)
                            refine v_aload_n ok 0 dL_law_563 rfl rfl ?_
                            refine v_iload_n ok 3 dL_law_564 rfl rfl ?_
                            refine v_iconst ok 3 dL_law_565 rfl ?_
                            refine v_iadd ok dL_law_566 ?_
                            refine v_iald ok rfl dL_law_567 hf (fun v108 hf => ?_)
                            refine v_cVl ok (RX7, TX7, 117) cf_7.1 [vi v106, vi v107, vi v108] (F := fun a => X7_doubt a v106 v107 v108 h105) (fun a v h1 _ hv => M_X7_doubt ok.2.2.2.2.2.2.1 (d := 7) (Nat.le_refl _) hv) (by omega) cw_X7_doubt q2447 q2448 q2449 dL_law_568 [vl v104] rfl (Nat.le_of_ble_eq_true rfl) hf (fun v109 h110 hf => ?_)
                            refine v_lcmp ok dL_law_571 ?_
                            refine v_if_eq ok 1241 dL_law_572 rfl hf (fun hf => ?_) (fun hf => ?_)
                            ·
                              refine v_iinc ok x3 (x3 + 6) dL_law_1241 rfl rfl (by decide) ?_
                              refine v_goto ok 18 dL_law_1244 rfl ?_
                              cases hf; exact hk _ ⟨rfl, rfl, rfl, rfl, trivial⟩
                            ·
                              refine v_iconst ok 0 dL_law_575 rfl ?_
                              cases hf; exact absurd (show (0 : Int32) = 1 from hk.1) (by decide)
                          ·
                            refine sw_if (v := 12) hf (fun e_ hf => ?_) (fun n111 hf => ?_)
                            ·
                              refine v_tableIn ok 12 577 dL_law_33 e_ (by decide) (by decide) rfl rfl ?_
                              refine v_aload_n ok 1 dL_law_577 rfl rfl ?_
                              refine v_aload_n ok 0 dL_law_578 rfl rfl ?_
                              refine v_iload_n ok 3 dL_law_579 rfl rfl ?_
                              refine v_iconst ok 1 dL_law_580 rfl ?_
                              refine v_iadd ok dL_law_581 ?_
                              refine v_iald ok rfl dL_law_582 hf (fun v112 hf => ?_)
                              refine v_aload_n ok 0 dL_law_583 rfl rfl ?_
                              refine v_iload_n ok 3 dL_law_584 rfl rfl ?_
                              refine v_iconst ok 2 dL_law_585 rfl ?_
                              refine v_iadd ok dL_law_586 ?_
                              refine v_iald ok rfl dL_law_587 hf (fun v113 hf => ?_)
                              refine v_aload_n ok 0 dL_law_588 rfl rfl ?_
                              refine v_iload_n ok 3 dL_law_589 rfl rfl ?_
                              refine v_iconst ok 3 dL_law_590 rfl ?_
                              refine v_iadd ok dL_law_591 ?_
                              refine v_iald ok rfl dL_law_592 hf (fun v114 hf => ?_)
                              refine v_cVi ok (RX0, TX0, 18) cf_0.1 [vi v112, vi v113, vi v114] (F := fun a => X0_reads va a v112 v113 v114 h) (fun a v h1 _ hv => M_X0_reads ok.2.2.2.2.2.2.1 hva (d := e + 6) (Nat.le_refl _) hv) (by omega) cw_X0_reads q1532 q1533 q1534 dL_law_593 [] rfl (Nat.le_of_ble_eq_true rfl) hf (fun v115 h116 hf => ?_)
                              refine v_aload_n ok 2 dL_law_596 rfl rfl ?_
                              refine v_aload_n ok 0 dL_law_597 rfl rfl ?_
                              refine v_iload_n ok 3 dL_law_598 rfl rfl ?_
                              refine v_iconst ok 1 dL_law_599 rfl ?_
                              refine v_iadd ok dL_law_600 ?_
                              refine v_iald ok rfl dL_law_601 hf (fun v117 hf => ?_)
                              refine v_aload_n ok 0 dL_law_602 rfl rfl ?_
                              refine v_iload_n ok 3 dL_law_603 rfl rfl ?_
                              refine v_iconst ok 2 dL_law_604 rfl ?_
                              refine v_iadd ok dL_law_605 ?_
                              refine v_iald ok rfl dL_law_606 hf (fun v118 hf => ?_)
                              refine v_aload_n ok 0 dL_law_607 rfl rfl ?_
                              refine v_iload_n ok 3 dL_law_608 rfl rfl ?_
                              refine v_iconst ok 3 dL_law_609 rfl ?_
                              refine v_iadd ok dL_law_610 ?_
                              refine v_iald ok rfl dL_law_611 hf (fun v119 hf => ?_)
                              refine v_cVi ok (RX7, TX7, 117) cf_7.1 [vi v117, vi v118, vi v119] (F := fun a => X7_reads a v117 v118 v119 h116) (fun a v h1 _ hv => M_X7_reads ok.2.2.2.2.2.2.1 (d := 8) (Nat.le_refl _) hv) (by omega) cw_X7_reads q2484 q2485 q2486 dL_law_612 [vi v115] rfl (Nat.le_of_ble_eq_true rfl) hf (fun v120 h121 hf => ?_)
                              refine v_icmp_eq ok 1241 dL_law_615 rfl hf (fun hf => ?_) (fun hf => ?_)
                              ·
                                refine v_iinc ok x3 (x3 + 6) dL_law_1241 rfl rfl (by decide) ?_
                                refine v_goto ok 18 dL_law_1244 rfl ?_
                                cases hf; exact hk _ ⟨rfl, rfl, rfl, rfl, trivial⟩
                              ·
                                refine v_iconst ok 0 dL_law_618 rfl ?_
                                cases hf; exact absurd (show (0 : Int32) = 1 from hk.1) (by decide)
                            ·
                              refine sw_if (v := 13) hf (fun e_ hf => ?_) (fun n122 hf => ?_)
                              ·
                                refine v_tableIn ok 13 620 dL_law_33 e_ (by decide) (by decide) rfl rfl ?_
                                refine v_aload_n ok 1 dL_law_620 rfl rfl ?_
                                refine v_aload_n ok 0 dL_law_621 rfl rfl ?_
                                refine v_iload_n ok 3 dL_law_622 rfl rfl ?_
                                refine v_iconst ok 1 dL_law_623 rfl ?_
                                refine v_iadd ok dL_law_624 ?_
                                refine v_iald ok rfl dL_law_625 hf (fun v123 hf => ?_)
                                refine v_aload_n ok 0 dL_law_626 rfl rfl ?_
                                refine v_iload_n ok 3 dL_law_627 rfl rfl ?_
                                refine v_iconst ok 2 dL_law_628 rfl ?_
                                refine v_iadd ok dL_law_629 ?_
                                refine v_iald ok rfl dL_law_630 hf (fun v124 hf => ?_)
                                refine v_aload_n ok 0 dL_law_631 rfl rfl ?_
                                refine v_iload_n ok 3 dL_law_632 rfl rfl ?_
                                refine v_iconst ok 3 dL_law_633 rfl ?_
                                refine v_iadd ok dL_law_634 ?_
                                refine v_iald ok rfl dL_law_635 hf (fun v125 hf => ?_)
                                refine v_aload_n ok 0 dL_law_636 rfl rfl ?_
                                refine v_iload_n ok 3 dL_law_637 rfl rfl ?_
                                refine v_iconst ok 4 dL_law_638 rfl ?_
                                refine v_iadd ok dL_law_639 ?_
                                refine v_iald ok rfl dL_law_640 hf (fun v126 hf => ?_)
                                refine v_cVi ok (RX0, TX0, 18) cf_0.1 [vi v123, vi v124, vi v125, vi v126] (F := fun a => X0_says va th a v123 v124 v125 v126 h) (fun a v h1 _ hv => M_X0_says ok.2.2.2.2.2.2.1 hva hth (d := e + 10) (Nat.le_refl _) hv) (by omega) cw_X0_says q1540 q1541 q1542 dL_law_641 [] rfl (Nat.le_of_ble_eq_true rfl) hf (fun v127 h128 hf => ?_)
                                refine v_aload_n ok 2 dL_law_644 rfl rfl ?_
                                refine v_aload_n ok 0 dL_law_645 rfl rfl ?_
                                refine v_iload_n ok 3 dL_law_646 rfl rfl ?_
                                refine v_iconst ok 1 dL_law_647 rfl ?_
                                refine v_iadd ok dL_law_648 ?_
                                refine v_iald ok rfl dL_law_649 hf (fun v129 hf => ?_)
                                refine v_aload_n ok 0 dL_law_650 rfl rfl ?_
                                refine v_iload_n ok 3 dL_law_651 rfl rfl ?_
                                refine v_iconst ok 2 dL_law_652 rfl ?_
                                refine v_iadd ok dL_law_653 ?_
                                refine v_iald ok rfl dL_law_654 hf (fun v130 hf => ?_)
                                refine v_aload_n ok 0 dL_law_655 rfl rfl ?_
                                refine v_iload_n ok 3 dL_law_656 rfl rfl ?_
                                refine v_iconst ok 3 dL_law_657 rfl ?_
                                refine v_iadd ok dL_law_658 ?_
                                refine v_iald ok rfl dL_law_659 hf (fun v131 hf => ?_)
                                refine v_aload_n ok 0 dL_law_660 rfl rfl ?_
                                refine v_iload_n ok 3 dL_law_661 rfl rfl ?_
                                refine v_iconst ok 4 dL_law_662 rfl ?_
                                refine v_iadd ok dL_law_663 ?_
                                refine v_iald ok rfl dL_law_664 hf (fun v132 hf => ?_)
                                refine v_cVi ok (RX7, TX7, 117) cf_7.1 [vi v129, vi v130, vi v131, vi v132] (F := fun a => X7_says a v129 v130 v131 v132 h128) (fun a v h1 _ hv => M_X7_says ok.2.2.2.2.2.2.1 (d := 11) (Nat.le_refl _) hv) (by omega) cw_X7_says q2492 q2493 q2494 dL_law_665 [vi v127] rfl (Nat.le_of_ble_eq_true rfl) hf (fun v133 h134 hf => ?_)
                                refine v_icmp_eq ok 1241 dL_law_668 rfl hf (fun hf => ?_) (fun hf => ?_)
                                ·
                                  refine v_iinc ok x3 (x3 + 6) dL_law_1241 rfl rfl (by decide) ?_
                                  refine v_goto ok 18 dL_law_1244 rfl ?_
                                  cases hf; exact hk _ ⟨rfl, rfl, rfl, rfl, trivial⟩
                                ·
                                  refine v_iconst ok 0 dL_law_671 rfl ?_
                                  cases hf; exact absurd (show (0 : Int32) = 1 from hk.1) (by decide)
                              ·
                                refine sw_if (v := 14) hf (fun e_ hf => ?_) (fun n135 hf => ?_)
                                ·
                                  refine v_tableIn ok 14 673 dL_law_33 e_ (by decide) (by decide) rfl rfl ?_
                                  refine v_aload_n ok 1 dL_law_673 rfl rfl ?_
                                  refine v_aload_n ok 0 dL_law_674 rfl rfl ?_
                                  refine v_iload_n ok 3 dL_law_675 rfl rfl ?_
                                  refine v_iconst ok 1 dL_law_676 rfl ?_
                                  refine v_iadd ok dL_law_677 ?_
                                  refine v_iald ok rfl dL_law_678 hf (fun v136 hf => ?_)
                                  refine v_aload_n ok 0 dL_law_679 rfl rfl ?_
                                  refine v_iload_n ok 3 dL_law_680 rfl rfl ?_
                                  refine v_iconst ok 2 dL_law_681 rfl ?_
                                  refine v_iadd ok dL_law_682 ?_
                                  refine v_iald ok rfl dL_law_683 hf (fun v137 hf => ?_)
                                  refine v_aload_n ok 0 dL_law_684 rfl rfl ?_
                                  refine v_iload_n ok 3 dL_law_685 rfl rfl ?_
                                  refine v_iconst ok 3 dL_law_686 rfl ?_
                                  refine v_iadd ok dL_law_687 ?_
                                  refine v_iald ok rfl dL_law_688 hf (fun v138 hf => ?_)
                                  refine v_cVi ok (RX0, TX0, 18) cf_0.1 [vi v136, vi v137, vi v138] (F := fun a => X0_becomes va a v136 v137 v138 h) (fun a v h1 _ hv => M_X0_becomes ok.2.2.2.2.2.2.1 hva (d := e + 9) (Nat.le_refl _) hv) (by omega) cw_X0_becomes q1615 q1616 q1617 dL_law_689 [] rfl (Nat.le_of_ble_eq_true rfl) hf (fun v139 h140 hf => ?_)
                                  refine v_aload_n ok 2 dL_law_692 rfl rfl ?_
                                  refine v_aload_n ok 0 dL_law_693 rfl rfl ?_
                                  refine v_iload_n ok 3 dL_law_694 rfl rfl ?_
                                  refine v_iconst ok 1 dL_law_695 rfl ?_
                                  refine v_iadd ok dL_law_696 ?_
                                  refine v_iald ok rfl dL_law_697 hf (fun v141 hf => ?_)
                                  refine v_aload_n ok 0 dL_law_698 rfl rfl ?_
                                  refine v_iload_n ok 3 dL_law_699 rfl rfl ?_
                                  refine v_iconst ok 2 dL_law_700 rfl ?_
                                  refine v_iadd ok dL_law_701 ?_
                                  refine v_iald ok rfl dL_law_702 hf (fun v142 hf => ?_)
                                  refine v_aload_n ok 0 dL_law_703 rfl rfl ?_
                                  refine v_iload_n ok 3 dL_law_704 rfl rfl ?_
                                  refine v_iconst ok 3 dL_law_705 rfl ?_
                                  refine v_iadd ok dL_law_706 ?_
                                  refine v_iald ok rfl dL_law_707 hf (fun v143 hf => ?_)
                                  refine v_cVi ok (RX7, TX7, 117) cf_7.1 [vi v141, vi v142, vi v143] (F := fun a => X7_becomes a v141 v142 v143 h140) (fun a v h1 _ hv => M_X7_becomes ok.2.2.2.2.2.2.1 (d := 8) (Nat.le_refl _) hv) (by omega) cw_X7_becomes q2536 q2537 q2538 dL_law_708 [vi v139] rfl (Nat.le_of_ble_eq_true rfl) hf (fun v144 h145 hf => ?_)
                                  refine v_icmp_eq ok 1241 dL_law_711 rfl hf (fun hf => ?_) (fun hf => ?_)
                                  ·
                                    refine v_iinc ok x3 (x3 + 6) dL_law_1241 rfl rfl (by decide) ?_
                                    refine v_goto ok 18 dL_law_1244 rfl ?_
                                    cases hf; exact hk _ ⟨rfl, rfl, rfl, rfl, trivial⟩
                                  ·
                                    refine v_iconst ok 0 dL_law_714 rfl ?_
                                    cases hf; exact absurd (show (0 : Int32) = 1 from hk.1) (by decide)
                                ·
                                  refine sw_if (v := 15) hf (fun e_ hf => ?_) (fun n146 hf => ?_)
                                  ·
                                    refine v_tableIn ok 15 716 dL_law_33 e_ (by decide) (by decide) rfl rfl ?_
                                    refine v_aload_n ok 1 dL_law_716 rfl rfl ?_
                                    refine v_aload_n ok 0 dL_law_717 rfl rfl ?_
                                    refine v_iload_n ok 3 dL_law_718 rfl rfl ?_
                                    refine v_iconst ok 1 dL_law_719 rfl ?_
                                    refine v_iadd ok dL_law_720 ?_
                                    refine v_iald ok rfl dL_law_721 hf (fun v147 hf => ?_)
                                    refine v_aload_n ok 0 dL_law_722 rfl rfl ?_
                                    refine v_iload_n ok 3 dL_law_723 rfl rfl ?_
                                    refine v_iconst ok 2 dL_law_724 rfl ?_
                                    refine v_iadd ok dL_law_725 ?_
                                    refine v_iald ok rfl dL_law_726 hf (fun v148 hf => ?_)
                                    refine v_aload_n ok 0 dL_law_727 rfl rfl ?_
                                    refine v_iload_n ok 3 dL_law_728 rfl rfl ?_
                                    refine v_iconst ok 3 dL_law_729 rfl ?_
                                    refine v_iadd ok dL_law_730 ?_
                                    refine v_iald ok rfl dL_law_731 hf (fun v149 hf => ?_)
                                    refine v_aload_n ok 0 dL_law_732 rfl rfl ?_
                                    refine v_iload_n ok 3 dL_law_733 rfl rfl ?_
                                    refine v_iconst ok 4 dL_law_734 rfl ?_
                                    refine v_iadd ok dL_law_735 ?_
                                    refine v_iald ok rfl dL_law_736 hf (fun v150 hf => ?_)
                                    refine v_cVi ok (RX0, TX0, 18) cf_0.1 [vi v147, vi v148, vi v149, vi v150] (F := fun a => X0_line va a v147 v148 v149 v150 h) (fun a v h1 _ hv => M_X0_line ok.2.2.2.2.2.2.1 hva (d := e + 13) (Nat.le_refl _) hv) (by omega) cw_X0_line q1625 q1626 q1627 dL_law_737 [] rfl (Nat.le_of_ble_eq_true rfl) hf (fun v151 h152 hf => ?_)
                                    refine v_aload_n ok 2 dL_law_740 rfl rfl ?_
                                    refine v_aload_n ok 0 dL_law_741 rfl rfl ?_
                                    refine v_iload_n ok 3 dL_law_742 rfl rfl ?_
                                    refine v_iconst ok 1 dL_law_743 rfl ?_
                                    refine v_iadd ok dL_law_744 ?_
                                    refine v_iald ok rfl dL_law_745 hf (fun v153 hf => ?_)
                                    refine v_aload_n ok 0 dL_law_746 rfl rfl ?_
                                    refine v_iload_n ok 3 dL_law_747 rfl rfl ?_
                                    refine v_iconst ok 2 dL_law_748 rfl ?_
                                    refine v_iadd ok dL_law_749 ?_
                                    refine v_iald ok rfl dL_law_750 hf (fun v154 hf => ?_)
                                    refine v_aload_n ok 0 dL_law_751 rfl rfl ?_
                                    refine v_iload_n ok 3 dL_law_752 rfl rfl ?_
                                    refine v_iconst ok 3 dL_law_753 rfl ?_
                                    refine v_iadd ok dL_law_754 ?_
                                    refine v_iald ok rfl dL_law_755 hf (fun v155 hf => ?_)
                                    refine v_aload_n ok 0 dL_law_756 rfl rfl ?_
                                    refine v_iload_n ok 3 dL_law_757 rfl rfl ?_
                                    refine v_iconst ok 4 dL_law_758 rfl ?_
                                    refine v_iadd ok dL_law_759 ?_
                                    refine v_iald ok rfl dL_law_760 hf (fun v156 hf => ?_)
                                    refine v_cVi ok (RX7, TX7, 117) cf_7.1 [vi v153, vi v154, vi v155, vi v156] (F := fun a => X7_line a v153 v154 v155 v156 h152) (fun a v h1 _ hv => M_X7_line ok.2.2.2.2.2.2.1 (d := 10) (Nat.le_refl _) hv) (by omega) cw_X7_line q2548 q2549 q2550 dL_law_761 [vi v151] rfl (Nat.le_of_ble_eq_true rfl) hf (fun v157 h158 hf => ?_)
                                    refine v_icmp_eq ok 1241 dL_law_764 rfl hf (fun hf => ?_) (fun hf => ?_)
                                    ·
                                      refine v_iinc ok x3 (x3 + 6) dL_law_1241 rfl rfl (by decide) ?_
                                      refine v_goto ok 18 dL_law_1244 rfl ?_
                                      cases hf; exact hk _ ⟨rfl, rfl, rfl, rfl, trivial⟩
                                    ·
                                      refine v_iconst ok 0 dL_law_767 rfl ?_
                                      cases hf; exact absurd (show (0 : Int32) = 1 from hk.1) (by decide)
                                  ·
                                    refine sw_if (v := 16) hf (fun e_ hf => ?_) (fun n159 hf => ?_)
                                    ·
                                      refine v_tableIn ok 16 769 dL_law_33 e_ (by decide) (by decide) rfl rfl ?_
                                      refine v_aload_n ok 1 dL_law_769 rfl rfl ?_
                                      refine v_aload_n ok 0 dL_law_770 rfl rfl ?_
                                      refine v_iload_n ok 3 dL_law_771 rfl rfl ?_
                                      refine v_iconst ok 1 dL_law_772 rfl ?_
                                      refine v_iadd ok dL_law_773 ?_
                                      refine v_iald ok rfl dL_law_774 hf (fun v160 hf => ?_)
                                      refine v_aload_n ok 0 dL_law_775 rfl rfl ?_
                                      refine v_iload_n ok 3 dL_law_776 rfl rfl ?_
                                      refine v_iconst ok 2 dL_law_777 rfl ?_
                                      refine v_iadd ok dL_law_778 ?_
                                      refine v_iald ok rfl dL_law_779 hf (fun v161 hf => ?_)
                                      refine v_aload_n ok 0 dL_law_780 rfl rfl ?_
                                      refine v_iload_n ok 3 dL_law_781 rfl rfl ?_
                                      refine v_iconst ok 3 dL_law_782 rfl ?_
                                      refine v_iadd ok dL_law_783 ?_
                                      refine v_iald ok rfl dL_law_784 hf (fun v162 hf => ?_)
                                      refine v_aload_n ok 0 dL_law_785 rfl rfl ?_
                                      refine v_iload_n ok 3 dL_law_786 rfl rfl ?_
                                      refine v_iconst ok 4 dL_law_787 rfl ?_
                                      refine v_iadd ok dL_law_788 ?_
                                      refine v_iald ok rfl dL_law_789 hf (fun v163 hf => ?_)
                                      refine v_aload_n ok 0 dL_law_790 rfl rfl ?_
                                      refine v_iload_n ok 3 dL_law_791 rfl rfl ?_
                                      refine v_iconst ok 5 dL_law_792 rfl ?_
                                      refine v_iadd ok dL_law_793 ?_
                                      refine v_iald ok rfl dL_law_794 hf (fun v164 hf => ?_)
                                      refine v_cVi ok (RX0, TX0, 18) cf_0.1 [vi v160, vi v161, vi v162, vi v163, vi v164] (F := fun a => X0_piece va a v160 v161 v162 v163 v164 h) (fun a v h1 _ hv => M_X0_piece ok.2.2.2.2.2.2.1 hva (d := e + 13) (Nat.le_refl _) hv) (by omega) cw_X0_piece q1645 q1646 q1647 dL_law_795 [] rfl (Nat.le_of_ble_eq_true rfl) hf (fun v165 h166 hf => ?_)
                                      refine v_aload_n ok 2 dL_law_798 rfl rfl ?_
                                      refine v_aload_n ok 0 dL_law_799 rfl rfl ?_
                                      refine v_iload_n ok 3 dL_law_800 rfl rfl ?_
                                      refine v_iconst ok 1 dL_law_801 rfl ?_
                                      refine v_iadd ok dL_law_802 ?_
                                      refine v_iald ok rfl dL_law_803 hf (fun v167 hf => ?_)
                                      refine v_aload_n ok 0 dL_law_804 rfl rfl ?_
                                      refine v_iload_n ok 3 dL_law_805 rfl rfl ?_
                                      refine v_iconst ok 2 dL_law_806 rfl ?_
                                      refine v_iadd ok dL_law_807 ?_
                                      refine v_iald ok rfl dL_law_808 hf (fun v168 hf => ?_)
                                      refine v_aload_n ok 0 dL_law_809 rfl rfl ?_
                                      refine v_iload_n ok 3 dL_law_810 rfl rfl ?_
                                      refine v_iconst ok 3 dL_law_811 rfl ?_
                                      refine v_iadd ok dL_law_812 ?_
                                      refine v_iald ok rfl dL_law_813 hf (fun v169 hf => ?_)
                                      refine v_aload_n ok 0 dL_law_814 rfl rfl ?_
                                      refine v_iload_n ok 3 dL_law_815 rfl rfl ?_
                                      refine v_iconst ok 4 dL_law_816 rfl ?_
                                      refine v_iadd ok dL_law_817 ?_
                                      refine v_iald ok rfl dL_law_818 hf (fun v170 hf => ?_)
                                      refine v_aload_n ok 0 dL_law_819 rfl rfl ?_
                                      refine v_iload_n ok 3 dL_law_820 rfl rfl ?_
                                      refine v_iconst ok 5 dL_law_821 rfl ?_
                                      refine v_iadd ok dL_law_822 ?_
                                      refine v_iald ok rfl dL_law_823 hf (fun v171 hf => ?_)
                                      refine v_cVi ok (RX7, TX7, 117) cf_7.1 [vi v167, vi v168, vi v169, vi v170, vi v171] (F := fun a => X7_piece a v167 v168 v169 v170 v171 h166) (fun a v h1 _ hv => M_X7_piece ok.2.2.2.2.2.2.1 (d := 10) (Nat.le_refl _) hv) (by omega) cw_X7_piece q2579 q2580 q2581 dL_law_824 [vi v165] rfl (Nat.le_of_ble_eq_true rfl) hf (fun v172 h173 hf => ?_)
                                      refine v_icmp_eq ok 1241 dL_law_827 rfl hf (fun hf => ?_) (fun hf => ?_)
                                      ·
                                        refine v_iinc ok x3 (x3 + 6) dL_law_1241 rfl rfl (by decide) ?_
                                        refine v_goto ok 18 dL_law_1244 rfl ?_
                                        cases hf; exact hk _ ⟨rfl, rfl, rfl, rfl, trivial⟩
                                      ·
                                        refine v_iconst ok 0 dL_law_830 rfl ?_
                                        cases hf; exact absurd (show (0 : Int32) = 1 from hk.1) (by decide)
                                    ·
                                      refine sw_if (v := 17) hf (fun e_ hf => ?_) (fun n174 hf => ?_)
                                      ·
                                        refine v_tableIn ok 17 832 dL_law_33 e_ (by decide) (by decide) rfl rfl ?_
                                        refine v_aload_n ok 1 dL_law_832 rfl rfl ?_
                                        refine v_aload_n ok 0 dL_law_833 rfl rfl ?_
                                        refine v_iload_n ok 3 dL_law_834 rfl rfl ?_
                                        refine v_iconst ok 1 dL_law_835 rfl ?_
                                        refine v_iadd ok dL_law_836 ?_
                                        refine v_iald ok rfl dL_law_837 hf (fun v175 hf => ?_)
                                        refine v_cVi ok (RX0, TX0, 18) cf_0.1 [vi v175] (F := fun a => X0_best va a v175 h) (fun a v h1 _ hv => M_X0_best ok.2.2.2.2.2.2.1 hva (d := e + 13) (Nat.le_refl _) hv) (by omega) cw_X0_best q1649 q1650 q1651 dL_law_838 [] rfl (Nat.le_of_ble_eq_true rfl) hf (fun v176 h177 hf => ?_)
                                        refine v_aload_n ok 2 dL_law_841 rfl rfl ?_
                                        refine v_aload_n ok 0 dL_law_842 rfl rfl ?_
                                        refine v_iload_n ok 3 dL_law_843 rfl rfl ?_
                                        refine v_iconst ok 1 dL_law_844 rfl ?_
                                        refine v_iadd ok dL_law_845 ?_
                                        refine v_iald ok rfl dL_law_846 hf (fun v178 hf => ?_)
                                        refine v_cVi ok (RX7, TX7, 117) cf_7.1 [vi v178] (F := fun a => X7_best a v178 h177) (fun a v h1 _ hv => M_X7_best ok.2.2.2.2.2.2.1 (d := 10) (Nat.le_refl _) hv) (by omega) cw_X7_best q2583 q2584 q2585 dL_law_847 [vi v176] rfl (Nat.le_of_ble_eq_true rfl) hf (fun v179 h180 hf => ?_)
                                        refine v_icmp_eq ok 1241 dL_law_850 rfl hf (fun hf => ?_) (fun hf => ?_)
                                        ·
                                          refine v_iinc ok x3 (x3 + 6) dL_law_1241 rfl rfl (by decide) ?_
                                          refine v_goto ok 18 dL_law_1244 rfl ?_
                                          cases hf; exact hk _ ⟨rfl, rfl, rfl, rfl, trivial⟩
                                        ·
                                          refine v_iconst ok 0 dL_law_853 rfl ?_
                                          cases hf; exact absurd (show (0 : Int32) = 1 from hk.1) (by decide)
                                      ·
                                        refine sw_if (v := 18) hf (fun e_ hf => ?_) (fun n181 hf => ?_)
                                        ·
                                          refine v_tableIn ok 18 855 dL_law_33 e_ (by decide) (by decide) rfl rfl ?_
                                          refine v_aload_n ok 1 dL_law_855 rfl rfl ?_
                                          refine v_aload_n ok 0 dL_law_856 rfl rfl ?_
                                          refine v_iload_n ok 3 dL_law_857 rfl rfl ?_
                                          refine v_iconst ok 1 dL_law_858 rfl ?_
                                          refine v_iadd ok dL_law_859 ?_
                                          refine v_iald ok rfl dL_law_860 hf (fun v182 hf => ?_)
                                          refine v_aload_n ok 0 dL_law_861 rfl rfl ?_
                                          refine v_iload_n ok 3 dL_law_862 rfl rfl ?_
                                          refine v_iconst ok 2 dL_law_863 rfl ?_
                                          refine v_iadd ok dL_law_864 ?_
                                          refine v_iald ok rfl dL_law_865 hf (fun v183 hf => ?_)
                                          refine v_cVi ok (RX0, TX0, 18) cf_0.1 [vi v182, vi v183] (F := fun a => X0_hand va a v182 v183 h) (fun a v h1 _ hv => M_X0_hand ok.2.2.2.2.2.2.1 hva (d := e + 13) (Nat.le_refl _) hv) (by omega) cw_X0_hand q1654 q1655 q1656 dL_law_866 [] rfl (Nat.le_of_ble_eq_true rfl) hf (fun v184 h185 hf => ?_)
                                          refine v_aload_n ok 2 dL_law_869 rfl rfl ?_
                                          refine v_aload_n ok 0 dL_law_870 rfl rfl ?_
                                          refine v_iload_n ok 3 dL_law_871 rfl rfl ?_
                                          refine v_iconst ok 1 dL_law_872 rfl ?_
                                          refine v_iadd ok dL_law_873 ?_
                                          refine v_iald ok rfl dL_law_874 hf (fun v186 hf => ?_)
                                          refine v_aload_n ok 0 dL_law_875 rfl rfl ?_
                                          refine v_iload_n ok 3 dL_law_876 rfl rfl ?_
                                          refine v_iconst ok 2 dL_law_877 rfl ?_
                                          refine v_iadd ok dL_law_878 ?_
                                          refine v_iald ok rfl dL_law_879 hf (fun v187 hf => ?_)
                                          refine v_cVi ok (RX7, TX7, 117) cf_7.1 [vi v186, vi v187] (F := fun a => X7_hand a v186 v187 h185) (fun a v h1 _ hv => M_X7_hand ok.2.2.2.2.2.2.1 (d := 10) (Nat.le_refl _) hv) (by omega) cw_X7_hand q2587 q2588 q2589 dL_law_880 [vi v184] rfl (Nat.le_of_ble_eq_true rfl) hf (fun v188 h189 hf => ?_)
                                          refine v_icmp_eq ok 1241 dL_law_883 rfl hf (fun hf => ?_) (fun hf => ?_)
                                          ·
                                            refine v_iinc ok x3 (x3 + 6) dL_law_1241 rfl rfl (by decide) ?_
                                            refine v_goto ok 18 dL_law_1244 rfl ?_
                                            cases hf; exact hk _ ⟨rfl, rfl, rfl, rfl, trivial⟩
                                          ·
                                            refine v_iconst ok 0 dL_law_886 rfl ?_
                                            cases hf; exact absurd (show (0 : Int32) = 1 from hk.1) (by decide)
                                        ·
                                          refine sw_if (v := 19) hf (fun e_ hf => ?_) (fun n190 hf => ?_)
                                          ·
                                            refine v_tableIn ok 19 888 dL_law_33 e_ (by decide) (by decide) rfl rfl ?_
                                            refine v_aload_n ok 1 dL_law_888 rfl rfl ?_
                                            refine v_aload_n ok 0 dL_law_889 rfl rfl ?_
                                            refine v_iload_n ok 3 dL_law_890 rfl rfl ?_
                                            refine v_iconst ok 1 dL_law_891 rfl ?_
                                            refine v_iadd ok dL_law_892 ?_
                                            refine v_iald ok rfl dL_law_893 hf (fun v191 hf => ?_)
                                            refine v_cVi ok (RX0, TX0, 18) cf_0.1 [vi v191] (F := fun a => X0_been a v191 h) (fun a v h1 _ hv => M_X0_been ok.2.2.2.2.2.2.1 (d := 10) (Nat.le_refl _) hv) (by omega) cw_X0_been q1658 q1659 q1660 dL_law_894 [] rfl (Nat.le_of_ble_eq_true rfl) hf (fun v192 h193 hf => ?_)
                                            refine v_aload_n ok 2 dL_law_897 rfl rfl ?_
                                            refine v_aload_n ok 0 dL_law_898 rfl rfl ?_
                                            refine v_iload_n ok 3 dL_law_899 rfl rfl ?_
                                            refine v_iconst ok 1 dL_law_900 rfl ?_
                                            refine v_iadd ok dL_law_901 ?_
                                            refine v_iald ok rfl dL_law_902 hf (fun v194 hf => ?_)
                                            refine v_cVi ok (RX7, TX7, 117) cf_7.1 [vi v194] (F := fun a => X7_been a v194 h193) (fun a v h1 _ hv => M_X7_been ok.2.2.2.2.2.2.1 (d := 5) (Nat.le_refl _) hv) (by omega) cw_X7_been q2591 q2592 q2593 dL_law_903 [vi v192] rfl (Nat.le_of_ble_eq_true rfl) hf (fun v195 h196 hf => ?_)
                                            refine v_icmp_eq ok 1241 dL_law_906 rfl hf (fun hf => ?_) (fun hf => ?_)
                                            ·
                                              refine v_iinc ok x3 (x3 + 6) dL_law_1241 rfl rfl (by decide) ?_
                                              refine v_goto ok 18 dL_law_1244 rfl ?_
                                              cases hf; exact hk _ ⟨rfl, rfl, rfl, rfl, trivial⟩
                                            ·
                                              refine v_iconst ok 0 dL_law_909 rfl ?_
                                              cases hf; exact absurd (show (0 : Int32) = 1 from hk.1) (by decide)
                                          ·
                                            refine sw_if (v := 20) hf (fun e_ hf => ?_) (fun n197 hf => ?_)
                                            ·
                                              refine v_tableIn ok 20 911 dL_law_33 e_ (by decide) (by decide) rfl rfl ?_
                                              refine v_aload_n ok 1 dL_law_911 rfl rfl ?_
                                              refine v_aload_n ok 0 dL_law_912 rfl rfl ?_
                                              refine v_iload_n ok 3 dL_law_913 rfl rfl ?_
                                              refine v_iconst ok 1 dL_law_914 rfl ?_
                                              refine v_iadd ok dL_law_915 ?_
                                              refine v_iald ok rfl dL_law_916 hf (fun v198 hf => ?_)
                                              refine v_cVi ok (RX0, TX0, 18) cf_0.1 [vi v198] (F := fun a => X0_lasts va th a v198 h) (fun a v h1 _ hv => M_X0_lasts ok.2.2.2.2.2.2.1 hva hth (d := e + 10) (Nat.le_refl _) hv) (by omega) cw_X0_lasts q1666 q1667 q1668 dL_law_917 [] rfl (Nat.le_of_ble_eq_true rfl) hf (fun v199 h200 hf => ?_)
                                              refine v_aload_n ok 2 dL_law_920 rfl rfl ?_
                                              refine v_aload_n ok 0 dL_law_921 rfl rfl ?_
                                              refine v_iload_n ok 3 dL_law_922 rfl rfl ?_
                                              refine v_iconst ok 1 dL_law_923 rfl ?_
                                              refine v_iadd ok dL_law_924 ?_
                                              refine v_iald ok rfl dL_law_925 hf (fun v201 hf => ?_)
                                              refine v_cVi ok (RX7, TX7, 117) cf_7.1 [vi v201] (F := fun a => X7_lasts a v201 h200) (fun a v h1 _ hv => M_X7_lasts ok.2.2.2.2.2.2.1 (d := 10) (Nat.le_refl _) hv) (by omega) cw_X7_lasts q2599 q2600 q2601 dL_law_926 [vi v199] rfl (Nat.le_of_ble_eq_true rfl) hf (fun v202 h203 hf => ?_)
                                              refine v_icmp_eq ok 1241 dL_law_929 rfl hf (fun hf => ?_) (fun hf => ?_)
                                              ·
                                                refine v_iinc ok x3 (x3 + 6) dL_law_1241 rfl rfl (by decide) ?_
                                                refine v_goto ok 18 dL_law_1244 rfl ?_
                                                cases hf; exact hk _ ⟨rfl, rfl, rfl, rfl, trivial⟩
                                              ·
                                                refine v_iconst ok 0 dL_law_932 rfl ?_
                                                cases hf; exact absurd (show (0 : Int32) = 1 from hk.1) (by decide)
                                            ·
                                              refine sw_if (v := 21) hf (fun e_ hf => ?_) (fun n204 hf => ?_)
                                              ·
                                                refine v_tableIn ok 21 934 dL_law_33 e_ (by decide) (by decide) rfl rfl ?_
                                                refine v_aload_n ok 1 dL_law_934 rfl rfl ?_
                                                refine v_aload_n ok 0 dL_law_935 rfl rfl ?_
                                                refine v_iload_n ok 3 dL_law_936 rfl rfl ?_
                                                refine v_iconst ok 1 dL_law_937 rfl ?_
                                                refine v_iadd ok dL_law_938 ?_
                                                refine v_iald ok rfl dL_law_939 hf (fun v205 hf => ?_)
                                                refine v_aload_n ok 0 dL_law_940 rfl rfl ?_
                                                refine v_iload_n ok 3 dL_law_941 rfl rfl ?_
                                                refine v_iconst ok 2 dL_law_942 rfl ?_
                                                refine v_iadd ok dL_law_943 ?_
                                                refine v_iald ok rfl dL_law_944 hf (fun v206 hf => ?_)
                                                refine v_aload_n ok 0 dL_law_945 rfl rfl ?_
                                                refine v_iload_n ok 3 dL_law_946 rfl rfl ?_
                                                refine v_iconst ok 3 dL_law_947 rfl ?_
                                                refine v_iadd ok dL_law_948 ?_
                                                refine v_iald ok rfl dL_law_949 hf (fun v207 hf => ?_)
                                                refine v_cVi ok (RX0, TX0, 18) cf_0.1 [vi v205, vi v206, vi v207] (F := fun a => X0_mend va a v205 v206 v207 h) (fun a v h1 _ hv => M_X0_mend ok.2.2.2.2.2.2.1 hva (d := e + 6) (Nat.le_refl _) hv) (by omega) cw_X0_mend q1675 q1676 q1677 dL_law_950 [] rfl (Nat.le_of_ble_eq_true rfl) hf (fun v208 h209 hf => ?_)
                                                refine v_aload_n ok 2 dL_law_953 rfl rfl ?_
                                                refine v_aload_n ok 0 dL_law_954 rfl rfl ?_
                                                refine v_iload_n ok 3 dL_law_955 rfl rfl ?_
                                                refine v_iconst ok 1 dL_law_956 rfl ?_
                                                refine v_iadd ok dL_law_957 ?_
                                                refine v_iald ok rfl dL_law_958 hf (fun v210 hf => ?_)
                                                refine v_aload_n ok 0 dL_law_959 rfl rfl ?_
                                                refine v_iload_n ok 3 dL_law_960 rfl rfl ?_
                                                refine v_iconst ok 2 dL_law_961 rfl ?_
                                                refine v_iadd ok dL_law_962 ?_
                                                refine v_iald ok rfl dL_law_963 hf (fun v211 hf => ?_)
                                                refine v_aload_n ok 0 dL_law_964 rfl rfl ?_
                                                refine v_iload_n ok 3 dL_law_965 rfl rfl ?_
                                                refine v_iconst ok 3 dL_law_966 rfl ?_
                                                refine v_iadd ok dL_law_967 ?_
                                                refine v_iald ok rfl dL_law_968 hf (fun v212 hf => ?_)
                                                refine v_cVi ok (RX7, TX7, 117) cf_7.1 [vi v210, vi v211, vi v212] (F := fun a => X7_mend a v210 v211 v212 h209) (fun a v h1 _ hv => M_X7_mend ok.2.2.2.2.2.2.1 (d := 8) (Nat.le_refl _) hv) (by omega) cw_X7_mend q2607 q2608 q2609 dL_law_969 [vi v208] rfl (Nat.le_of_ble_eq_true rfl) hf (fun v213 h214 hf => ?_)
                                                refine v_icmp_eq ok 1241 dL_law_972 rfl hf (fun hf => ?_) (fun hf => ?_)
                                                ·
                                                  refine v_iinc ok x3 (x3 + 6) dL_law_1241 rfl rfl (by decide) ?_
                                                  refine v_goto ok 18 dL_law_1244 rfl ?_
                                                  cases hf; exact hk _ ⟨rfl, rfl, rfl, rfl, trivial⟩
                                                ·
                                                  refine v_iconst ok 0 dL_law_975 rfl ?_
                                                  cases hf; exact absurd (show (0 : Int32) = 1 from hk.1) (by decide)
                                              ·
                                                refine sw_if (v := 22) hf (fun e_ hf => ?_) (fun n215 hf => ?_)
                                                ·
                                                  refine v_tableIn ok 22 977 dL_law_33 e_ (by decide) (by decide) rfl rfl ?_
                                                  refine v_aload_n ok 1 dL_law_977 rfl rfl ?_
                                                  refine v_aload_n ok 0 dL_law_978 rfl rfl ?_
                                                  refine v_iload_n ok 3 dL_law_979 rfl rfl ?_
                                                  refine v_iconst ok 1 dL_law_980 rfl ?_
                                                  refine v_iadd ok dL_law_981 ?_
                                                  refine v_iald ok rfl dL_law_982 hf (fun v216 hf => ?_)
                                                  refine v_cVi ok (RX0, TX0, 18) cf_0.1 [vi v216] (F := fun a => X0_years va th a v216 h) (fun a v h1 _ hv => M_X0_years ok.2.2.2.2.2.2.1 hva hth (d := e + 10) (Nat.le_refl _) hv) (by omega) cw_X0_years q1684 q1685 q1686 dL_law_983 [] rfl (Nat.le_of_ble_eq_true rfl) hf (fun v217 h218 hf => ?_)
                                                  refine v_aload_n ok 2 dL_law_986 rfl rfl ?_
                                                  refine v_aload_n ok 0 dL_law_987 rfl rfl ?_
                                                  refine v_iload_n ok 3 dL_law_988 rfl rfl ?_
                                                  refine v_iconst ok 1 dL_law_989 rfl ?_
                                                  refine v_iadd ok dL_law_990 ?_
                                                  refine v_iald ok rfl dL_law_991 hf (fun v219 hf => ?_)
                                                  refine v_cVi ok (RX7, TX7, 117) cf_7.1 [vi v219] (F := fun a => X7_years a v219 h218) (fun a v h1 _ hv => M_X7_years ok.2.2.2.2.2.2.1 (d := 11) (Nat.le_refl _) hv) (by omega) cw_X7_years q2615 q2616 q2617 dL_law_992 [vi v217] rfl (Nat.le_of_ble_eq_true rfl) hf (fun v220 h221 hf => ?_)
                                                  refine v_icmp_eq ok 1241 dL_law_995 rfl hf (fun hf => ?_) (fun hf => ?_)
                                                  ·
                                                    refine v_iinc ok x3 (x3 + 6) dL_law_1241 rfl rfl (by decide) ?_
                                                    refine v_goto ok 18 dL_law_1244 rfl ?_
                                                    cases hf; exact hk _ ⟨rfl, rfl, rfl, rfl, trivial⟩
                                                  ·
                                                    refine v_iconst ok 0 dL_law_998 rfl ?_
                                                    cases hf; exact absurd (show (0 : Int32) = 1 from hk.1) (by decide)
                                                ·
                                                  refine sw_if (v := 23) hf (fun e_ hf => ?_) (fun n222 hf => ?_)
                                                  ·
                                                    refine v_tableIn ok 23 1000 dL_law_33 e_ (by decide) (by decide) rfl rfl ?_
                                                    refine v_aload_n ok 1 dL_law_1000 rfl rfl ?_
                                                    refine v_aload_n ok 0 dL_law_1001 rfl rfl ?_
                                                    refine v_iload_n ok 3 dL_law_1002 rfl rfl ?_
                                                    refine v_iconst ok 1 dL_law_1003 rfl ?_
                                                    refine v_iadd ok dL_law_1004 ?_
                                                    refine v_iald ok rfl dL_law_1005 hf (fun v223 hf => ?_)
                                                    refine v_cVi ok (RX0, TX0, 18) cf_0.1 [vi v223] (F := fun a => X0_chance va th a v223 h) (fun a v h1 _ hv => M_X0_chance ok.2.2.2.2.2.2.1 hva hth (d := e + 9) (Nat.le_refl _) hv) (by omega) cw_X0_chance q1692 q1693 q1694 dL_law_1006 [] rfl (Nat.le_of_ble_eq_true rfl) hf (fun v224 h225 hf => ?_)
                                                    refine v_aload_n ok 2 dL_law_1009 rfl rfl ?_
                                                    refine v_aload_n ok 0 dL_law_1010 rfl rfl ?_
                                                    refine v_iload_n ok 3 dL_law_1011 rfl rfl ?_
                                                    refine v_iconst ok 1 dL_law_1012 rfl ?_
                                                    refine v_iadd ok dL_law_1013 ?_
                                                    refine v_iald ok rfl dL_law_1014 hf (fun v226 hf => ?_)
                                                    refine v_cVi ok (RX7, TX7, 117) cf_7.1 [vi v226] (F := fun a => X7_chance a v226 h225) (fun a v h1 _ hv => M_X7_chance ok.2.2.2.2.2.2.1 (d := 10) (Nat.le_refl _) hv) (by omega) cw_X7_chance q2631 q2632 q2633 dL_law_1015 [vi v224] rfl (Nat.le_of_ble_eq_true rfl) hf (fun v227 h228 hf => ?_)
                                                    refine v_icmp_eq ok 1241 dL_law_1018 rfl hf (fun hf => ?_) (fun hf => ?_)
                                                    ·
                                                      refine v_iinc ok x3 (x3 + 6) dL_law_1241 rfl rfl (by decide) ?_
                                                      refine v_goto ok 18 dL_law_1244 rfl ?_
                                                      cases hf; exact hk _ ⟨rfl, rfl, rfl, rfl, trivial⟩
                                                    ·
                                                      refine v_iconst ok 0 dL_law_1021 rfl ?_
                                                      cases hf; exact absurd (show (0 : Int32) = 1 from hk.1) (by decide)
                                                  ·
                                                    refine sw_if (v := 24) hf (fun e_ hf => ?_) (fun n229 hf => ?_)
                                                    ·
                                                      refine v_tableIn ok 24 1023 dL_law_33 e_ (by decide) (by decide) rfl rfl ?_
                                                      refine v_aload_n ok 1 dL_law_1023 rfl rfl ?_
                                                      refine v_aload_n ok 0 dL_law_1024 rfl rfl ?_
                                                      refine v_iload_n ok 3 dL_law_1025 rfl rfl ?_
                                                      refine v_iconst ok 1 dL_law_1026 rfl ?_
                                                      refine v_iadd ok dL_law_1027 ?_
                                                      refine v_iald ok rfl dL_law_1028 hf (fun v230 hf => ?_)
                                                      refine v_aload_n ok 0 dL_law_1029 rfl rfl ?_
                                                      refine v_iload_n ok 3 dL_law_1030 rfl rfl ?_
                                                      refine v_iconst ok 2 dL_law_1031 rfl ?_
                                                      refine v_iadd ok dL_law_1032 ?_
                                                      refine v_iald ok rfl dL_law_1033 hf (fun v231 hf => ?_)
                                                      refine v_aload_n ok 0 dL_law_1034 rfl rfl ?_
                                                      refine v_iload_n ok 3 dL_law_1035 rfl rfl ?_
                                                      refine v_iconst ok 3 dL_law_1036 rfl ?_
                                                      refine v_iadd ok dL_law_1037 ?_
                                                      refine v_iald ok rfl dL_law_1038 hf (fun v232 hf => ?_)
                                                      refine v_aload_n ok 0 dL_law_1039 rfl rfl ?_
                                                      refine v_iload_n ok 3 dL_law_1040 rfl rfl ?_
                                                      refine v_iconst ok 4 dL_law_1041 rfl ?_
                                                      refine v_iadd ok dL_law_1042 ?_
                                                      refine v_iald ok rfl dL_law_1043 hf (fun v233 hf => ?_)
                                                      refine v_cVi ok (RX0, TX0, 18) cf_0.1 [vi v230, vi v231, vi v232, vi v233] (F := fun a => X0_stroke a v230 v231 v232 v233 h) (fun a v h1 _ hv => M_X0_stroke ok.2.2.2.2.2.2.1 (d := 6) (Nat.le_refl _) hv) (by omega) cw_X0_stroke q1698 q1699 q1700 dL_law_1044 [] rfl (Nat.le_of_ble_eq_true rfl) hf (fun v234 h235 hf => ?_)
                                                      refine v_aload_n ok 2 dL_law_1047 rfl rfl ?_
                                                      refine v_aload_n ok 0 dL_law_1048 rfl rfl ?_
                                                      refine v_iload_n ok 3 dL_law_1049 rfl rfl ?_
                                                      refine v_iconst ok 1 dL_law_1050 rfl ?_
                                                      refine v_iadd ok dL_law_1051 ?_
                                                      refine v_iald ok rfl dL_law_1052 hf (fun v236 hf => ?_)
                                                      refine v_aload_n ok 0 dL_law_1053 rfl rfl ?_
                                                      refine v_iload_n ok 3 dL_law_1054 rfl rfl ?_
                                                      refine v_iconst ok 2 dL_law_1055 rfl ?_
                                                      refine v_iadd ok dL_law_1056 ?_
                                                      refine v_iald ok rfl dL_law_1057 hf (fun v237 hf => ?_)
                                                      refine v_aload_n ok 0 dL_law_1058 rfl rfl ?_
                                                      refine v_iload_n ok 3 dL_law_1059 rfl rfl ?_
                                                      refine v_iconst ok 3 dL_law_1060 rfl ?_
                                                      refine v_iadd ok dL_law_1061 ?_
                                                      refine v_iald ok rfl dL_law_1062 hf (fun v238 hf => ?_)
                                                      refine v_aload_n ok 0 dL_law_1063 rfl rfl ?_
                                                      refine v_iload_n ok 3 dL_law_1064 rfl rfl ?_
                                                      refine v_iconst ok 4 dL_law_1065 rfl ?_
                                                      refine v_iadd ok dL_law_1066 ?_
                                                      refine v_iald ok rfl dL_law_1067 hf (fun v239 hf => ?_)
                                                      refine v_cVi ok (RX7, TX7, 117) cf_7.1 [vi v236, vi v237, vi v238, vi v239] (F := fun a => X7_stroke a v236 v237 v238 v239 h235) (fun a v h1 _ hv => M_X7_stroke ok.2.2.2.2.2.2.1 (d := 4) (Nat.le_refl _) hv) (by omega) cw_X7_stroke q2647 q2648 q2649 dL_law_1068 [vi v234] rfl (Nat.le_of_ble_eq_true rfl) hf (fun v240 h241 hf => ?_)
                                                      refine v_icmp_eq ok 1241 dL_law_1071 rfl hf (fun hf => ?_) (fun hf => ?_)
                                                      ·
                                                        refine v_iinc ok x3 (x3 + 6) dL_law_1241 rfl rfl (by decide) ?_
                                                        refine v_goto ok 18 dL_law_1244 rfl ?_
                                                        cases hf; exact hk _ ⟨rfl, rfl, rfl, rfl, trivial⟩
                                                      ·
                                                        refine v_iconst ok 0 dL_law_1074 rfl ?_
                                                        cases hf; exact absurd (show (0 : Int32) = 1 from hk.1) (by decide)
                                                    ·
                                                      refine sw_if (v := 25) hf (fun e_ hf => ?_) (fun n242 hf => ?_)
                                                      ·
                                                        refine v_tableIn ok 25 1076 dL_law_33 e_ (by decide) (by decide) rfl rfl ?_
                                                        refine v_aload_n ok 1 dL_law_1076 rfl rfl ?_
                                                        refine v_aload_n ok 0 dL_law_1077 rfl rfl ?_
                                                        refine v_iload_n ok 3 dL_law_1078 rfl rfl ?_
                                                        refine v_iconst ok 1 dL_law_1079 rfl ?_
                                                        refine v_iadd ok dL_law_1080 ?_
                                                        refine v_iald ok rfl dL_law_1081 hf (fun v243 hf => ?_)
                                                        refine v_aload_n ok 0 dL_law_1082 rfl rfl ?_
                                                        refine v_iload_n ok 3 dL_law_1083 rfl rfl ?_
                                                        refine v_iconst ok 2 dL_law_1084 rfl ?_
                                                        refine v_iadd ok dL_law_1085 ?_
                                                        refine v_iald ok rfl dL_law_1086 hf (fun v244 hf => ?_)
                                                        refine v_aload_n ok 0 dL_law_1087 rfl rfl ?_
                                                        refine v_iload_n ok 3 dL_law_1088 rfl rfl ?_
                                                        refine v_iconst ok 3 dL_law_1089 rfl ?_
                                                        refine v_iadd ok dL_law_1090 ?_
                                                        refine v_iald ok rfl dL_law_1091 hf (fun v245 hf => ?_)
                                                        refine v_cVi ok (RX0, TX0, 18) cf_0.1 [vi v243, vi v244, vi v245] (F := fun a => X0_paint a v243 v244 v245 h) (fun a v h1 _ hv => M_X0_paint ok.2.2.2.2.2.2.1 (d := 9) (Nat.le_refl _) hv) (by omega) cw_X0_paint q1702 q1703 q1704 dL_law_1092 [] rfl (Nat.le_of_ble_eq_true rfl) hf (fun v246 h247 hf => ?_)
                                                        refine v_aload_n ok 2 dL_law_1095 rfl rfl ?_
                                                        refine v_aload_n ok 0 dL_law_1096 rfl rfl ?_
                                                        refine v_iload_n ok 3 dL_law_1097 rfl rfl ?_
                                                        refine v_iconst ok 1 dL_law_1098 rfl ?_
                                                        refine v_iadd ok dL_law_1099 ?_
                                                        refine v_iald ok rfl dL_law_1100 hf (fun v248 hf => ?_)
                                                        refine v_aload_n ok 0 dL_law_1101 rfl rfl ?_
                                                        refine v_iload_n ok 3 dL_law_1102 rfl rfl ?_
                                                        refine v_iconst ok 2 dL_law_1103 rfl ?_
                                                        refine v_iadd ok dL_law_1104 ?_
                                                        refine v_iald ok rfl dL_law_1105 hf (fun v249 hf => ?_)
                                                        refine v_aload_n ok 0 dL_law_1106 rfl rfl ?_
                                                        refine v_iload_n ok 3 dL_law_1107 rfl rfl ?_
                                                        refine v_iconst ok 3 dL_law_1108 rfl ?_
                                                        refine v_iadd ok dL_law_1109 ?_
                                                        refine v_iald ok rfl dL_law_1110 hf (fun v250 hf => ?_)
                                                        refine v_cVi ok (RX7, TX7, 117) cf_7.1 [vi v248, vi v249, vi v250] (F := fun a => X7_paint a v248 v249 v250 h247) (fun a v h1 _ hv => M_X7_paint ok.2.2.2.2.2.2.1 (d := 4) (Nat.le_refl _) hv) (by omega) cw_X7_paint q2656 q2657 q2658 dL_law_1111 [vi v246] rfl (Nat.le_of_ble_eq_true rfl) hf (fun v251 h252 hf => ?_)
                                                        refine v_icmp_eq ok 1241 dL_law_1114 rfl hf (fun hf => ?_) (fun hf => ?_)
                                                        ·
                                                          refine v_iinc ok x3 (x3 + 6) dL_law_1241 rfl rfl (by decide) ?_
                                                          refine v_goto ok 18 dL_law_1244 rfl ?_
                                                          cases hf; exact hk _ ⟨rfl, rfl, rfl, rfl, trivial⟩
                                                        ·
                                                          refine v_iconst ok 0 dL_law_1117 rfl ?_
                                                          cases hf; exact absurd (show (0 : Int32) = 1 from hk.1) (by decide)
                                                      ·
                                                        refine sw_if (v := 26) hf (fun e_ hf => ?_) (fun n253 hf => ?_)
                                                        ·
                                                          refine v_tableIn ok 26 1119 dL_law_33 e_ (by decide) (by decide) rfl rfl ?_
                                                          refine v_aload_n ok 1 dL_law_1119 rfl rfl ?_
                                                          refine v_cVi ok (RX0, TX0, 18) cf_0.1 [] (F := fun a => X0_undo a h) (fun a v h1 _ hv => M_X0_undo ok.2.2.2.2.2.2.1 (d := 2) (Nat.le_refl _) hv) (by omega) cw_X0_undo q1680 q1681 q1682 dL_law_1120 [] rfl (Nat.le_of_ble_eq_true rfl) hf (fun v254 h255 hf => ?_)
                                                          refine v_aload_n ok 2 dL_law_1123 rfl rfl ?_
                                                          refine v_cVi ok (RX7, TX7, 117) cf_7.1 [] (F := fun a => X7_undo a h255) (fun a v h1 _ hv => M_X7_undo ok.2.2.2.2.2.2.1 (d := 1) (Nat.le_refl _) hv) (by omega) cw_X7_undo q2611 q2612 q2613 dL_law_1124 [vi v254] rfl (Nat.le_of_ble_eq_true rfl) hf (fun v256 h257 hf => ?_)
                                                          refine v_icmp_eq ok 1241 dL_law_1127 rfl hf (fun hf => ?_) (fun hf => ?_)
                                                          ·
                                                            refine v_iinc ok x3 (x3 + 6) dL_law_1241 rfl rfl (by decide) ?_
                                                            refine v_goto ok 18 dL_law_1244 rfl ?_
                                                            cases hf; exact hk _ ⟨rfl, rfl, rfl, rfl, trivial⟩
                                                          ·
                                                            refine v_iconst ok 0 dL_law_1130 rfl ?_
                                                            cases hf; exact absurd (show (0 : Int32) = 1 from hk.1) (by decide)
                                                        ·
                                                          refine sw_if (v := 27) hf (fun e_ hf => ?_) (fun n258 hf => ?_)
                                                          ·
                                                            refine v_tableIn ok 27 1132 dL_law_33 e_ (by decide) (by decide) rfl rfl ?_
                                                            refine v_aload_n ok 1 dL_law_1132 rfl rfl ?_
                                                            refine v_aload_n ok 0 dL_law_1133 rfl rfl ?_
                                                            refine v_iload_n ok 3 dL_law_1134 rfl rfl ?_
                                                            refine v_iconst ok 1 dL_law_1135 rfl ?_
                                                            refine v_iadd ok dL_law_1136 ?_
                                                            refine v_iald ok rfl dL_law_1137 hf (fun v259 hf => ?_)
                                                            refine v_cVi ok (RX0, TX0, 18) cf_0.1 [vi v259] (F := fun a => X0_seed a v259 h) (fun a v h1 _ hv => M_X0_seed ok.2.2.2.2.2.2.1 (d := 2) (Nat.le_refl _) hv) (by omega) cw_X0_seed q1707 q1708 q1709 dL_law_1138 [] rfl (Nat.le_of_ble_eq_true rfl) hf (fun v260 h261 hf => ?_)
                                                            refine v_aload_n ok 2 dL_law_1141 rfl rfl ?_
                                                            refine v_aload_n ok 0 dL_law_1142 rfl rfl ?_
                                                            refine v_iload_n ok 3 dL_law_1143 rfl rfl ?_
                                                            refine v_iconst ok 1 dL_law_1144 rfl ?_
                                                            refine v_iadd ok dL_law_1145 ?_
                                                            refine v_iald ok rfl dL_law_1146 hf (fun v262 hf => ?_)
                                                            refine v_cVi ok (RX7, TX7, 117) cf_7.1 [vi v262] (F := fun a => X7_seed a v262 h261) (fun a v h1 _ hv => M_X7_seed ok.2.2.2.2.2.2.1 (d := 1) (Nat.le_refl _) hv) (by omega) cw_X7_seed q2627 q2628 q2629 dL_law_1147 [vi v260] rfl (Nat.le_of_ble_eq_true rfl) hf (fun v263 h264 hf => ?_)
                                                            refine v_icmp_eq ok 1241 dL_law_1150 rfl hf (fun hf => ?_) (fun hf => ?_)
                                                            ·
                                                              refine v_iinc ok x3 (x3 + 6) dL_law_1241 rfl rfl (by decide) ?_
                                                              refine v_goto ok 18 dL_law_1244 rfl ?_
                                                              cases hf; exact hk _ ⟨rfl, rfl, rfl, rfl, trivial⟩
                                                            ·
                                                              refine v_iconst ok 0 dL_law_1153 rfl ?_
                                                              cases hf; exact absurd (show (0 : Int32) = 1 from hk.1) (by decide)
                                                          ·
                                                            refine sw_if (v := 28) hf (fun e_ hf => ?_) (fun n265 hf => ?_)
                                                            ·
                                                              refine v_tableIn ok 28 1155 dL_law_33 e_ (by decide) (by decide) rfl rfl ?_
                                                              refine v_aload_n ok 1 dL_law_1155 rfl rfl ?_
                                                              refine v_cWl ok (RX0, TX0, 18) cf_0.1 [] (F := fun a => X0_ask va th pa pf a h) (fun a v h1 _ hv => M_X0_ask ok.2.2.2.2.2.2.1 hva hth hpa hpf (d := e + 14) (Nat.le_refl _) hv) (by omega) cw_X0_ask q1711 q1712 q1713 dL_law_1156 [] rfl (Nat.le_of_ble_eq_true rfl) hf (fun v266 h267 hf => ?_)
                                                              refine v_aload_n ok 2 dL_law_1159 rfl rfl ?_
                                                              refine v_cVl ok (RX7, TX7, 117) cf_7.1 [] (F := fun a => X7_ask a h267) (fun a v h1 _ hv => M_X7_ask ok.2.2.2.2.2.2.1 (d := 10) (Nat.le_refl _) hv) (by omega) cw_X7_ask q2660 q2661 q2662 dL_law_1160 [vl v266] rfl (Nat.le_of_ble_eq_true rfl) hf (fun v268 h269 hf => ?_)
                                                              refine v_lcmp ok dL_law_1163 ?_
                                                              refine v_if_eq ok 1241 dL_law_1164 rfl hf (fun hf => ?_) (fun hf => ?_)
                                                              ·
                                                                refine v_iinc ok x3 (x3 + 6) dL_law_1241 rfl rfl (by decide) ?_
                                                                refine v_goto ok 18 dL_law_1244 rfl ?_
                                                                cases hf; exact hk _ ⟨rfl, rfl, rfl, rfl, trivial⟩
                                                              ·
                                                                refine v_iconst ok 0 dL_law_1167 rfl ?_
                                                                cases hf; exact absurd (show (0 : Int32) = 1 from hk.1) (by decide)
                                                            ·
                                                              refine sw_if (v := 29) hf (fun e_ hf => ?_) (fun n270 hf => ?_)
                                                              ·
                                                                refine v_tableIn ok 29 1169 dL_law_33 e_ (by decide) (by decide) rfl rfl ?_
                                                                refine v_aload_n ok 1 dL_law_1169 rfl rfl ?_
                                                                refine v_cVi ok (RX0, TX0, 18) cf_0.1 [] (F := fun a => X0_image a h) (fun a v h1 _ hv => M_X0_image ok.2.2.2.2.2.2.1 (d := 3) (Nat.le_refl _) hv) (by omega) cw_X0_image q1760 q1761 q1762 dL_law_1170 [] rfl (Nat.le_of_ble_eq_true rfl) hf (fun v271 h272 hf => ?_)
                                                                refine v_aload_n ok 2 dL_law_1173 rfl rfl ?_
                                                                refine v_cVi ok (RX7, TX7, 117) cf_7.1 [] (F := fun a => X7_image a h272) (fun a v h1 _ hv => M_X7_image ok.2.2.2.2.2.2.1 (d := 3) (Nat.le_refl _) hv) (by omega) cw_X7_image q2681 q2682 q2683 dL_law_1174 [vi v271] rfl (Nat.le_of_ble_eq_true rfl) hf (fun v273 h274 hf => ?_)
                                                                refine v_icmp_eq ok 1241 dL_law_1177 rfl hf (fun hf => ?_) (fun hf => ?_)
                                                                ·
                                                                  refine v_iinc ok x3 (x3 + 6) dL_law_1241 rfl rfl (by decide) ?_
                                                                  refine v_goto ok 18 dL_law_1244 rfl ?_
                                                                  cases hf; exact hk _ ⟨rfl, rfl, rfl, rfl, trivial⟩
                                                                ·
                                                                  refine v_iconst ok 0 dL_law_1180 rfl ?_
                                                                  cases hf; exact absurd (show (0 : Int32) = 1 from hk.1) (by decide)
                                                              ·
                                                                refine sw_if (v := 30) hf (fun e_ hf => ?_) (fun n275 hf => ?_)
                                                                ·
                                                                  refine v_tableIn ok 30 1182 dL_law_33 e_ (by decide) (by decide) rfl rfl ?_
                                                                  refine v_aload_n ok 1 dL_law_1182 rfl rfl ?_
                                                                  refine v_aload_n ok 0 dL_law_1183 rfl rfl ?_
                                                                  refine v_iload_n ok 3 dL_law_1184 rfl rfl ?_
                                                                  refine v_iconst ok 1 dL_law_1185 rfl ?_
                                                                  refine v_iadd ok dL_law_1186 ?_
                                                                  refine v_iald ok rfl dL_law_1187 hf (fun v276 hf => ?_)
                                                                  refine v_cVi ok (RX0, TX0, 18) cf_0.1 [vi v276] (F := fun a => X0_octet a v276 h) (fun a v h1 _ hv => M_X0_octet ok.2.2.2.2.2.2.1 (d := 1) (Nat.le_refl _) hv) (by omega) cw_X0_octet q1771 q1772 q1773 dL_law_1188 [] rfl (Nat.le_of_ble_eq_true rfl) hf (fun v277 h278 hf => ?_)
                                                                  refine v_aload_n ok 2 dL_law_1191 rfl rfl ?_
                                                                  refine v_aload_n ok 0 dL_law_1192 rfl rfl ?_
                                                                  refine v_iload_n ok 3 dL_law_1193 rfl rfl ?_
                                                                  refine v_iconst ok 1 dL_law_1194 rfl ?_
                                                                  refine v_iadd ok dL_law_1195 ?_
                                                                  refine v_iald ok rfl dL_law_1196 hf (fun v279 hf => ?_)
                                                                  refine v_cVi ok (RX7, TX7, 117) cf_7.1 [vi v279] (F := fun a => X7_octet a v279 h278) (fun a v h1 _ hv => M_X7_octet ok.2.2.2.2.2.2.1 (d := 1) (Nat.le_refl _) hv) (by omega) cw_X7_octet q2696 q2697 q2698 dL_law_1197 [vi v277] rfl (Nat.le_of_ble_eq_true rfl) hf (fun v280 h281 hf => ?_)
                                                                  refine v_icmp_eq ok 1241 dL_law_1200 rfl hf (fun hf => ?_) (fun hf => ?_)
                                                                  ·
                                                                    refine v_iinc ok x3 (x3 + 6) dL_law_1241 rfl rfl (by decide) ?_
                                                                    refine v_goto ok 18 dL_law_1244 rfl ?_
                                                                    cases hf; exact hk _ ⟨rfl, rfl, rfl, rfl, trivial⟩
                                                                  ·
                                                                    refine v_iconst ok 0 dL_law_1203 rfl ?_
                                                                    cases hf; exact absurd (show (0 : Int32) = 1 from hk.1) (by decide)
                                                                ·
                                                                  refine sw_if (v := 31) hf (fun e_ hf => ?_) (fun n282 hf => ?_)
                                                                  ·
                                                                    refine v_tableIn ok 31 1205 dL_law_33 e_ (by decide) (by decide) rfl rfl ?_
                                                                    refine v_aload_n ok 1 dL_law_1205 rfl rfl ?_
                                                                    refine v_cVi ok (RX0, TX0, 18) cf_0.1 [] (F := fun a => X0_on a h) (fun a v h1 _ hv => M_X0_on ok.2.2.2.2.2.2.1 (d := 11) (Nat.le_refl _) hv) (by omega) cw_X0_on q1775 q1776 q1777 dL_law_1206 [] rfl (Nat.le_of_ble_eq_true rfl) hf (fun v283 h284 hf => ?_)
                                                                    refine v_aload_n ok 2 dL_law_1209 rfl rfl ?_
                                                                    refine v_cVi ok (RX7, TX7, 117) cf_7.1 [] (F := fun a => X7_on a h284) (fun a v h1 _ hv => M_X7_on ok.2.2.2.2.2.2.1 (d := 6) (Nat.le_refl _) hv) (by omega) cw_X7_on q2700 q2701 q2702 dL_law_1210 [vi v283] rfl (Nat.le_of_ble_eq_true rfl) hf (fun v285 h286 hf => ?_)
                                                                    refine v_icmp_eq ok 1241 dL_law_1213 rfl hf (fun hf => ?_) (fun hf => ?_)
                                                                    ·
                                                                      refine v_iinc ok x3 (x3 + 6) dL_law_1241 rfl rfl (by decide) ?_
                                                                      refine v_goto ok 18 dL_law_1244 rfl ?_
                                                                      cases hf; exact hk _ ⟨rfl, rfl, rfl, rfl, trivial⟩
                                                                    ·
                                                                      refine v_iconst ok 0 dL_law_1216 rfl ?_
                                                                      cases hf; exact absurd (show (0 : Int32) = 1 from hk.1) (by decide)
                                                                  ·
                                                                    refine sw_if (v := 32) hf (fun e_ hf => ?_) (fun n287 hf => ?_)
                                                                    ·
                                                                      refine v_tableIn ok 32 1218 dL_law_33 e_ (by decide) (by decide) rfl rfl ?_
                                                                      refine v_aload_n ok 1 dL_law_1218 rfl rfl ?_
                                                                      refine v_aload_n ok 0 dL_law_1219 rfl rfl ?_
                                                                      refine v_iload_n ok 3 dL_law_1220 rfl rfl ?_
                                                                      refine v_iconst ok 1 dL_law_1221 rfl ?_
                                                                      refine v_iadd ok dL_law_1222 ?_
                                                                      refine v_iald ok rfl dL_law_1223 hf (fun v288 hf => ?_)
                                                                      refine v_cVi ok (RX0, TX0, 18) cf_0.1 [vi v288] (F := fun a => X0_status a v288 h) (fun a v h1 _ hv => M_X0_status ok.2.2.2.2.2.2.1 (d := 2) (Nat.le_refl _) hv) (by omega) cw_X0_status q1795 q1796 q1797 dL_law_1224 [] rfl (Nat.le_of_ble_eq_true rfl) hf (fun v289 h290 hf => ?_)
                                                                      refine v_aload_n ok 2 dL_law_1227 rfl rfl ?_
                                                                      refine v_aload_n ok 0 dL_law_1228 rfl rfl ?_
                                                                      refine v_iload_n ok 3 dL_law_1229 rfl rfl ?_
                                                                      refine v_iconst ok 1 dL_law_1230 rfl ?_
                                                                      refine v_iadd ok dL_law_1231 ?_
                                                                      refine v_iald ok rfl dL_law_1232 hf (fun v291 hf => ?_)
                                                                      refine v_cVi ok (RX7, TX7, 117) cf_7.1 [vi v291] (F := fun a => X7_status a v291 h290) (fun a v h1 _ hv => M_X7_status ok.2.2.2.2.2.2.1 (d := 2) (Nat.le_refl _) hv) (by omega) cw_X7_status q2716 q2717 q2718 dL_law_1233 [vi v289] rfl (Nat.le_of_ble_eq_true rfl) hf (fun v292 h293 hf => ?_)
                                                                      refine v_icmp_eq ok 1241 dL_law_1236 rfl hf (fun hf => ?_) (fun hf => ?_)
                                                                      ·
                                                                        refine v_iinc ok x3 (x3 + 6) dL_law_1241 rfl rfl (by decide) ?_
                                                                        refine v_goto ok 18 dL_law_1244 rfl ?_
                                                                        cases hf; exact hk _ ⟨rfl, rfl, rfl, rfl, trivial⟩
                                                                      ·
                                                                        refine v_iconst ok 0 dL_law_1239 rfl ?_
                                                                        cases hf; exact absurd (show (0 : Int32) = 1 from hk.1) (by decide)
                                                                    ·
                                                                      have n3 := ne_toI 0 (by decide) n3
                                                                      have n18 := ne_toI 1 (by decide) n18
                                                                      have n25 := ne_toI 2 (by decide) n25
                                                                      have n30 := ne_toI 3 (by decide) n30
                                                                      have n37 := ne_toI 4 (by decide) n37
                                                                      have n44 := ne_toI 5 (by decide) n44
                                                                      have n55 := ne_toI 6 (by decide) n55
                                                                      have n64 := ne_toI 7 (by decide) n64
                                                                      have n73 := ne_toI 8 (by decide) n73
                                                                      have n82 := ne_toI 9 (by decide) n82
                                                                      have n91 := ne_toI 10 (by decide) n91
                                                                      have n100 := ne_toI 11 (by decide) n100
                                                                      have n111 := ne_toI 12 (by decide) n111
                                                                      have n122 := ne_toI 13 (by decide) n122
                                                                      have n135 := ne_toI 14 (by decide) n135
                                                                      have n146 := ne_toI 15 (by decide) n146
                                                                      have n159 := ne_toI 16 (by decide) n159
                                                                      have n174 := ne_toI 17 (by decide) n174
                                                                      have n181 := ne_toI 18 (by decide) n181
                                                                      have n190 := ne_toI 19 (by decide) n190
                                                                      have n197 := ne_toI 20 (by decide) n197
                                                                      have n204 := ne_toI 21 (by decide) n204
                                                                      have n215 := ne_toI 22 (by decide) n215
                                                                      have n222 := ne_toI 23 (by decide) n222
                                                                      have n229 := ne_toI 24 (by decide) n229
                                                                      have n242 := ne_toI 25 (by decide) n242
                                                                      have n253 := ne_toI 26 (by decide) n253
                                                                      have n258 := ne_toI 27 (by decide) n258
                                                                      have n265 := ne_toI 28 (by decide) n265
                                                                      have n270 := ne_toI 29 (by decide) n270
                                                                      have n275 := ne_toI 30 (by decide) n275
                                                                      have n282 := ne_toI 31 (by decide) n282
                                                                      have n287 := ne_toI 32 (by decide) n287
                                                                      refine v_tableOut ok 1241 dL_law_33 (by omega) rfl ?_
                                                                      refine v_iinc ok x3 (x3 + 6) dL_law_1241 rfl rfl (by decide) ?_
                                                                      refine v_goto ok 18 dL_law_1244 rfl ?_
                                                                      cases hf; exact hk _ ⟨rfl, rfl, rfl, rfl, trivial⟩
theorem W_L_law_18 {G : GT} {X : CX} {d : Nat} {h0 : AH} {Q : State → Prop} (ok : Ok G X RL cL_law 4 d h0) (hr : (cxm X).sig.returnType = (Option.some Jvm.ClassFile.FieldType.boolean)) {va : VaT} {th : ThT} {pa : PaT} {pf : PaT} {e : Nat} (hva : DVA G X.2.1 e va) (hth : DTH G X.2.1 e th) (hpa : DPA G X.2.1 e pa) (hpf : DPF G X.2.1 e pf) (hd : e + 16 ≤ d) (hb : LawAt G X h0) {x0 : Option Nat} {x1 : Option Nat} {x2 : Option Nat} {x3 : Int32} {h : AH} {z : (Int32 × AH)} (hf : L_law_18  va th pa pf x0 x1 x2 x3 h = some z) (hk : z.1 = 1 ∧ Q = lw_Z X.2.2.2.2.2.2.2.1 X.2.2.2.2.2.2.1 X.2.2.2.2.1) {lv : List (Nat × AV)} (hl : lle lv [(0, vr x0), (1, vr x1), (2, vr x2), (3, vi x3)]) : V G X 4 h0 Q h 18 lv [] := by
  unfold L_law_18 at hf
  exact loopC_walk (Wh := fun s : Int32 × AH => ∀ lv : List (Nat × AV), lle lv [(0, vr x0), (1, vr x1), (2, vr x2), (3, vi s.1)] → V G X 4 h0 Q s.2 18 lv []) (PK := fun z => z.1 = 1 ∧ Q = lw_Z X.2.2.2.2.2.2.2.1 X.2.2.2.2.2.2.1 X.2.2.2.2.1) (fun s o hf hk lv hl => W_L_law_18b ok hr hva hth hpa hpf hd hb hf (by cases o <;> exact hk) hl) _ z hf hk lv hl
theorem W_L_law {G : GT} {X : CX} {d : Nat} {h0 : AH} {Q : State → Prop} (ok : Ok G X RL cL_law 4 d h0) (hr : (cxm X).sig.returnType = (Option.some Jvm.ClassFile.FieldType.boolean)) {va : VaT} {th : ThT} {pa : PaT} {pf : PaT} {e : Nat} (hva : DVA G X.2.1 e va) (hth : DTH G X.2.1 e th) (hpa : DPA G X.2.1 e pa) (hpf : DPF G X.2.1 e pf) (hd : e + 16 ≤ d) (hb : LawAt G X h0) {x0 : Option Nat} {h : AH} {z : (Int32 × AH)} (hf : L_law va th pa pf x0 h = some z) (hk : z.1 = 1 ∧ Q = lw_Z X.2.2.2.2.2.2.2.1 X.2.2.2.2.2.2.1 X.2.2.2.2.1) {lv : List (Nat × AV)} (hl : lle lv [(0, vr x0)]) : V G X 4 h0 Q h 0 lv [] := by
  refine V.sub hl ?_
  unfold L_law at hf
  refine v_new ok cf_0 rfl q209 q210 q168 df_0 dL_law_0 hf (fun v294 h295 hf => ?_)
  refine v_dup ok dL_law_3 rfl ?_
  refine v_cIv ok [] rfl (F := fun a => X0_init a h295) (fun a h1 _ hv => M_X0_init ok.2.2.2.2.2.2.1 (d := 9) (Nat.le_refl _) hv) (by omega) cw_X0_init q211 q212 dL_law_4 [vr v294] rfl (Nat.le_of_ble_eq_true rfl) hf (fun h296 hf => ?_)
  refine v_astore_n ok 1 dL_law_7 rfl (by decide) ?_
  refine v_new ok cf_7 rfl q1799 q1800 q185 df_7 dL_law_8 hf (fun v297 h298 hf => ?_)
  refine v_dup ok dL_law_11 rfl ?_
  refine v_cIv ok [] rfl (F := fun a => X7_init a h298) (fun a h1 _ hv => M_X7_init ok.2.2.2.2.2.2.1 (d := 1) (Nat.le_refl _) hv) (by omega) cw_X7_init q1801 q1802 dL_law_12 [vr v297] rfl (Nat.le_of_ble_eq_true rfl) hf (fun h299 hf => ?_)
  refine v_astore_n ok 2 dL_law_15 rfl (by decide) ?_
  refine v_iconst ok 0 dL_law_16 rfl ?_
  refine v_istore_n ok 3 dL_law_17 rfl (by decide) ?_
  exact W_L_law_18 ok hr hva hth hpa hpf hd hb hf hk ⟨rfl, rfl, rfl, rfl, trivial⟩
