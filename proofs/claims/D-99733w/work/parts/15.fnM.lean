set_option maxRecDepth 100000
noncomputable def X7_init (a0 : Nat) (h : AH) : Option (AH) :=
(nn (some a0)).bind fun v1 =>
b2 (newA 100 1600 h) fun v2 h3 =>
(pR 7 0 (some a0) v2 h3).bind fun h4 =>
(pI 7 8 (some a0) (-1) h4).bind fun h5 =>
b2 (newA 100 6 h5) fun v6 h7 =>
(pR 7 9 (some a0) v6 h7).bind fun h8 =>
b2 (newA 102 6 h8) fun v9 h10 =>
(sI 102 v9 0 (nCh 108) h10).bind fun h11 =>
(sI 102 v9 1 (nCh 101) h11).bind fun h12 =>
(sI 102 v9 2 (nCh 116) h12).bind fun h13 =>
(sI 102 v9 3 (nCh 116) h13).bind fun h14 =>
(sI 102 v9 4 (nCh 101) h14).bind fun h15 =>
(sI 102 v9 5 (nCh 114) h15).bind fun h16 =>
(pR 7 11 (some a0) v9 h16).bind fun h17 =>
b2 (newA 102 4 h17) fun v18 h19 =>
(sI 102 v18 0 (nCh 104) h19).bind fun h20 =>
(sI 102 v18 1 (nCh 97) h20).bind fun h21 =>
(sI 102 v18 2 (nCh 110) h21).bind fun h22 =>
(sI 102 v18 3 (nCh 100) h22).bind fun h23 =>
(pR 7 12 (some a0) v18 h23).bind fun h24 =>
b2 (newA 102 2 h24) fun v25 h26 =>
(sI 102 v25 0 (nCh 105) h26).bind fun h27 =>
(sI 102 v25 1 (nCh 115) h27).bind fun h28 =>
(pR 7 13 (some a0) v25 h28).bind fun h29 =>
b2 (newA 102 4 h29) fun v30 h31 =>
(sI 102 v30 0 (nCh 119) h31).bind fun h32 =>
(sI 102 v30 1 (nCh 111) h32).bind fun h33 =>
(sI 102 v30 2 (nCh 114) h33).bind fun h34 =>
(sI 102 v30 3 (nCh 100) h34).bind fun h35 =>
(pR 7 14 (some a0) v30 h35).bind fun h36 =>
b2 (newA 102 5 h36) fun v37 h38 =>
(sI 102 v37 0 (nCh 98) h38).bind fun h39 =>
(sI 102 v37 1 (nCh 111) h39).bind fun h40 =>
(sI 102 v37 2 (nCh 97) h40).bind fun h41 =>
(sI 102 v37 3 (nCh 114) h41).bind fun h42 =>
(sI 102 v37 4 (nCh 100) h42).bind fun h43 =>
(pR 7 15 (some a0) v37 h43).bind fun h44 =>
b2 (newA 102 5 h44) fun v45 h46 =>
(sI 102 v45 0 (nCh 100) h46).bind fun h47 =>
(sI 102 v45 1 (nCh 111) h47).bind fun h48 =>
(sI 102 v45 2 (nCh 117) h48).bind fun h49 =>
(sI 102 v45 3 (nCh 98) h49).bind fun h50 =>
(sI 102 v45 4 (nCh 116) h50).bind fun h51 =>
(pR 7 16 (some a0) v45 h51).bind fun h52 =>
b2 (newA 102 4 h52) fun v53 h54 =>
(sI 102 v53 0 (nCh 114) h54).bind fun h55 =>
(sI 102 v53 1 (nCh 97) h55).bind fun h56 =>
(sI 102 v53 2 (nCh 105) h56).bind fun h57 =>
(sI 102 v53 3 (nCh 110) h57).bind fun h58 =>
(pR 7 17 (some a0) v53 h58).bind fun h59 =>
b2 (newA 102 5 h59) fun v60 h61 =>
(sI 102 v60 0 (nCh 98) h61).bind fun h62 =>
(sI 102 v60 1 (nCh 108) h62).bind fun h63 =>
(sI 102 v60 2 (nCh 97) h63).bind fun h64 =>
(sI 102 v60 3 (nCh 110) h64).bind fun h65 =>
(sI 102 v60 4 (nCh 107) h65).bind fun h66 =>
(pR 7 18 (some a0) v60 h66).bind fun h67 =>
b2 (newA 102 4 h67) fun v68 h69 =>
(sI 102 v68 0 (nCh 104) h69).bind fun h70 =>
(sI 102 v68 1 (nCh 97) h70).bind fun h71 =>
(sI 102 v68 2 (nCh 105) h71).bind fun h72 =>
(sI 102 v68 3 (nCh 108) h72).bind fun h73 =>
(pR 7 19 (some a0) v68 h73).bind fun h74 =>
b2 (newA 102 4 h74) fun v75 h76 =>
(sI 102 v75 0 (nCh 109) h76).bind fun h77 =>
(sI 102 v75 1 (nCh 111) h77).bind fun h78 =>
(sI 102 v75 2 (nCh 114) h78).bind fun h79 =>
(sI 102 v75 3 (nCh 101) h79).bind fun h80 =>
(pR 7 20 (some a0) v75 h80).bind fun h81 =>
b2 (newA 102 4 h81) fun v82 h83 =>
(sI 102 v82 0 (nCh 108) h83).bind fun h84 =>
(sI 102 v82 1 (nCh 101) h84).bind fun h85 =>
(sI 102 v82 2 (nCh 115) h85).bind fun h86 =>
(sI 102 v82 3 (nCh 115) h86).bind fun h87 =>
(pR 7 21 (some a0) v82 h87).bind fun h88 =>
b2 (newA 102 3 h88) fun v89 h90 =>
(sI 102 v89 0 (nCh 105) h90).bind fun h91 =>
(sI 102 v89 1 (nCh 110) h91).bind fun h92 =>
(sI 102 v89 2 (nCh 107) h92).bind fun h93 =>
(pR 7 22 (some a0) v89 h93).bind fun h94 =>
b2 (newA 102 6 h94) fun v95 h96 =>
(sI 102 v95 0 (nCh 99) h96).bind fun h97 =>
(sI 102 v95 1 (nCh 111) h97).bind fun h98 =>
(sI 102 v95 2 (nCh 108) h98).bind fun h99 =>
(sI 102 v95 3 (nCh 117) h99).bind fun h100 =>
(sI 102 v95 4 (nCh 109) h100).bind fun h101 =>
(sI 102 v95 5 (nCh 110) h101).bind fun h102 =>
(pR 7 23 (some a0) v95 h102).bind fun h103 =>
b2 (newA 102 3 h103) fun v104 h105 =>
(sI 102 v104 0 (nCh 114) h105).bind fun h106 =>
(sI 102 v104 1 (nCh 111) h106).bind fun h107 =>
(sI 102 v104 2 (nCh 119) h107).bind fun h108 =>
(pR 7 24 (some a0) v104 h108).bind fun h109 =>
b2 (newA 102 5 h109) fun v110 h111 =>
(sI 102 v110 0 (nCh 112) h111).bind fun h112 =>
(sI 102 v110 1 (nCh 108) h112).bind fun h113 =>
(sI 102 v110 2 (nCh 97) h113).bind fun h114 =>
(sI 102 v110 3 (nCh 99) h114).bind fun h115 =>
(sI 102 v110 4 (nCh 101) h115).bind fun h116 =>
(pR 7 25 (some a0) v110 h116).bind fun h117 =>
b2 (newA 102 4 h117) fun v118 h119 =>
(sI 102 v118 0 (nCh 110) h119).bind fun h120 =>
(sI 102 v118 1 (nCh 101) h120).bind fun h121 =>
(sI 102 v118 2 (nCh 97) h121).bind fun h122 =>
(sI 102 v118 3 (nCh 114) h122).bind fun h123 =>
(pR 7 26 (some a0) v118 h123).bind fun h124 =>
b2 (newA 102 4 h124) fun v125 h126 =>
(sI 102 v125 0 (nCh 121) h126).bind fun h127 =>
(sI 102 v125 1 (nCh 101) h127).bind fun h128 =>
(sI 102 v125 2 (nCh 97) h128).bind fun h129 =>
(sI 102 v125 3 (nCh 114) h129).bind fun h130 =>
(pR 7 27 (some a0) v125 h130).bind fun h131 =>
b2 (newA 102 6 h131) fun v132 h133 =>
(sI 102 v132 0 (nCh 110) h133).bind fun h134 =>
(sI 102 v132 1 (nCh 117) h134).bind fun h135 =>
(sI 102 v132 2 (nCh 109) h135).bind fun h136 =>
(sI 102 v132 3 (nCh 98) h136).bind fun h137 =>
(sI 102 v132 4 (nCh 101) h137).bind fun h138 =>
(sI 102 v132 5 (nCh 114) h138).bind fun h139 =>
(pR 7 28 (some a0) v132 h139).bind fun h140 =>
b2 (newA 102 4 h140) fun v141 h142 =>
(sI 102 v141 0 (nCh 108) h142).bind fun h143 =>
(sI 102 v141 1 (nCh 111) h143).bind fun h144 =>
(sI 102 v141 2 (nCh 110) h144).bind fun h145 =>
(sI 102 v141 3 (nCh 103) h145).bind fun h146 =>
(pR 7 29 (some a0) v141 h146).bind fun h147 =>
b2 (newA 102 4 h147) fun v148 h149 =>
(sI 102 v148 0 (nCh 108) h149).bind fun h150 =>
(sI 102 v148 1 (nCh 105) h150).bind fun h151 =>
(sI 102 v148 2 (nCh 110) h151).bind fun h152 =>
(sI 102 v148 3 (nCh 101) h152).bind fun h153 =>
(pR 7 30 (some a0) v148 h153).bind fun h154 =>
b2 (newA 102 2 h154) fun v155 h156 =>
(sI 102 v155 0 (nCh 97) h156).bind fun h157 =>
(sI 102 v155 1 (nCh 116) h157).bind fun h158 =>
(pR 7 31 (some a0) v155 h158).bind fun h159 =>
b2 (newA 102 2 h159) fun v160 h161 =>
(sI 102 v160 0 (nCh 111) h161).bind fun h162 =>
(sI 102 v160 1 (nCh 114) h162).bind fun h163 =>
(pR 7 32 (some a0) v160 h163).bind fun h164 =>
b2 (newA 102 3 h164) fun v165 h166 =>
(sI 102 v165 0 (nCh 97) h166).bind fun h167 =>
(sI 102 v165 1 (nCh 110) h167).bind fun h168 =>
(sI 102 v165 2 (nCh 100) h168).bind fun h169 =>
(pR 7 33 (some a0) v165 h169).bind fun h170 =>
b2 (newA 102 3 h170) fun v171 h172 =>
(sI 102 v171 0 (nCh 110) h172).bind fun h173 =>
(sI 102 v171 1 (nCh 111) h173).bind fun h174 =>
(sI 102 v171 2 (nCh 116) h174).bind fun h175 =>
(pR 7 34 (some a0) v171 h175).bind fun h176 =>
b2 (newA 102 3 h176) fun v177 h178 =>
(sI 102 v177 0 (nCh 97) h178).bind fun h179 =>
(sI 102 v177 1 (nCh 108) h179).bind fun h180 =>
(sI 102 v177 2 (nCh 108) h180).bind fun h181 =>
(pR 7 35 (some a0) v177 h181).bind fun h182 =>
b2 (newA 102 3 h182) fun v183 h184 =>
(sI 102 v183 0 (nCh 109) h184).bind fun h185 =>
(sI 102 v183 1 (nCh 105) h185).bind fun h186 =>
(sI 102 v183 2 (nCh 110) h186).bind fun h187 =>
(pR 7 36 (some a0) v183 h187).bind fun h188 =>
b2 (newA 102 3 h188) fun v189 h190 =>
(sI 102 v189 0 (nCh 109) h190).bind fun h191 =>
(sI 102 v189 1 (nCh 97) h191).bind fun h192 =>
(sI 102 v189 2 (nCh 120) h192).bind fun h193 =>
(pR 7 37 (some a0) v189 h193).bind fun h194 =>
b2 (newA 102 7 h194) fun v195 h196 =>
(sI 102 v195 0 (nCh 102) h196).bind fun h197 =>
(sI 102 v195 1 (nCh 111) h197).bind fun h198 =>
(sI 102 v195 2 (nCh 114) h198).bind fun h199 =>
(sI 102 v195 3 (nCh 103) h199).bind fun h200 =>
(sI 102 v195 4 (nCh 105) h200).bind fun h201 =>
(sI 102 v195 5 (nCh 118) h201).bind fun h202 =>
(sI 102 v195 6 (nCh 101) h202).bind fun h203 =>
(pR 7 38 (some a0) v195 h203).bind fun h204 =>
b2 (newA 100 6 h204) fun v205 h206 =>
(pR 7 41 (some a0) v205 h206).bind fun h207 =>
b2 (newA 100 4 h207) fun v208 h209 =>
(pR 7 42 (some a0) v208 h209).bind fun h210 =>
b2 (newA 100 96 h210) fun v211 h212 =>
(pR 7 43 (some a0) v211 h212).bind fun h213 =>
b2 (newA 100 112 h213) fun v214 h215 =>
(pR 7 46 (some a0) v214 h215).bind fun h216 =>
b2 (newA 100 8 h216) fun v217 h218 =>
(pR 7 49 (some a0) v217 h218).bind fun h219 =>
b2 (newA 100 6 h219) fun v220 h221 =>
(pR 7 50 (some a0) v220 h221).bind fun h222 =>
b2 (newA 100 4 h222) fun v223 h224 =>
(sI 100 v223 0 (-1) h224).bind fun h225 =>
(sI 100 v223 1 (-1) h225).bind fun h226 =>
(sI 100 v223 2 (-1) h226).bind fun h227 =>
(sI 100 v223 3 (-1) h227).bind fun h228 =>
(pR 7 51 (some a0) v223 h228).bind fun h229 =>
b2 (newA 100 4 h229) fun v230 h231 =>
(pR 7 52 (some a0) v230 h231).bind fun h232 =>
b2 (newA 100 3200 h232) fun v233 h234 =>
(pR 7 53 (some a0) v233 h234).bind fun h235 =>
b2 (newA 100 154 h235) fun v236 h237 =>
(pR 7 57 (some a0) v236 h237).bind fun h238 =>
b2 (newA 100 33 h238) fun v239 h240 =>
(pR 7 58 (some a0) v239 h240).bind fun h241 =>
b2 (newA 100 24 h241) fun v242 h243 =>
(pR 7 68 (some a0) v242 h243).bind fun h244 =>
b2 (newA 100 6 h244) fun v245 h246 =>
(pR 7 69 (some a0) v245 h246).bind fun h247 =>
b2 (newA 100 49 h247) fun v248 h249 =>
(pR 7 70 (some a0) v248 h249).bind fun h250 =>
b2 (newA 100 49 h250) fun v251 h252 =>
(pR 7 71 (some a0) v251 h252).bind fun h253 =>
b2 (newA 100 49 h253) fun v254 h255 =>
(pR 7 72 (some a0) v254 h255).bind fun h256 =>
b2 (newA 100 64 h256) fun v257 h258 =>
(pR 7 73 (some a0) v257 h258).bind fun h259 =>
b2 (newA 100 12 h259) fun v260 h261 =>
(pR 7 75 (some a0) v260 h261).bind fun h262 =>
b2 (newA 100 12 h262) fun v263 h264 =>
(pR 7 76 (some a0) v263 h264).bind fun h265 =>
b2 (newA 100 3080 h265) fun v266 h267 =>
(pR 7 77 (some a0) v266 h267).bind fun h268 =>
(pL 7 80 (some a0) 1 h268).bind fun h269 =>
b2 (newA 102 5 h269) fun v270 h271 =>
(sI 102 v270 0 (nCh 102) h271).bind fun h272 =>
(sI 102 v270 1 (nCh 105) h272).bind fun h273 =>
(sI 102 v270 2 (nCh 114) h273).bind fun h274 =>
(sI 102 v270 3 (nCh 115) h274).bind fun h275 =>
(sI 102 v270 4 (nCh 116) h275).bind fun h276 =>
(pR 7 81 (some a0) v270 h276).bind fun h277 =>
b2 (newA 102 4 h277) fun v278 h279 =>
(sI 102 v278 0 (nCh 108) h279).bind fun h280 =>
(sI 102 v278 1 (nCh 97) h280).bind fun h281 =>
(sI 102 v278 2 (nCh 115) h281).bind fun h282 =>
(sI 102 v278 3 (nCh 116) h282).bind fun h283 =>
(pR 7 82 (some a0) v278 h283).bind fun h284 =>
b2 (newA 102 5 h284) fun v285 h286 =>
(sI 102 v285 0 (nCh 111) h286).bind fun h287 =>
(sI 102 v285 1 (nCh 102) h287).bind fun h288 =>
(sI 102 v285 2 (nCh 116) h288).bind fun h289 =>
(sI 102 v285 3 (nCh 101) h289).bind fun h290 =>
(sI 102 v285 4 (nCh 110) h290).bind fun h291 =>
(pR 7 83 (some a0) v285 h291).bind fun h292 =>
b2 (newA 102 5 h292) fun v293 h294 =>
(sI 102 v293 0 (nCh 116) h294).bind fun h295 =>
(sI 102 v293 1 (nCh 111) h295).bind fun h296 =>
(sI 102 v293 2 (nCh 116) h296).bind fun h297 =>
(sI 102 v293 3 (nCh 97) h297).bind fun h298 =>
(sI 102 v293 4 (nCh 108) h298).bind fun h299 =>
(pR 7 84 (some a0) v293 h299).bind fun h300 =>
b2 (newA 102 4 h300) fun v301 h302 =>
(sI 102 v301 0 (nCh 109) h302).bind fun h303 =>
(sI 102 v301 1 (nCh 111) h303).bind fun h304 =>
(sI 102 v301 2 (nCh 115) h304).bind fun h305 =>
(sI 102 v301 3 (nCh 116) h305).bind fun h306 =>
(pR 7 85 (some a0) v301 h306).bind fun h307 =>
b2 (newA 102 5 h307) fun v308 h309 =>
(sI 102 v308 0 (nCh 108) h309).bind fun h310 =>
(sI 102 v308 1 (nCh 101) h310).bind fun h311 =>
(sI 102 v308 2 (nCh 97) h311).bind fun h312 =>
(sI 102 v308 3 (nCh 115) h312).bind fun h313 =>
(sI 102 v308 4 (nCh 116) h313).bind fun h314 =>
(pR 7 86 (some a0) v308 h314).bind fun h315 =>
b2 (newA 102 3 h315) fun v316 h317 =>
(sI 102 v316 0 (nCh 110) h317).bind fun h318 =>
(sI 102 v316 1 (nCh 111) h318).bind fun h319 =>
(sI 102 v316 2 (nCh 116) h319).bind fun h320 =>
(pR 7 87 (some a0) v316 h320).bind fun h321 =>
b2 (newA 102 3 h321) fun v322 h323 =>
(sI 102 v322 0 (nCh 97) h323).bind fun h324 =>
(sI 102 v322 1 (nCh 110) h324).bind fun h325 =>
(sI 102 v322 2 (nCh 100) h325).bind fun h326 =>
(pR 7 88 (some a0) v322 h326).bind fun h327 =>
b2 (newA 102 2 h327) fun v328 h329 =>
(sI 102 v328 0 (nCh 111) h329).bind fun h330 =>
(sI 102 v328 1 (nCh 114) h330).bind fun h331 =>
(pR 7 89 (some a0) v328 h331).bind fun h332 =>
b2 (newA 102 3 h332) fun v333 h334 =>
(sI 102 v333 0 (nCh 97) h334).bind fun h335 =>
(sI 102 v333 1 (nCh 108) h335).bind fun h336 =>
(sI 102 v333 2 (nCh 108) h336).bind fun h337 =>
(pR 7 90 (some a0) v333 h337).bind fun h338 =>
b2 (newA 102 3 h338) fun v339 h340 =>
(sI 102 v339 0 (nCh 109) h340).bind fun h341 =>
(sI 102 v339 1 (nCh 105) h341).bind fun h342 =>
(sI 102 v339 2 (nCh 110) h342).bind fun h343 =>
(pR 7 91 (some a0) v339 h343).bind fun h344 =>
b2 (newA 102 3 h344) fun v345 h346 =>
(sI 102 v345 0 (nCh 109) h346).bind fun h347 =>
(sI 102 v345 1 (nCh 97) h347).bind fun h348 =>
(sI 102 v345 2 (nCh 120) h348).bind fun h349 =>
(pR 7 92 (some a0) v345 h349).bind fun h350 =>
b2 (newA 102 4 h350) fun v351 h352 =>
(sI 102 v351 0 (nCh 109) h352).bind fun h353 =>
(sI 102 v351 1 (nCh 111) h353).bind fun h354 =>
(sI 102 v351 2 (nCh 114) h354).bind fun h355 =>
(sI 102 v351 3 (nCh 101) h355).bind fun h356 =>
(pR 7 93 (some a0) v351 h356).bind fun h357 =>
b2 (newA 102 4 h357) fun v358 h359 =>
(sI 102 v358 0 (nCh 108) h359).bind fun h360 =>
(sI 102 v358 1 (nCh 101) h360).bind fun h361 =>
(sI 102 v358 2 (nCh 115) h361).bind fun h362 =>
(sI 102 v358 3 (nCh 115) h362).bind fun h363 =>
(pR 7 94 (some a0) v358 h363).bind fun h364 =>
b2 (newA 102 3 h364) fun v365 h366 =>
(sI 102 v365 0 (nCh 105) h366).bind fun h367 =>
(sI 102 v365 1 (nCh 110) h367).bind fun h368 =>
(sI 102 v365 2 (nCh 107) h368).bind fun h369 =>
(pR 7 95 (some a0) v365 h369).bind fun h370 =>
b2 (newA 102 6 h370) fun v371 h372 =>
(sI 102 v371 0 (nCh 99) h372).bind fun h373 =>
(sI 102 v371 1 (nCh 111) h373).bind fun h374 =>
(sI 102 v371 2 (nCh 108) h374).bind fun h375 =>
(sI 102 v371 3 (nCh 117) h375).bind fun h376 =>
(sI 102 v371 4 (nCh 109) h376).bind fun h377 =>
(sI 102 v371 5 (nCh 110) h377).bind fun h378 =>
(pR 7 96 (some a0) v371 h378).bind fun h379 =>
b2 (newA 102 3 h379) fun v380 h381 =>
(sI 102 v380 0 (nCh 114) h381).bind fun h382 =>
(sI 102 v380 1 (nCh 111) h382).bind fun h383 =>
(sI 102 v380 2 (nCh 119) h383).bind fun h384 =>
(pR 7 97 (some a0) v380 h384).bind fun h385 =>
b2 (newA 102 5 h385) fun v386 h387 =>
(sI 102 v386 0 (nCh 112) h387).bind fun h388 =>
(sI 102 v386 1 (nCh 108) h388).bind fun h389 =>
(sI 102 v386 2 (nCh 97) h389).bind fun h390 =>
(sI 102 v386 3 (nCh 99) h390).bind fun h391 =>
(sI 102 v386 4 (nCh 101) h391).bind fun h392 =>
(pR 7 98 (some a0) v386 h392).bind fun h393 =>
b2 (newA 102 4 h393) fun v394 h395 =>
(sI 102 v394 0 (nCh 110) h395).bind fun h396 =>
(sI 102 v394 1 (nCh 101) h396).bind fun h397 =>
(sI 102 v394 2 (nCh 97) h397).bind fun h398 =>
(sI 102 v394 3 (nCh 114) h398).bind fun h399 =>
(pR 7 99 (some a0) v394 h399).bind fun h400 =>
b2 (newA 102 4 h400) fun v401 h402 =>
(sI 102 v401 0 (nCh 121) h402).bind fun h403 =>
(sI 102 v401 1 (nCh 101) h403).bind fun h404 =>
(sI 102 v401 2 (nCh 97) h404).bind fun h405 =>
(sI 102 v401 3 (nCh 114) h405).bind fun h406 =>
(pR 7 100 (some a0) v401 h406).bind fun h407 =>
b2 (newA 102 6 h407) fun v408 h409 =>
(sI 102 v408 0 (nCh 110) h409).bind fun h410 =>
(sI 102 v408 1 (nCh 117) h410).bind fun h411 =>
(sI 102 v408 2 (nCh 109) h411).bind fun h412 =>
(sI 102 v408 3 (nCh 98) h412).bind fun h413 =>
(sI 102 v408 4 (nCh 101) h413).bind fun h414 =>
(sI 102 v408 5 (nCh 114) h414).bind fun h415 =>
(pR 7 101 (some a0) v408 h415).bind fun h416 =>
b2 (newA 102 4 h416) fun v417 h418 =>
(sI 102 v417 0 (nCh 108) h418).bind fun h419 =>
(sI 102 v417 1 (nCh 111) h419).bind fun h420 =>
(sI 102 v417 2 (nCh 110) h420).bind fun h421 =>
(sI 102 v417 3 (nCh 103) h421).bind fun h422 =>
(pR 7 102 (some a0) v417 h422).bind fun h423 =>
b2 (newA 102 4 h423) fun v424 h425 =>
(sI 102 v424 0 (nCh 108) h425).bind fun h426 =>
(sI 102 v424 1 (nCh 105) h426).bind fun h427 =>
(sI 102 v424 2 (nCh 110) h427).bind fun h428 =>
(sI 102 v424 3 (nCh 101) h428).bind fun h429 =>
(pR 7 103 (some a0) v424 h429).bind fun h430 =>
b2 (newA 102 2 h430) fun v431 h432 =>
(sI 102 v431 0 (nCh 97) h432).bind fun h433 =>
(sI 102 v431 1 (nCh 116) h433).bind fun h434 =>
(pR 7 104 (some a0) v431 h434).bind fun h435 =>
b2 (newA 100 1700 h435) fun v436 h437 =>
(pR 7 105 (some a0) v436 h437).bind fun h438 =>
b2 (newA 100 1700 h438) fun v439 h440 =>
(pR 7 107 (some a0) v439 h440).bind fun h441 =>
b2 (newA 103 1700 h441) fun v442 h443 =>
(pR 7 111 (some a0) v442 h443).bind fun h444 =>
b2 (newA 100 59 h444) fun v445 h446 =>
(pR 7 115 (some a0) v445 h446).bind fun h447 =>
some (h447)
noncomputable def X7_feed_81 (a0 : Nat) (x1 : Int32) (x2 : Int32) (x3 : Int32) (x4 : Int32) (x5 : Int32) (x6 : Int32) (s0 : Int32) (h : AH) : Option ((Int32 × AH) ⊕ (Int32 × AH)) :=
(gR 7 0 (some a0) h).bind fun v1 =>
(gI 7 1 (some a0) h).bind fun v2 =>
(nz 4).bind fun _ =>
(sI 100 v1 v2 ((jshr s0 (8 * (3 - (jrem x6 4)))) &&& 255) h).bind fun h3 =>
(gI 7 1 (some a0) h3).bind fun v4 =>
(pI 7 1 (some a0) (v4 + 1) h3).bind fun h5 =>
some (.inl ((x6 + 1), h5))
noncomputable def X7_feed_124 (a0 : Nat) (h : AH) : Option (Int32 × AH) :=
(gI 7 1 (some a0) h).bind fun v6 =>
some ((v6, h))
noncomputable def X7_feed_28b (a0 : Nat) (x1 : Int32) (x2 : Int32) (x3 : Int32) (x4 : Int32) (x5 : Int32) (x6 : Int32) (h : AH) : Option ((Int32 × AH) ⊕ (Int32 × AH)) :=
if x6 < 20 then (if x6 < 4 then (X7_feed_81 a0 x1 x2 x3 x4 x5 x6 x1 h) else (if x6 < 8 then (X7_feed_81 a0 x1 x2 x3 x4 x5 x6 x2 h) else (if x6 < 12 then (X7_feed_81 a0 x1 x2 x3 x4 x5 x6 x3 h) else (if x6 < 16 then (X7_feed_81 a0 x1 x2 x3 x4 x5 x6 x4 h) else (X7_feed_81 a0 x1 x2 x3 x4 x5 x6 x5 h))))) else ((X7_feed_124 a0 h).bind fun o => some (.inr o))
noncomputable def X7_feed_28 (a0 : Nat) (x1 : Int32) (x2 : Int32) (x3 : Int32) (x4 : Int32) (x5 : Int32) (x6 : Int32) (h : AH) : Option (Int32 × AH) := loopC (fun s : Int32 × AH => X7_feed_28b a0 x1 x2 x3 x4 x5 s.1 s.2) (x6, h)
noncomputable def X7_feed (a0 : Nat) (x1 : Int32) (x2 : Int32) (x3 : Int32) (x4 : Int32) (x5 : Int32) (h : AH) : Option (Int32 × AH) :=
(gI 7 1 (some a0) h).bind fun v7 =>
if 1600 < (v7 + 20) then ((gR 7 9 (some a0) h).bind fun v8 =>
(xI 100 v8 0 h).bind fun v9 =>
(sI 100 v8 0 (v9 + 1) h).bind fun h10 =>
some (((-1), h10))) else (X7_feed_28 a0 x1 x2 x3 x4 x5 0 h)
noncomputable def X7_end_12 (a0 : Nat) (h : AH) : Option (Int32 × AH) :=
(gR 7 9 (some a0) h).bind fun v1 =>
(xI 100 v1 0 h).bind fun v2 =>
(sI 100 v1 0 (v2 + 1) h).bind fun h3 =>
some ((0, h3))
noncomputable def X7_end (a0 : Nat) (x1 : Int32) (h : AH) : Option (Int32 × AH) :=
if x1 < 0 then (X7_end_12 a0 h) else ((gI 7 1 (some a0) h).bind fun v4 =>
if v4 < x1 then (X7_end_12 a0 h) else ((pI 7 1 (some a0) x1 h).bind fun h5 =>
some ((1, h5))))
noncomputable def X7_look_39 (a0 : Nat) (h : AH) : Option ((AH) ⊕ (Int32 × AH)) :=
(gI 7 2 (some a0) h).bind fun v1 =>
(pI 7 2 (some a0) (v1 + 1) h).bind fun h2 =>
some (.inl (h2))
noncomputable def X7_look_52 (a0 : Nat) (h : AH) : Option (Int32 × AH) :=
(gI 7 2 (some a0) h).bind fun v3 =>
(gI 7 3 (some a0) h).bind fun v4 =>
if v3 < v4 then ((gR 7 0 (some a0) h).bind fun v5 =>
(gI 7 2 (some a0) h).bind fun v6 =>
(xI 100 v5 v6 h).bind fun v7 =>
some ((v7, h))) else (some (((-1), h)))
noncomputable def X7_look_0b (a0 : Nat)  (h : AH) : Option ((AH) ⊕ (Int32 × AH)) :=
(gI 7 2 (some a0) h).bind fun v8 =>
(gI 7 3 (some a0) h).bind fun v9 =>
if v8 < v9 then ((gR 7 0 (some a0) h).bind fun v10 =>
(gI 7 2 (some a0) h).bind fun v11 =>
(xI 100 v10 v11 h).bind fun v12 =>
if v12 = 10 then (X7_look_39 a0 h) else ((gR 7 0 (some a0) h).bind fun v13 =>
(gI 7 2 (some a0) h).bind fun v14 =>
(xI 100 v13 v14 h).bind fun v15 =>
if v15 = 32 then (X7_look_39 a0 h) else ((X7_look_52 a0 h).bind fun o => some (.inr o)))) else ((X7_look_52 a0 h).bind fun o => some (.inr o))
noncomputable def X7_look (a0 : Nat) (h : AH) : Option (Int32 × AH) := loopC (fun s : AH => X7_look_0b a0 s) (h)
noncomputable def X7_glyphOf (a0 : Nat) (x1 : Int32) (x2 : Int32) (h : AH) : Option (Int32 × AH) :=
(gR 7 43 (some a0) h).bind fun v1 =>
(xI 100 v1 ((49 + (24 * x1)) + (2 * x2)) h).bind fun v2 =>
some ((v2, h))
noncomputable def X7_nameOf (a0 : Nat) (x1 : Int32) (x2 : Int32) (h : AH) : Option (Int32 × AH) :=
(gR 7 43 (some a0) h).bind fun v1 =>
(xI 100 v1 ((48 + (24 * x1)) + (2 * x2)) h).bind fun v2 =>
some ((v2, h))
noncomputable def X7_letterAt_2b (a0 : Nat) (x1 : Int32) (x2 : Int32) (x3 : Int32) (h : AH) : Option ((Int32 × AH) ⊕ (Int32 × AH)) :=
(gR 7 42 (some a0) h).bind fun v1 =>
(xI 100 v1 (2 + x1) h).bind fun v2 =>
if x3 < v2 then ((isO 7 (some a0) h).bind fun a => b2 (X7_nameOf a x1 x3 h) fun v3 h4 =>
if v3 = x2 then (some (.inr ((x3, h4)))) else (some (.inl ((x3 + 1), h4)))) else (some (.inr (((-1), h))))
noncomputable def X7_letterAt_2 (a0 : Nat) (x1 : Int32) (x2 : Int32) (x3 : Int32) (h : AH) : Option (Int32 × AH) := loopC (fun s : Int32 × AH => X7_letterAt_2b a0 x1 x2 s.1 s.2) (x3, h)
noncomputable def X7_letterAt (a0 : Nat) (x1 : Int32) (x2 : Int32) (h : AH) : Option (Int32 × AH) :=
X7_letterAt_2 a0 x1 x2 0 h
noncomputable def X7_letterOf (a0 : Nat) (x1 : Int32) (x2 : Int32) (h : AH) : Option (Int32 × AH) :=
(gR 7 46 (some a0) h).bind fun v1 =>
(xI 100 v1 ((57 + (7 * x1)) + x2) h).bind fun v2 =>
some ((v2, h))
noncomputable def X7_longOf (a0 : Nat) (x1 : Int32) (h : AH) : Option (Int32 × AH) :=
(gR 7 46 (some a0) h).bind fun v1 =>
(xI 100 v1 (56 + (7 * x1)) h).bind fun v2 =>
some ((v2, h))
noncomputable def X7_paints_78 (a0 : Nat) (x1 : Int32) (x2 : Int32) (x3 : Int32) (x4 : Int32) (s0 : Option Nat) (s1 : Int32) (s2 : Int32) (h : AH) : Option ((Int32 × AH) ⊕ (AH)) :=
(sI 100 s0 s1 s2 h).bind fun h1 =>
some (.inl ((x4 + 1), h1))
noncomputable def X7_paints_27b (a0 : Nat) (x1 : Int32) (x2 : Int32) (x3 : Int32) (x4 : Int32) (h : AH) : Option ((Int32 × AH) ⊕ (AH)) :=
if x4 < 6 then ((gR 7 57 (some a0) h).bind fun v2 =>
(isO 7 (some a0) h).bind fun a => b2 (X7_longOf a x2 h) fun v3 h4 =>
if x4 < v3 then ((isO 7 (some a0) h4).bind fun a => b2 (X7_letterOf a x2 x4 h4) fun v5 h6 =>
(isO 7 (some a0) h6).bind fun a => b2 (X7_letterAt a x3 v5 h6) fun v7 h8 =>
(isO 7 (some a0) h8).bind fun a => b2 (X7_glyphOf a x3 v7 h8) fun v9 h10 =>
X7_paints_78 a0 x1 x2 x3 x4 v2 ((3 + (8 * x1)) + x4) v9 h10) else (X7_paints_78 a0 x1 x2 x3 x4 v2 ((3 + (8 * x1)) + x4) 0 h4)) else (some (.inr (h)))
noncomputable def X7_paints_27 (a0 : Nat) (x1 : Int32) (x2 : Int32) (x3 : Int32) (x4 : Int32) (h : AH) : Option (AH) := loopC (fun s : Int32 × AH => X7_paints_27b a0 x1 x2 x3 s.1 s.2) (x4, h)
noncomputable def X7_paints (a0 : Nat) (x1 : Int32) (x2 : Int32) (x3 : Int32) (h : AH) : Option (AH) :=
(gR 7 57 (some a0) h).bind fun v11 =>
(sI 100 v11 (1 + (8 * x1)) x2 h).bind fun h12 =>
(gR 7 57 (some a0) h12).bind fun v13 =>
(sI 100 v13 (2 + (8 * x1)) x3 h12).bind fun h14 =>
X7_paints_27 a0 x1 x2 x3 0 h14
noncomputable def X7_stands_249 (a0 : Nat) (h : AH) : Option (AH) :=
(pI 7 78 (some a0) 0 h).bind fun h1 =>
some (h1)
noncomputable def X7_stands_212b (a0 : Nat) (x1 : Int32) (h : AH) : Option ((Int32 × AH) ⊕ (AH)) :=
(gI 7 48 (some a0) h).bind fun v2 =>
if x1 < v2 then ((gR 7 49 (some a0) h).bind fun v3 =>
(xI 100 v3 (2 * x1) h).bind fun v4 =>
(gR 7 49 (some a0) h).bind fun v5 =>
(xI 100 v5 ((2 * x1) + 1) h).bind fun v6 =>
(isO 7 (some a0) h).bind fun a => (X7_paints a x1 v4 v6 h).bind fun h7 =>
some (.inl ((x1 + 1), h7))) else ((X7_stands_249 a0 h).bind fun o => some (.inr o))
noncomputable def X7_stands_212 (a0 : Nat) (x1 : Int32) (h : AH) : Option (AH) := loopC (fun s : Int32 × AH => X7_stands_212b a0 s.1 s.2) (x1, h)
noncomputable def X7_stands_190b (a0 : Nat) (x1 : Int32) (h : AH) : Option ((Int32 × AH) ⊕ (AH)) :=
if x1 < 154 then ((gR 7 57 (some a0) h).bind fun v8 =>
(sI 100 v8 x1 0 h).bind fun h9 =>
some (.inl ((x1 + 1), h9))) else ((X7_stands_212 a0 0 h).bind fun o => some (.inr o))
noncomputable def X7_stands_190 (a0 : Nat) (x1 : Int32) (h : AH) : Option (AH) := loopC (fun s : Int32 × AH => X7_stands_190b a0 s.1 s.2) (x1, h)
noncomputable def X7_stands_158b (a0 : Nat) (x1 : Int32) (h : AH) : Option ((Int32 × AH) ⊕ (AH)) :=
(gI 7 54 (some a0) h).bind fun v10 =>
if x1 < v10 then ((gR 7 53 (some a0) h).bind fun v11 =>
(gR 7 53 (some a0) h).bind fun v12 =>
(xI 100 v12 x1 h).bind fun v13 =>
(sI 100 v11 (1600 + x1) v13 h).bind fun h14 =>
some (.inl ((x1 + 1), h14))) else ((X7_stands_190 a0 0 h).bind fun o => some (.inr o))
noncomputable def X7_stands_158 (a0 : Nat) (x1 : Int32) (h : AH) : Option (AH) := loopC (fun s : Int32 × AH => X7_stands_158b a0 s.1 s.2) (x1, h)
noncomputable def X7_stands_131b (a0 : Nat) (x1 : Int32) (h : AH) : Option ((Int32 × AH) ⊕ (AH)) :=
if x1 < 3 then ((gR 7 50 (some a0) h).bind fun v15 =>
(gR 7 50 (some a0) h).bind fun v16 =>
(xI 100 v16 x1 h).bind fun v17 =>
(sI 100 v15 (3 + x1) v17 h).bind fun h18 =>
some (.inl ((x1 + 1), h18))) else ((X7_stands_158 a0 0 h).bind fun o => some (.inr o))
noncomputable def X7_stands_131 (a0 : Nat) (x1 : Int32) (h : AH) : Option (AH) := loopC (fun s : Int32 × AH => X7_stands_131b a0 s.1 s.2) (x1, h)
noncomputable def X7_stands_121 (a0 : Nat) (h : AH) : Option (AH) :=
(gI 7 47 (some a0) h).bind fun v19 =>
(pI 7 48 (some a0) v19 h).bind fun h20 =>
X7_stands_131 a0 0 h20
noncomputable def X7_stands_94b (a0 : Nat) (x1 : Int32) (h : AH) : Option ((Int32 × AH) ⊕ (AH)) :=
if x1 < 56 then ((gR 7 46 (some a0) h).bind fun v21 =>
(gR 7 46 (some a0) h).bind fun v22 =>
(xI 100 v22 x1 h).bind fun v23 =>
(sI 100 v21 (56 + x1) v23 h).bind fun h24 =>
some (.inl ((x1 + 1), h24))) else ((X7_stands_121 a0 h).bind fun o => some (.inr o))
noncomputable def X7_stands_94 (a0 : Nat) (x1 : Int32) (h : AH) : Option (AH) := loopC (fun s : Int32 × AH => X7_stands_94b a0 s.1 s.2) (x1, h)
noncomputable def X7_stands_84 (a0 : Nat) (h : AH) : Option (AH) :=
(gI 7 44 (some a0) h).bind fun v25 =>
(pI 7 45 (some a0) v25 h).bind fun h26 =>
X7_stands_94 a0 0 h26
noncomputable def X7_stands_57b (a0 : Nat) (x1 : Int32) (h : AH) : Option ((Int32 × AH) ⊕ (AH)) :=
if x1 < 48 then ((gR 7 43 (some a0) h).bind fun v27 =>
(gR 7 43 (some a0) h).bind fun v28 =>
(xI 100 v28 x1 h).bind fun v29 =>
(sI 100 v27 (48 + x1) v29 h).bind fun h30 =>
some (.inl ((x1 + 1), h30))) else ((X7_stands_84 a0 h).bind fun o => some (.inr o))
noncomputable def X7_stands_57 (a0 : Nat) (x1 : Int32) (h : AH) : Option (AH) := loopC (fun s : Int32 × AH => X7_stands_57b a0 s.1 s.2) (x1, h)
noncomputable def X7_stands_2b (a0 : Nat) (x1 : Int32) (h : AH) : Option ((Int32 × AH) ⊕ (AH)) :=
if x1 < 2 then ((gR 7 42 (some a0) h).bind fun v31 =>
(gR 7 42 (some a0) h).bind fun v32 =>
(xI 100 v32 x1 h).bind fun v33 =>
(sI 100 v31 (2 + x1) v33 h).bind fun h34 =>
(gR 7 51 (some a0) h34).bind fun v35 =>
(gR 7 51 (some a0) h34).bind fun v36 =>
(xI 100 v36 x1 h34).bind fun v37 =>
(sI 100 v35 (2 + x1) v37 h34).bind fun h38 =>
(gR 7 52 (some a0) h38).bind fun v39 =>
(gR 7 52 (some a0) h38).bind fun v40 =>
(xI 100 v40 x1 h38).bind fun v41 =>
(sI 100 v39 (2 + x1) v41 h38).bind fun h42 =>
some (.inl ((x1 + 1), h42))) else ((X7_stands_57 a0 0 h).bind fun o => some (.inr o))
noncomputable def X7_stands_2 (a0 : Nat) (x1 : Int32) (h : AH) : Option (AH) := loopC (fun s : Int32 × AH => X7_stands_2b a0 s.1 s.2) (x1, h)
noncomputable def X7_stands (a0 : Nat) (h : AH) : Option (AH) :=
X7_stands_2 a0 0 h
noncomputable def X7_fail (a0 : Nat) (x1 : Int32) (x2 : Int32) (h : AH) : Option (AH) :=
(gI 7 5 (some a0) h).bind fun v1 =>
if v1 = 0 then ((pI 7 5 (some a0) x1 h).bind fun h2 =>
(pI 7 6 (some a0) x2 h2).bind fun h3 =>
some (h3)) else (some (h))
noncomputable def X7_isLetter (x0 : Int32) (h : AH) : Option (Int32 × AH) :=
if x0 < 97 then (some ((0, h))) else (if 122 < x0 then (some ((0, h))) else (some ((1, h))))
noncomputable def X7_isHere_76b (a0 : Nat) (x1 : Option Nat) (x3 : Int32) (h : AH) : Option ((Int32 × AH) ⊕ (Int32 × AH)) :=
(aln x1 h).bind fun v1 =>
if x3 < v1 then ((gR 7 0 (some a0) h).bind fun v2 =>
(gI 7 2 (some a0) h).bind fun v3 =>
(xI 100 v2 (v3 + x3) h).bind fun v4 =>
(xI 102 x1 x3 h).bind fun v5 =>
if v4 = v5 then (some (.inl ((x3 + 1), h))) else (some (.inr ((0, h))))) else (some (.inr ((1, h))))
noncomputable def X7_isHere_76 (a0 : Nat) (x1 : Option Nat) (x3 : Int32) (h : AH) : Option (Int32 × AH) := loopC (fun s : Int32 × AH => X7_isHere_76b a0 x1 s.1 s.2) (x3, h)
noncomputable def X7_isHere_61 (a0 : Nat) (x1 : Option Nat) (x2 : Int32) (h : AH) : Option (Int32 × AH) :=
(gI 7 2 (some a0) h).bind fun v6 =>
(aln x1 h).bind fun v7 =>
if (x2 - v6) = v7 then (X7_isHere_76 a0 x1 0 h) else (some ((0, h)))
noncomputable def X7_isHere_35b (a0 : Nat) (x1 : Option Nat) (x2 : Int32) (h : AH) : Option ((Int32 × AH) ⊕ (Int32 × AH)) :=
(gI 7 3 (some a0) h).bind fun v8 =>
if x2 < v8 then ((gR 7 0 (some a0) h).bind fun v9 =>
(xI 100 v9 x2 h).bind fun v10 =>
b2 (X7_isLetter v10 h) fun v11 h12 =>
if v11 = 0 then ((X7_isHere_61 a0 x1 x2 h12).bind fun o => some (.inr o)) else (some (.inl ((x2 + 1), h12)))) else ((X7_isHere_61 a0 x1 x2 h).bind fun o => some (.inr o))
noncomputable def X7_isHere_35 (a0 : Nat) (x1 : Option Nat) (x2 : Int32) (h : AH) : Option (Int32 × AH) := loopC (fun s : Int32 × AH => X7_isHere_35b a0 x1 s.1 s.2) (x2, h)
noncomputable def X7_isHere (a0 : Nat) (x1 : Option Nat) (h : AH) : Option (Int32 × AH) :=
(gI 7 5 (some a0) h).bind fun v13 =>
if v13 = 0 then ((isO 7 (some a0) h).bind fun a => b2 (X7_look a h) fun v14 h15 =>
b2 (X7_isLetter v14 h15) fun v16 h17 =>
if v16 = 0 then (some ((0, h17))) else ((gI 7 2 (some a0) h17).bind fun v18 =>
(gI 7 4 (some a0) h17).bind fun v19 =>
if v18 = v19 then (some ((0, h17))) else ((gI 7 2 (some a0) h17).bind fun v20 =>
X7_isHere_35 a0 x1 v20 h17))) else (some ((0, h)))
noncomputable def X7_takes (a0 : Nat) (x1 : Option Nat) (h : AH) : Option (Int32 × AH) :=
(isO 7 (some a0) h).bind fun a => b2 (X7_isHere a x1 h) fun v1 h2 =>
if v1 = 0 then (some ((0, h2))) else ((gI 7 2 (some a0) h2).bind fun v3 =>
(aln x1 h2).bind fun v4 =>
(pI 7 2 (some a0) (v3 + v4) h2).bind fun h5 =>
(gI 7 2 (some a0) h5).bind fun v6 =>
(pI 7 4 (some a0) v6 h5).bind fun h7 =>
some ((1, h7)))
noncomputable def X7_asks (a0 : Nat) (x1 : Option Nat) (h : AH) : Option (AH) :=
(gI 7 5 (some a0) h).bind fun v1 =>
if v1 = 0 then ((isO 7 (some a0) h).bind fun a => b2 (X7_takes a x1 h) fun v2 h3 =>
if v2 = 0 then ((gI 7 2 (some a0) h3).bind fun v4 =>
(isO 7 (some a0) h3).bind fun a => (X7_fail a 1 v4 h3).bind fun h5 =>
some (h5)) else (some (h3))) else (some (h))
noncomputable def X7_takesSign (a0 : Nat) (x1 : Int32) (h : AH) : Option (Int32 × AH) :=
(gI 7 5 (some a0) h).bind fun v1 =>
if v1 = 0 then ((isO 7 (some a0) h).bind fun a => b2 (X7_look a h) fun v2 h3 =>
if v2 = x1 then ((gI 7 2 (some a0) h3).bind fun v4 =>
(pI 7 2 (some a0) (v4 + 1) h3).bind fun h5 =>
some ((1, h5))) else (some ((0, h3)))) else (some ((0, h)))
noncomputable def X7_asksSign (a0 : Nat) (x1 : Int32) (h : AH) : Option (AH) :=
(gI 7 5 (some a0) h).bind fun v1 =>
if v1 = 0 then ((isO 7 (some a0) h).bind fun a => b2 (X7_takesSign a x1 h) fun v2 h3 =>
if v2 = 0 then ((gI 7 2 (some a0) h3).bind fun v4 =>
(isO 7 (some a0) h3).bind fun a => (X7_fail a 1 v4 h3).bind fun h5 =>
some (h5)) else (some (h3))) else (some (h))
noncomputable def X7_isOwnHere_299 (a0 : Nat) (s0 : Int32) (h : AH) : Option (Int32 × AH) :=
if s0 = 0 then ((gR 7 35 (some a0) h).bind fun v1 =>
(isO 7 (some a0) h).bind fun a => b2 (X7_isHere a v1 h) fun v2 h3 =>
if v2 = 0 then ((gR 7 36 (some a0) h3).bind fun v4 =>
(isO 7 (some a0) h3).bind fun a => b2 (X7_isHere a v4 h3) fun v5 h6 =>
if v5 = 0 then ((gR 7 37 (some a0) h6).bind fun v7 =>
(isO 7 (some a0) h6).bind fun a => b2 (X7_isHere a v7 h6) fun v8 h9 =>
if v8 = 0 then ((gR 7 38 (some a0) h9).bind fun v10 =>
(isO 7 (some a0) h9).bind fun a => b2 (X7_isHere a v10 h9) fun v11 h12 =>
if v11 = 0 then (some ((0, h12))) else (some ((1, h12)))) else (some ((1, h9)))) else (some ((1, h6)))) else (some ((1, h3)))) else (some ((1, h)))
noncomputable def X7_isOwnHere_294 (a0 : Nat) (h : AH) : Option (Int32 × AH) :=
X7_isOwnHere_299 a0 1 h
noncomputable def X7_isOwnHere_223 (a0 : Nat) (s0 : Int32) (h : AH) : Option (Int32 × AH) :=
if s0 = 0 then ((gR 7 29 (some a0) h).bind fun v13 =>
(isO 7 (some a0) h).bind fun a => b2 (X7_isHere a v13 h) fun v14 h15 =>
if v14 = 0 then ((gR 7 30 (some a0) h15).bind fun v16 =>
(isO 7 (some a0) h15).bind fun a => b2 (X7_isHere a v16 h15) fun v17 h18 =>
if v17 = 0 then ((gR 7 31 (some a0) h18).bind fun v19 =>
(isO 7 (some a0) h18).bind fun a => b2 (X7_isHere a v19 h18) fun v20 h21 =>
if v20 = 0 then ((gR 7 32 (some a0) h21).bind fun v22 =>
(isO 7 (some a0) h21).bind fun a => b2 (X7_isHere a v22 h21) fun v23 h24 =>
if v23 = 0 then ((gR 7 33 (some a0) h24).bind fun v25 =>
(isO 7 (some a0) h24).bind fun a => b2 (X7_isHere a v25 h24) fun v26 h27 =>
if v26 = 0 then ((gR 7 34 (some a0) h27).bind fun v28 =>
(isO 7 (some a0) h27).bind fun a => b2 (X7_isHere a v28 h27) fun v29 h30 =>
if v29 = 0 then (X7_isOwnHere_299 a0 0 h30) else (X7_isOwnHere_294 a0 h30)) else (X7_isOwnHere_294 a0 h27)) else (X7_isOwnHere_294 a0 h24)) else (X7_isOwnHere_294 a0 h21)) else (X7_isOwnHere_294 a0 h18)) else (X7_isOwnHere_294 a0 h15)) else (X7_isOwnHere_294 a0 h)
noncomputable def X7_isOwnHere_218 (a0 : Nat) (h : AH) : Option (Int32 × AH) :=
X7_isOwnHere_223 a0 1 h
noncomputable def X7_isOwnHere_147 (a0 : Nat) (s0 : Int32) (h : AH) : Option (Int32 × AH) :=
if s0 = 0 then ((gR 7 23 (some a0) h).bind fun v31 =>
(isO 7 (some a0) h).bind fun a => b2 (X7_isHere a v31 h) fun v32 h33 =>
if v32 = 0 then ((gR 7 24 (some a0) h33).bind fun v34 =>
(isO 7 (some a0) h33).bind fun a => b2 (X7_isHere a v34 h33) fun v35 h36 =>
if v35 = 0 then ((gR 7 25 (some a0) h36).bind fun v37 =>
(isO 7 (some a0) h36).bind fun a => b2 (X7_isHere a v37 h36) fun v38 h39 =>
if v38 = 0 then ((gR 7 26 (some a0) h39).bind fun v40 =>
(isO 7 (some a0) h39).bind fun a => b2 (X7_isHere a v40 h39) fun v41 h42 =>
if v41 = 0 then ((gR 7 27 (some a0) h42).bind fun v43 =>
(isO 7 (some a0) h42).bind fun a => b2 (X7_isHere a v43 h42) fun v44 h45 =>
if v44 = 0 then ((gR 7 28 (some a0) h45).bind fun v46 =>
(isO 7 (some a0) h45).bind fun a => b2 (X7_isHere a v46 h45) fun v47 h48 =>
if v47 = 0 then (X7_isOwnHere_223 a0 0 h48) else (X7_isOwnHere_218 a0 h48)) else (X7_isOwnHere_218 a0 h45)) else (X7_isOwnHere_218 a0 h42)) else (X7_isOwnHere_218 a0 h39)) else (X7_isOwnHere_218 a0 h36)) else (X7_isOwnHere_218 a0 h33)) else (X7_isOwnHere_218 a0 h)
noncomputable def X7_isOwnHere_142 (a0 : Nat) (h : AH) : Option (Int32 × AH) :=
X7_isOwnHere_147 a0 1 h
noncomputable def X7_isOwnHere_71 (a0 : Nat) (s0 : Int32) (h : AH) : Option (Int32 × AH) :=
if s0 = 0 then ((gR 7 17 (some a0) h).bind fun v49 =>
(isO 7 (some a0) h).bind fun a => b2 (X7_isHere a v49 h) fun v50 h51 =>
if v50 = 0 then ((gR 7 18 (some a0) h51).bind fun v52 =>
(isO 7 (some a0) h51).bind fun a => b2 (X7_isHere a v52 h51) fun v53 h54 =>
if v53 = 0 then ((gR 7 19 (some a0) h54).bind fun v55 =>
(isO 7 (some a0) h54).bind fun a => b2 (X7_isHere a v55 h54) fun v56 h57 =>
if v56 = 0 then ((gR 7 20 (some a0) h57).bind fun v58 =>
(isO 7 (some a0) h57).bind fun a => b2 (X7_isHere a v58 h57) fun v59 h60 =>
if v59 = 0 then ((gR 7 21 (some a0) h60).bind fun v61 =>
(isO 7 (some a0) h60).bind fun a => b2 (X7_isHere a v61 h60) fun v62 h63 =>
if v62 = 0 then ((gR 7 22 (some a0) h63).bind fun v64 =>
(isO 7 (some a0) h63).bind fun a => b2 (X7_isHere a v64 h63) fun v65 h66 =>
if v65 = 0 then (X7_isOwnHere_147 a0 0 h66) else (X7_isOwnHere_142 a0 h66)) else (X7_isOwnHere_142 a0 h63)) else (X7_isOwnHere_142 a0 h60)) else (X7_isOwnHere_142 a0 h57)) else (X7_isOwnHere_142 a0 h54)) else (X7_isOwnHere_142 a0 h51)) else (X7_isOwnHere_142 a0 h)
noncomputable def X7_isOwnHere_66 (a0 : Nat) (h : AH) : Option (Int32 × AH) :=
X7_isOwnHere_71 a0 1 h
noncomputable def X7_isOwnHere (a0 : Nat) (h : AH) : Option (Int32 × AH) :=
(gR 7 11 (some a0) h).bind fun v67 =>
(isO 7 (some a0) h).bind fun a => b2 (X7_isHere a v67 h) fun v68 h69 =>
if v68 = 0 then ((gR 7 12 (some a0) h69).bind fun v70 =>
(isO 7 (some a0) h69).bind fun a => b2 (X7_isHere a v70 h69) fun v71 h72 =>
if v71 = 0 then ((gR 7 13 (some a0) h72).bind fun v73 =>
(isO 7 (some a0) h72).bind fun a => b2 (X7_isHere a v73 h72) fun v74 h75 =>
if v74 = 0 then ((gR 7 14 (some a0) h75).bind fun v76 =>
(isO 7 (some a0) h75).bind fun a => b2 (X7_isHere a v76 h75) fun v77 h78 =>
if v77 = 0 then ((gR 7 15 (some a0) h78).bind fun v79 =>
(isO 7 (some a0) h78).bind fun a => b2 (X7_isHere a v79 h78) fun v80 h81 =>
if v80 = 0 then ((gR 7 16 (some a0) h81).bind fun v82 =>
(isO 7 (some a0) h81).bind fun a => b2 (X7_isHere a v82 h81) fun v83 h84 =>
if v83 = 0 then (X7_isOwnHere_71 a0 0 h84) else (X7_isOwnHere_66 a0 h84)) else (X7_isOwnHere_66 a0 h81)) else (X7_isOwnHere_66 a0 h78)) else (X7_isOwnHere_66 a0 h75)) else (X7_isOwnHere_66 a0 h72)) else (X7_isOwnHere_66 a0 h69)
noncomputable def X7_name_41 (a0 : Nat) (h : AH) : Option (AH) :=
(gI 7 2 (some a0) h).bind fun v1 =>
(isO 7 (some a0) h).bind fun a => (X7_fail a 1 v1 h).bind fun h2 =>
some (h2)
noncomputable def X7_name_93 (a0 : Nat) (h : AH) : Option (AH) :=
(gI 7 2 (some a0) h).bind fun v3 =>
(isO 7 (some a0) h).bind fun a => (X7_fail a 1 v3 h).bind fun h4 =>
some (h4)
noncomputable def X7_name_149 (a0 : Nat) (h : AH) : Option (AH) :=
(gI 7 2 (some a0) h).bind fun v5 =>
(pI 7 4 (some a0) v5 h).bind fun h6 =>
some (h6)
noncomputable def X7_name_59b (a0 : Nat) (x1 : Int32)  (h : AH) : Option ((AH) ⊕ (AH)) :=
(gI 7 2 (some a0) h).bind fun v7 =>
(gI 7 3 (some a0) h).bind fun v8 =>
if v7 < v8 then ((gR 7 0 (some a0) h).bind fun v9 =>
(gI 7 2 (some a0) h).bind fun v10 =>
(xI 100 v9 v10 h).bind fun v11 =>
b2 (X7_isLetter v11 h) fun v12 h13 =>
if v12 = 0 then ((X7_name_149 a0 h13).bind fun o => some (.inr o)) else ((gI 7 40 (some a0) h13).bind fun v14 =>
if v14 = x1 then ((X7_name_93 a0 h13).bind fun o => some (.inr o)) else ((gR 7 41 (some a0) h13).bind fun v15 =>
(gI 7 40 (some a0) h13).bind fun v16 =>
(gR 7 0 (some a0) h13).bind fun v17 =>
(gI 7 2 (some a0) h13).bind fun v18 =>
(xI 100 v17 v18 h13).bind fun v19 =>
(sI 100 v15 v16 ((v19 - 97) + 1) h13).bind fun h20 =>
(gI 7 40 (some a0) h20).bind fun v21 =>
(pI 7 40 (some a0) (v21 + 1) h20).bind fun h22 =>
(gI 7 2 (some a0) h22).bind fun v23 =>
(pI 7 2 (some a0) (v23 + 1) h22).bind fun h24 =>
some (.inl (h24))))) else ((X7_name_149 a0 h).bind fun o => some (.inr o))
noncomputable def X7_name_59 (a0 : Nat) (x1 : Int32) (h : AH) : Option (AH) := loopC (fun s : AH => X7_name_59b a0 x1 s) (h)
noncomputable def X7_name (a0 : Nat) (x1 : Int32) (h : AH) : Option (AH) :=
(pI 7 40 (some a0) 0 h).bind fun h25 =>
(gI 7 5 (some a0) h25).bind fun v26 =>
if v26 = 0 then ((isO 7 (some a0) h25).bind fun a => b2 (X7_look a h25) fun v27 h28 =>
b2 (X7_isLetter v27 h28) fun v29 h30 =>
if v29 = 0 then (X7_name_41 a0 h30) else ((gI 7 2 (some a0) h30).bind fun v31 =>
(gI 7 4 (some a0) h30).bind fun v32 =>
if v31 = v32 then (X7_name_41 a0 h30) else ((isO 7 (some a0) h30).bind fun a => b2 (X7_isOwnHere a h30) fun v33 h34 =>
if v33 = 0 then ((gI 7 2 (some a0) h34).bind fun v35 =>
(pI 7 39 (some a0) v35 h34).bind fun h36 =>
X7_name_59 a0 x1 h36) else (X7_name_41 a0 h34)))) else (some (h25))
noncomputable def X7_isDigit (x0 : Int32) (h : AH) : Option (Int32 × AH) :=
if x0 < 48 then (some ((0, h))) else (if 57 < x0 then (some ((0, h))) else (some ((1, h))))
noncomputable def X7_isIn (x0 : Int64) (x2 : Int64) (x4 : Int64) (h : AH) : Option (Int32 × AH) :=
if (lg_cmp x0 x2) < 0 then (some ((0, h))) else (if 0 < (lg_cmp x0 x4) then (some ((0, h))) else (some ((1, h))))
noncomputable def X7_number_30 (a0 : Nat) (h : AH) : Option (Int32 × AH) :=
(gI 7 2 (some a0) h).bind fun v1 =>
(isO 7 (some a0) h).bind fun a => (X7_fail a 1 v1 h).bind fun h2 =>
some ((0, h2))
noncomputable def X7_number_85 (a0 : Nat) (h : AH) : Option (Int32 × AH) :=
(gI 7 2 (some a0) h).bind fun v3 =>
(isO 7 (some a0) h).bind fun a => (X7_fail a 1 v3 h).bind fun h4 =>
some ((0, h4))
noncomputable def X7_number_129 (a0 : Nat) (x1 : Int32) (x2 : Int32) (x3 : Int32) (x4 : Int32) (h : AH) : Option (Int32 × AH) :=
(gI 7 2 (some a0) h).bind fun v5 =>
(pI 7 4 (some a0) v5 h).bind fun h6 =>
(pI 7 10 (some a0) x3 h6).bind fun h7 =>
b2 (X7_isIn (Int32.toInt64 x4) (Int32.toInt64 x1) (Int32.toInt64 x2) h7) fun v8 h9 =>
if v8 = 0 then ((gI 7 10 (some a0) h9).bind fun v10 =>
(isO 7 (some a0) h9).bind fun a => (X7_fail a 2 v10 h9).bind fun h11 =>
some ((x4, h11))) else (some ((x4, h9)))
noncomputable def X7_number_49b (a0 : Nat) (x1 : Int32) (x2 : Int32) (x3 : Int32) (x4 : Int32) (h : AH) : Option ((Int32 × AH) ⊕ (Int32 × AH)) :=
(gI 7 2 (some a0) h).bind fun v12 =>
(gI 7 3 (some a0) h).bind fun v13 =>
if v12 < v13 then ((gR 7 0 (some a0) h).bind fun v14 =>
(gI 7 2 (some a0) h).bind fun v15 =>
(xI 100 v14 v15 h).bind fun v16 =>
b2 (X7_isDigit v16 h) fun v17 h18 =>
if v17 = 0 then ((X7_number_129 a0 x1 x2 x3 x4 h18).bind fun o => some (.inr o)) else ((gI 7 2 (some a0) h18).bind fun v19 =>
if (v19 - x3) = 4 then ((X7_number_85 a0 h18).bind fun o => some (.inr o)) else ((gR 7 0 (some a0) h18).bind fun v20 =>
(gI 7 2 (some a0) h18).bind fun v21 =>
(xI 100 v20 v21 h18).bind fun v22 =>
(gI 7 2 (some a0) h18).bind fun v23 =>
(pI 7 2 (some a0) (v23 + 1) h18).bind fun h24 =>
some (.inl ((((10 * x4) + v22) - 48), h24))))) else ((X7_number_129 a0 x1 x2 x3 x4 h).bind fun o => some (.inr o))
noncomputable def X7_number_49 (a0 : Nat) (x1 : Int32) (x2 : Int32) (x3 : Int32) (x4 : Int32) (h : AH) : Option (Int32 × AH) := loopC (fun s : Int32 × AH => X7_number_49b a0 x1 x2 x3 s.1 s.2) (x4, h)
noncomputable def X7_number (a0 : Nat) (x1 : Int32) (x2 : Int32) (h : AH) : Option (Int32 × AH) :=
(gI 7 5 (some a0) h).bind fun v25 =>
if v25 = 0 then ((isO 7 (some a0) h).bind fun a => b2 (X7_look a h) fun v26 h27 =>
b2 (X7_isDigit v26 h27) fun v28 h29 =>
if v28 = 0 then (X7_number_30 a0 h29) else ((gI 7 2 (some a0) h29).bind fun v30 =>
(gI 7 4 (some a0) h29).bind fun v31 =>
if v30 = v31 then (X7_number_30 a0 h29) else ((gI 7 2 (some a0) h29).bind fun v32 =>
X7_number_49 a0 x1 x2 v32 0 h29))) else (some ((0, h)))
noncomputable def X7_toldAt_2b (a0 : Nat) (x1 : Int32) (x2 : Int32) (x3 : Int32) (h : AH) : Option ((Int32 × AH) ⊕ (Int32 × AH)) :=
(gR 7 42 (some a0) h).bind fun v1 =>
(xI 100 v1 x1 h).bind fun v2 =>
if x3 < v2 then ((gR 7 43 (some a0) h).bind fun v3 =>
(xI 100 v3 ((24 * x1) + (2 * x3)) h).bind fun v4 =>
if v4 = x2 then (some (.inr ((x3, h)))) else (some (.inl ((x3 + 1), h)))) else (some (.inr (((-1), h))))
noncomputable def X7_toldAt_2 (a0 : Nat) (x1 : Int32) (x2 : Int32) (x3 : Int32) (h : AH) : Option (Int32 × AH) := loopC (fun s : Int32 × AH => X7_toldAt_2b a0 x1 x2 s.1 s.2) (x3, h)
noncomputable def X7_toldAt (a0 : Nat) (x1 : Int32) (x2 : Int32) (h : AH) : Option (Int32 × AH) :=
X7_toldAt_2 a0 x1 x2 0 h
noncomputable def X7_wordNamed_80 (a0 : Nat) (x1 : Int32) (x2 : Int32) (h : AH) : Option ((Int32 × AH) ⊕ (Int32 × AH)) :=
if x2 = 0 then (some (.inl ((x1 + 1), h))) else (some (.inr ((x1, h))))
noncomputable def X7_wordNamed_34b (a0 : Nat) (x1 : Int32) (x2 : Int32) (x3 : Int32) (h : AH) : Option ((Int32 × Int32 × AH) ⊕ ((Int32 × AH) ⊕ (Int32 × AH))) :=
(gI 7 40 (some a0) h).bind fun v1 =>
if x3 < v1 then (if x2 = 0 then ((X7_wordNamed_80 a0 x1 x2 h).bind fun o => some (.inr o)) else ((gR 7 46 (some a0) h).bind fun v2 =>
(xI 100 v2 (((7 * x1) + 1) + x3) h).bind fun v3 =>
(gR 7 41 (some a0) h).bind fun v4 =>
(xI 100 v4 x3 h).bind fun v5 =>
if v3 = v5 then (some (.inl (1, (x3 + 1), h))) else (some (.inl (0, (x3 + 1), h))))) else ((X7_wordNamed_80 a0 x1 x2 h).bind fun o => some (.inr o))
noncomputable def X7_wordNamed_34 (a0 : Nat) (x1 : Int32) (x2 : Int32) (x3 : Int32) (h : AH) : Option ((Int32 × AH) ⊕ (Int32 × AH)) := loopC (fun s : Int32 × Int32 × AH => X7_wordNamed_34b a0 x1 s.1 s.2.1 s.2.2) (x2, x3, h)
noncomputable def X7_wordNamed_2b (a0 : Nat) (x1 : Int32) (h : AH) : Option ((Int32 × AH) ⊕ (Int32 × AH)) :=
(gI 7 44 (some a0) h).bind fun v6 =>
if x1 < v6 then ((gR 7 46 (some a0) h).bind fun v7 =>
(xI 100 v7 (7 * x1) h).bind fun v8 =>
(gI 7 40 (some a0) h).bind fun v9 =>
if v8 = v9 then (X7_wordNamed_34 a0 x1 1 0 h) else (X7_wordNamed_34 a0 x1 0 0 h)) else (some (.inr (((-1), h))))
noncomputable def X7_wordNamed_2 (a0 : Nat) (x1 : Int32) (h : AH) : Option (Int32 × AH) := loopC (fun s : Int32 × AH => X7_wordNamed_2b a0 s.1 s.2) (x1, h)
noncomputable def X7_wordNamed (a0 : Nat) (h : AH) : Option (Int32 × AH) :=
X7_wordNamed_2 a0 0 h
noncomputable def X7_boardTold_139 (a0 : Nat) (x2 : Int32) (x3 : Int32) (h : AH) : Option (AH) :=
(gI 7 5 (some a0) h).bind fun v1 =>
if v1 = 0 then ((gR 7 49 (some a0) h).bind fun v2 =>
(gI 7 47 (some a0) h).bind fun v3 =>
(sI 100 v2 (2 * v3) x2 h).bind fun h4 =>
(gR 7 49 (some a0) h4).bind fun v5 =>
(gI 7 47 (some a0) h4).bind fun v6 =>
(sI 100 v5 ((2 * v6) + 1) x3 h4).bind fun h7 =>
(gI 7 47 (some a0) h7).bind fun v8 =>
(pI 7 47 (some a0) (v8 + 1) h7).bind fun h9 =>
some (h9)) else (some (h))
noncomputable def X7_boardTold_80b (a0 : Nat) (x2 : Int32) (x3 : Int32) (x4 : Int32) (h : AH) : Option ((Int32 × AH) ⊕ (AH)) :=
(gI 7 5 (some a0) h).bind fun v10 =>
if v10 = 0 then ((gR 7 46 (some a0) h).bind fun v11 =>
(xI 100 v11 (7 * x2) h).bind fun v12 =>
if x4 < v12 then ((gR 7 46 (some a0) h).bind fun v13 =>
(xI 100 v13 (((7 * x2) + 1) + x4) h).bind fun v14 =>
(isO 7 (some a0) h).bind fun a => b2 (X7_toldAt a x3 v14 h) fun v15 h16 =>
if v15 = (-1) then ((gI 7 10 (some a0) h16).bind fun v17 =>
(isO 7 (some a0) h16).bind fun a => (X7_fail a 2 v17 h16).bind fun h18 =>
some (.inl ((x4 + 1), h18))) else (some (.inl ((x4 + 1), h16)))) else ((X7_boardTold_139 a0 x2 x3 h).bind fun o => some (.inr o))) else ((X7_boardTold_139 a0 x2 x3 h).bind fun o => some (.inr o))
noncomputable def X7_boardTold_80 (a0 : Nat) (x2 : Int32) (x3 : Int32) (x4 : Int32) (h : AH) : Option (AH) := loopC (fun s : Int32 × AH => X7_boardTold_80b a0 x2 x3 s.1 s.2) (x4, h)
noncomputable def X7_boardTold_62 (a0 : Nat) (x2 : Int32) (h : AH) : Option (AH) :=
(gR 7 12 (some a0) h).bind fun v19 =>
(isO 7 (some a0) h).bind fun a => (X7_asks a v19 h).bind fun h20 =>
(isO 7 (some a0) h20).bind fun a => b2 (X7_number a 0 1 h20) fun v21 h22 =>
X7_boardTold_80 a0 x2 v21 0 h22
noncomputable def X7_boardTold_21 (a0 : Nat) (h : AH) : Option (AH) :=
(gI 7 5 (some a0) h).bind fun v23 =>
if v23 = 0 then ((isO 7 (some a0) h).bind fun a => (X7_name a 6 h).bind fun h24 =>
(gI 7 5 (some a0) h24).bind fun v25 =>
if v25 = 0 then ((isO 7 (some a0) h24).bind fun a => b2 (X7_wordNamed a h24) fun v26 h27 =>
if v26 = (-1) then ((gI 7 39 (some a0) h27).bind fun v28 =>
(isO 7 (some a0) h27).bind fun a => (X7_fail a 3 v28 h27).bind fun h29 =>
X7_boardTold_62 a0 v26 h29) else (X7_boardTold_62 a0 v26 h27)) else (some (h24))) else (some (h))
noncomputable def X7_boardTold (a0 : Nat) (x1 : Int32) (h : AH) : Option (AH) :=
(gI 7 5 (some a0) h).bind fun v30 =>
if v30 = 0 then ((gI 7 47 (some a0) h).bind fun v31 =>
if v31 = 4 then ((isO 7 (some a0) h).bind fun a => (X7_fail a 5 x1 h).bind fun h32 =>
X7_boardTold_21 a0 h32) else (X7_boardTold_21 a0 h)) else (X7_boardTold_21 a0 h)
noncomputable def X7_qCode (a0 : Nat) (x1 : Int32) (h : AH) : Option (AH) :=
(gR 7 105 (some a0) h).bind fun v1 =>
(gI 7 106 (some a0) h).bind fun v2 =>
(sI 100 v1 v2 x1 h).bind fun h3 =>
(gI 7 106 (some a0) h3).bind fun v4 =>
(pI 7 106 (some a0) (v4 + 1) h3).bind fun h5 =>
some (h5)
noncomputable def X7_qDrops (a0 : Nat) (h : AH) : Option (AH) :=
(gI 7 108 (some a0) h).bind fun v1 =>
(pI 7 108 (some a0) (v1 - 1) h).bind fun h2 =>
(gR 7 107 (some a0) h2).bind fun v3 =>
(gI 7 108 (some a0) h2).bind fun v4 =>
(xI 100 v3 v4 h2).bind fun v5 =>
(isO 7 (some a0) h2).bind fun a => (X7_qCode a v5 h2).bind fun h6 =>
some (h6)
noncomputable def X7_qIsBracket (x0 : Int32) (h : AH) : Option (Int32 × AH) :=
if x0 < 20 then (some ((0, h))) else (if 24 < x0 then (some ((0, h))) else (some ((1, h))))
noncomputable def X7_qBracket_33 (a0 : Nat) (x1 : Int32) (h : AH) : Option (Int32 × AH) :=
(gI 7 110 (some a0) h).bind fun v1 =>
if x1 < v1 then (some (((-1), h))) else ((gR 7 107 (some a0) h).bind fun v2 =>
(xI 100 v2 x1 h).bind fun v3 =>
some ((v3, h)))
noncomputable def X7_qBracket_7b (a0 : Nat) (x1 : Int32) (h : AH) : Option ((Int32 × AH) ⊕ (Int32 × AH)) :=
(gI 7 110 (some a0) h).bind fun v4 =>
if x1 < v4 then ((X7_qBracket_33 a0 x1 h).bind fun o => some (.inr o)) else ((gR 7 107 (some a0) h).bind fun v5 =>
(xI 100 v5 x1 h).bind fun v6 =>
b2 (X7_qIsBracket v6 h) fun v7 h8 =>
if v7 = 0 then (some (.inl ((x1 + (-1)), h8))) else ((X7_qBracket_33 a0 x1 h8).bind fun o => some (.inr o)))
noncomputable def X7_qBracket_7 (a0 : Nat) (x1 : Int32) (h : AH) : Option (Int32 × AH) := loopC (fun s : Int32 × AH => X7_qBracket_7b a0 s.1 s.2) (x1, h)
noncomputable def X7_qBracket (a0 : Nat) (h : AH) : Option (Int32 × AH) :=
(gI 7 108 (some a0) h).bind fun v9 =>
X7_qBracket_7 a0 (v9 - 1) h
noncomputable def X7_qDropsToBracket_0b (a0 : Nat)  (h : AH) : Option ((AH) ⊕ (AH)) :=
(gI 7 108 (some a0) h).bind fun v1 =>
(gI 7 110 (some a0) h).bind fun v2 =>
if v2 < v1 then ((gR 7 107 (some a0) h).bind fun v3 =>
(gI 7 108 (some a0) h).bind fun v4 =>
(xI 100 v3 (v4 - 1) h).bind fun v5 =>
b2 (X7_qIsBracket v5 h) fun v6 h7 =>
if v6 = 0 then ((isO 7 (some a0) h7).bind fun a => (X7_qDrops a h7).bind fun h8 =>
some (.inl (h8))) else (some (.inr (h7)))) else (some (.inr (h)))
noncomputable def X7_qDropsToBracket (a0 : Nat) (h : AH) : Option (AH) := loopC (fun s : AH => X7_qDropsToBracket_0b a0 s) (h)
noncomputable def X7_qEndsPart_0b (a0 : Nat)  (h : AH) : Option ((AH) ⊕ (AH)) :=
(gI 7 5 (some a0) h).bind fun v1 =>
if v1 = 0 then ((gI 7 108 (some a0) h).bind fun v2 =>
(gI 7 110 (some a0) h).bind fun v3 =>
if v3 < v2 then ((gR 7 107 (some a0) h).bind fun v4 =>
(gI 7 108 (some a0) h).bind fun v5 =>
(xI 100 v4 (v5 - 1) h).bind fun v6 =>
if v6 < 60 then (some (.inr (h))) else ((gI 7 109 (some a0) h).bind fun v7 =>
(pI 7 109 (some a0) (v7 - 1) h).bind fun h8 =>
(isO 7 (some a0) h8).bind fun a => (X7_qDrops a h8).bind fun h9 =>
some (.inl (h9)))) else (some (.inr (h)))) else (some (.inr (h)))
noncomputable def X7_qEndsPart (a0 : Nat) (h : AH) : Option (AH) := loopC (fun s : AH => X7_qEndsPart_0b a0 s) (h)
noncomputable def X7_qIsOn (a0 : Nat) (x1 : Int32) (h : AH) : Option (Int32 × AH) :=
(gI 7 108 (some a0) h).bind fun v1 =>
if 0 < v1 then ((gR 7 107 (some a0) h).bind fun v2 =>
(gI 7 108 (some a0) h).bind fun v3 =>
(xI 100 v2 (v3 - 1) h).bind fun v4 =>
if v4 = x1 then (some ((1, h))) else (some ((0, h)))) else (some ((0, h)))
noncomputable def X7_qGoesOn_115 (a0 : Nat) (h : AH) : Option ((AH) ⊕ (Int32 × AH)) :=
(isO 7 (some a0) h).bind fun a => (X7_qEndsPart a h).bind fun h1 =>
some (.inl (h1))
noncomputable def X7_qGoesOn_112 (a0 : Nat) (s0 : Option Nat) (s1 : Int32) (h : AH) : Option ((AH) ⊕ (Int32 × AH)) :=
(isO 7 s0 h).bind fun a => (X7_qCode a s1 h).bind fun h2 =>
X7_qGoesOn_115 a0 h2
noncomputable def X7_qGoesOn_43 (a0 : Nat) (h : AH) : Option ((AH) ⊕ (Int32 × AH)) :=
(gI 7 2 (some a0) h).bind fun v3 =>
(pI 7 2 (some a0) (v3 + 1) h).bind fun h4 =>
(isO 7 (some a0) h4).bind fun a => (X7_qDropsToBracket a h4).bind fun h5 =>
(gI 7 108 (some a0) h5).bind fun v6 =>
(pI 7 108 (some a0) (v6 - 1) h5).bind fun h7 =>
(gI 7 109 (some a0) h7).bind fun v8 =>
(pI 7 109 (some a0) (v8 - 1) h7).bind fun h9 =>
(gR 7 107 (some a0) h9).bind fun v10 =>
(gI 7 108 (some a0) h9).bind fun v11 =>
(xI 100 v10 v11 h9).bind fun v12 =>
if v12 = 20 then (X7_qGoesOn_115 a0 h9) else ((gR 7 107 (some a0) h9).bind fun v13 =>
(gI 7 108 (some a0) h9).bind fun v14 =>
(xI 100 v13 v14 h9).bind fun v15 =>
if v15 = 23 then (X7_qGoesOn_112 a0 (some a0) 5 h9) else (X7_qGoesOn_112 a0 (some a0) 6 h9))
noncomputable def X7_qGoesOn_178 (a0 : Nat) (x1 : Int32) (h : AH) : Option ((AH) ⊕ (Int32 × AH)) :=
(isO 7 (some a0) h).bind fun a => (X7_qDrops a h).bind fun h16 =>
some (.inl (h16))
noncomputable def X7_qGoesOn_185 (a0 : Nat) (x1 : Int32) (h : AH) : Option (Int32 × AH) :=
(gR 7 107 (some a0) h).bind fun v17 =>
(gI 7 108 (some a0) h).bind fun v18 =>
(sI 100 v17 v18 x1 h).bind fun h19 =>
(gI 7 108 (some a0) h19).bind fun v20 =>
(pI 7 108 (some a0) (v20 + 1) h19).bind fun h21 =>
some ((1, h21))
noncomputable def X7_qGoesOn_162b (a0 : Nat) (x1 : Int32)  (h : AH) : Option ((AH) ⊕ (Int32 × AH)) :=
(isO 7 (some a0) h).bind fun a => b2 (X7_qIsOn a 3 h) fun v22 h23 =>
if v22 = 0 then ((isO 7 (some a0) h23).bind fun a => b2 (X7_qIsOn a 4 h23) fun v24 h25 =>
if v24 = 0 then ((X7_qGoesOn_185 a0 x1 h25).bind fun o => some (.inr o)) else (X7_qGoesOn_178 a0 x1 h25)) else (X7_qGoesOn_178 a0 x1 h23)
noncomputable def X7_qGoesOn_162 (a0 : Nat) (x1 : Int32) (h : AH) : Option (Int32 × AH) := loopC (fun s : AH => X7_qGoesOn_162b a0 x1 s) (h)
noncomputable def X7_qGoesOn_140 (a0 : Nat) (h : AH) : Option (Int32 × AH) :=
(gR 7 0 (some a0) h).bind fun v26 =>
(gI 7 2 (some a0) h).bind fun v27 =>
(xI 100 v26 (v27 - 1) h).bind fun v28 =>
if v28 = 42 then (X7_qGoesOn_162 a0 3 h) else (X7_qGoesOn_162 a0 4 h)
noncomputable def X7_qGoesOn_279 (a0 : Nat) (x1 : Int32) (h : AH) : Option ((AH) ⊕ (Int32 × AH)) :=
(isO 7 (some a0) h).bind fun a => (X7_qDrops a h).bind fun h29 =>
some (.inl (h29))
noncomputable def X7_qGoesOn_286 (a0 : Nat) (x1 : Int32) (h : AH) : Option (Int32 × AH) :=
(gR 7 107 (some a0) h).bind fun v30 =>
(gI 7 108 (some a0) h).bind fun v31 =>
(sI 100 v30 v31 x1 h).bind fun h32 =>
(gI 7 108 (some a0) h32).bind fun v33 =>
(pI 7 108 (some a0) (v33 + 1) h32).bind fun h34 =>
some ((1, h34))
noncomputable def X7_qGoesOn_247b (a0 : Nat) (x1 : Int32)  (h : AH) : Option ((AH) ⊕ (Int32 × AH)) :=
(isO 7 (some a0) h).bind fun a => b2 (X7_qIsOn a 3 h) fun v35 h36 =>
if v35 = 0 then ((isO 7 (some a0) h36).bind fun a => b2 (X7_qIsOn a 4 h36) fun v37 h38 =>
if v37 = 0 then ((isO 7 (some a0) h38).bind fun a => b2 (X7_qIsOn a 1 h38) fun v39 h40 =>
if v39 = 0 then ((isO 7 (some a0) h40).bind fun a => b2 (X7_qIsOn a 2 h40) fun v41 h42 =>
if v41 = 0 then ((X7_qGoesOn_286 a0 x1 h42).bind fun o => some (.inr o)) else (X7_qGoesOn_279 a0 x1 h42)) else (X7_qGoesOn_279 a0 x1 h40)) else (X7_qGoesOn_279 a0 x1 h38)) else (X7_qGoesOn_279 a0 x1 h36)
noncomputable def X7_qGoesOn_247 (a0 : Nat) (x1 : Int32) (h : AH) : Option (Int32 × AH) := loopC (fun s : AH => X7_qGoesOn_247b a0 x1 s) (h)
noncomputable def X7_qGoesOn_225 (a0 : Nat) (h : AH) : Option (Int32 × AH) :=
(gR 7 0 (some a0) h).bind fun v43 =>
(gI 7 2 (some a0) h).bind fun v44 =>
(xI 100 v43 (v44 - 1) h).bind fun v45 =>
if v45 = 43 then (X7_qGoesOn_247 a0 1 h) else (X7_qGoesOn_247 a0 2 h)
noncomputable def X7_qGoesOn_326 (a0 : Nat) (h : AH) : Option (Int32 × AH) :=
(isO 7 (some a0) h).bind fun a => (X7_asksSign a 44 h).bind fun h46 =>
(gI 7 5 (some a0) h46).bind fun v47 =>
if v47 = 0 then ((isO 7 (some a0) h46).bind fun a => (X7_qDropsToBracket a h46).bind fun h48 =>
(gR 7 107 (some a0) h48).bind fun v49 =>
(gI 7 108 (some a0) h48).bind fun v50 =>
(xI 100 v49 (v50 - 1) h48).bind fun v51 =>
(sI 100 v49 (v50 - 1) (v51 + 2) h48).bind fun h52 =>
some ((1, h52))) else (some ((0, h46)))
noncomputable def X7_qGoesOn_122 (a0 : Nat) (h : AH) : Option (Int32 × AH) :=
(isO 7 (some a0) h).bind fun a => b2 (X7_takesSign a 42 h) fun v53 h54 =>
if v53 = 0 then ((isO 7 (some a0) h54).bind fun a => b2 (X7_takesSign a 47 h54) fun v55 h56 =>
if v55 = 0 then ((isO 7 (some a0) h56).bind fun a => b2 (X7_takesSign a 43 h56) fun v57 h58 =>
if v57 = 0 then ((isO 7 (some a0) h58).bind fun a => b2 (X7_takesSign a 45 h58) fun v59 h60 =>
if v59 = 0 then ((isO 7 (some a0) h60).bind fun a => b2 (X7_qBracket a h60) fun v61 h62 =>
if v61 = 21 then (X7_qGoesOn_326 a0 h62) else ((isO 7 (some a0) h62).bind fun a => b2 (X7_qBracket a h62) fun v63 h64 =>
if v63 = 22 then (X7_qGoesOn_326 a0 h64) else ((isO 7 (some a0) h64).bind fun a => b2 (X7_qBracket a h64) fun v65 h66 =>
if v65 = (-1) then (some ((0, h66))) else ((gI 7 5 (some a0) h66).bind fun v67 =>
if v67 = 0 then ((gI 7 2 (some a0) h66).bind fun v68 =>
(isO 7 (some a0) h66).bind fun a => (X7_fail a 1 v68 h66).bind fun h69 =>
some ((0, h69))) else (some ((0, h66))))))) else (X7_qGoesOn_225 a0 h60)) else (X7_qGoesOn_225 a0 h58)) else (X7_qGoesOn_140 a0 h56)) else (X7_qGoesOn_140 a0 h54)
noncomputable def X7_qGoesOn_0b (a0 : Nat)  (h : AH) : Option ((AH) ⊕ (Int32 × AH)) :=
(gI 7 5 (some a0) h).bind fun v70 =>
if v70 = 0 then ((isO 7 (some a0) h).bind fun a => b2 (X7_look a h) fun v71 h72 =>
if v71 = 41 then ((isO 7 (some a0) h72).bind fun a => b2 (X7_qBracket a h72) fun v73 h74 =>
if v73 = 20 then (X7_qGoesOn_43 a0 h74) else ((isO 7 (some a0) h74).bind fun a => b2 (X7_qBracket a h74) fun v75 h76 =>
if v75 = 23 then (X7_qGoesOn_43 a0 h76) else ((isO 7 (some a0) h76).bind fun a => b2 (X7_qBracket a h76) fun v77 h78 =>
if v77 = 24 then (X7_qGoesOn_43 a0 h78) else ((X7_qGoesOn_122 a0 h78).bind fun o => some (.inr o))))) else ((X7_qGoesOn_122 a0 h72).bind fun o => some (.inr o))) else ((X7_qGoesOn_122 a0 h).bind fun o => some (.inr o))
noncomputable def X7_qGoesOn (a0 : Nat) (h : AH) : Option (Int32 × AH) := loopC (fun s : AH => X7_qGoesOn_0b a0 s) (h)
noncomputable def X7_qAsksWord (a0 : Nat) (x1 : Int32) (h : AH) : Option (AH) :=
if x1 = 0 then ((gR 7 93 (some a0) h).bind fun v2 =>
(isO 7 (some a0) h).bind fun a => (X7_asks a v2 h).bind fun h3 =>
some (h3)) else (if x1 = 1 then ((gR 7 94 (some a0) h).bind fun v5 =>
(isO 7 (some a0) h).bind fun a => (X7_asks a v5 h).bind fun h6 =>
some (h6)) else (if x1 = 2 then ((gR 7 95 (some a0) h).bind fun v8 =>
(isO 7 (some a0) h).bind fun a => (X7_asks a v8 h).bind fun h9 =>
some (h9)) else (if x1 = 3 then ((gR 7 96 (some a0) h).bind fun v11 =>
(isO 7 (some a0) h).bind fun a => (X7_asks a v11 h).bind fun h12 =>
some (h12)) else (if x1 = 4 then ((gR 7 97 (some a0) h).bind fun v14 =>
(isO 7 (some a0) h).bind fun a => (X7_asks a v14 h).bind fun h15 =>
some (h15)) else (if x1 = 5 then ((gR 7 98 (some a0) h).bind fun v17 =>
(isO 7 (some a0) h).bind fun a => (X7_asks a v17 h).bind fun h18 =>
some (h18)) else (if x1 = 6 then ((gR 7 99 (some a0) h).bind fun v20 =>
(isO 7 (some a0) h).bind fun a => (X7_asks a v20 h).bind fun h21 =>
some (h21)) else (if x1 = 7 then ((gR 7 100 (some a0) h).bind fun v23 =>
(isO 7 (some a0) h).bind fun a => (X7_asks a v23 h).bind fun h24 =>
some (h24)) else (if x1 = 8 then ((gR 7 101 (some a0) h).bind fun v26 =>
(isO 7 (some a0) h).bind fun a => (X7_asks a v26 h).bind fun h27 =>
some (h27)) else (if x1 = 9 then ((gR 7 102 (some a0) h).bind fun v29 =>
(isO 7 (some a0) h).bind fun a => (X7_asks a v29 h).bind fun h30 =>
some (h30)) else (if x1 = 10 then ((gR 7 103 (some a0) h).bind fun v32 =>
(isO 7 (some a0) h).bind fun a => (X7_asks a v32 h).bind fun h33 =>
some (h33)) else ((gR 7 104 (some a0) h).bind fun v34 =>
(isO 7 (some a0) h).bind fun a => (X7_asks a v34 h).bind fun h35 =>
some (h35))))))))))))
noncomputable def X7_qOpens (a0 : Nat) (x1 : Int32) (x2 : Int32) (h : AH) : Option (AH) :=
(gI 7 5 (some a0) h).bind fun v1 =>
if v1 = 0 then ((gI 7 109 (some a0) h).bind fun v2 =>
if v2 = 6 then ((isO 7 (some a0) h).bind fun a => (X7_fail a 4 x2 h).bind fun h10 =>
some (h10)) else ((gI 7 109 (some a0) h).bind fun v3 =>
(pI 7 109 (some a0) (v3 + 1) h).bind fun h4 =>
(gR 7 107 (some a0) h4).bind fun v5 =>
(gI 7 108 (some a0) h4).bind fun v6 =>
(sI 100 v5 v6 x1 h4).bind fun h7 =>
(gI 7 108 (some a0) h7).bind fun v8 =>
(pI 7 108 (some a0) (v8 + 1) h7).bind fun h9 =>
some (h9))) else (some (h))
noncomputable def X7_isAllowed (a0 : Nat) (x1 : Int32) (h : AH) : Option (Int32 × AH) :=
(gI 7 56 (some a0) h).bind fun v1 =>
if v1 = 0 then (if x1 < 3 then (some ((1, h))) else (some ((0, h)))) else ((gI 7 56 (some a0) h).bind fun v2 =>
if v2 = 1 then (if 2 < x1 then (if x1 < 8 then (some ((1, h))) else (some ((0, h)))) else (some ((0, h)))) else (if x1 = 2 then (some ((1, h))) else (if 6 < x1 then (some ((1, h))) else (some ((0, h))))))
noncomputable def X7_qWordHere (a0 : Nat) (h : AH) : Option (Int32 × AH) :=
(gR 7 93 (some a0) h).bind fun v1 =>
(isO 7 (some a0) h).bind fun a => b2 (X7_isHere a v1 h) fun v2 h3 =>
if v2 = 0 then ((gR 7 94 (some a0) h3).bind fun v4 =>
(isO 7 (some a0) h3).bind fun a => b2 (X7_isHere a v4 h3) fun v5 h6 =>
if v5 = 0 then ((gR 7 95 (some a0) h6).bind fun v7 =>
(isO 7 (some a0) h6).bind fun a => b2 (X7_isHere a v7 h6) fun v8 h9 =>
if v8 = 0 then ((gR 7 96 (some a0) h9).bind fun v10 =>
(isO 7 (some a0) h9).bind fun a => b2 (X7_isHere a v10 h9) fun v11 h12 =>
if v11 = 0 then ((gR 7 97 (some a0) h12).bind fun v13 =>
(isO 7 (some a0) h12).bind fun a => b2 (X7_isHere a v13 h12) fun v14 h15 =>
if v14 = 0 then ((gR 7 98 (some a0) h15).bind fun v16 =>
(isO 7 (some a0) h15).bind fun a => b2 (X7_isHere a v16 h15) fun v17 h18 =>
if v17 = 0 then ((gR 7 99 (some a0) h18).bind fun v19 =>
(isO 7 (some a0) h18).bind fun a => b2 (X7_isHere a v19 h18) fun v20 h21 =>
if v20 = 0 then ((gR 7 100 (some a0) h21).bind fun v22 =>
(isO 7 (some a0) h21).bind fun a => b2 (X7_isHere a v22 h21) fun v23 h24 =>
if v23 = 0 then ((gR 7 101 (some a0) h24).bind fun v25 =>
(isO 7 (some a0) h24).bind fun a => b2 (X7_isHere a v25 h24) fun v26 h27 =>
if v26 = 0 then ((gR 7 102 (some a0) h27).bind fun v28 =>
(isO 7 (some a0) h27).bind fun a => b2 (X7_isHere a v28 h27) fun v29 h30 =>
if v29 = 0 then ((gR 7 103 (some a0) h30).bind fun v31 =>
(isO 7 (some a0) h30).bind fun a => b2 (X7_isHere a v31 h30) fun v32 h33 =>
if v32 = 0 then ((gR 7 104 (some a0) h33).bind fun v34 =>
(isO 7 (some a0) h33).bind fun a => b2 (X7_isHere a v34 h33) fun v35 h36 =>
if v35 = 0 then (some (((-1), h36))) else (some ((11, h36)))) else (some ((10, h33)))) else (some ((9, h30)))) else (some ((8, h27)))) else (some ((7, h24)))) else (some ((6, h21)))) else (some ((5, h18)))) else (some ((4, h15)))) else (some ((3, h12)))) else (some ((2, h9)))) else (some ((1, h6)))) else (some ((0, h3)))
noncomputable def X7_qWordOf (a0 : Nat) (x1 : Int32) (x2 : Int32) (h : AH) : Option (Int32 × AH) :=
(isO 7 (some a0) h).bind fun a => b2 (X7_qWordHere a h) fun v1 h2 =>
if v1 < x1 then (some (((-1), h2))) else (if v1 < x2 then ((isO 7 (some a0) h2).bind fun a => b2 (X7_isAllowed a v1 h2) fun v3 h4 =>
if v3 = 0 then (some (((-1), h4))) else (some ((v1, h4)))) else (some (((-1), h2))))
noncomputable def X7_qPartTold_144 (a0 : Nat) (x1 : Int32) (h : AH) : Option ((Int32 × AH) ⊕ (AH)) :=
(isO 7 (some a0) h).bind fun a => (X7_asksSign a 40 h).bind fun h1 =>
some (.inl (x1, h1))
noncomputable def X7_qPartTold_139 (a0 : Nat) (x1 : Int32) (x5 : Int32) (s0 : Option Nat) (s1 : Int32) (h : AH) : Option ((Int32 × AH) ⊕ (AH)) :=
(isO 7 s0 h).bind fun a => (X7_qOpens a s1 x5 h).bind fun h2 =>
X7_qPartTold_144 a0 x1 h2
noncomputable def X7_qPartTold_118 (a0 : Nat) (x1 : Int32) (x4 : Int32) (s0 : Int32) (h : AH) : Option ((Int32 × AH) ⊕ (AH)) :=
if s0 = (-1) then (X7_qPartTold_144 a0 x1 h) else (if x4 = 0 then (X7_qPartTold_139 a0 x1 s0 (some a0) 22 h) else (X7_qPartTold_139 a0 x1 s0 (some a0) 21 h))
noncomputable def X7_qPartTold_101 (a0 : Nat) (x1 : Int32) (x4 : Int32) (h : AH) : Option ((Int32 × AH) ⊕ (AH)) :=
(isO 7 (some a0) h).bind fun a => b2 (X7_look a h) fun v3 h4 =>
if v3 = 40 then ((gI 7 2 (some a0) h4).bind fun v5 =>
X7_qPartTold_118 a0 x1 x4 v5 h4) else (X7_qPartTold_118 a0 x1 x4 (-1) h4)
noncomputable def X7_qPartTold_78 (a0 : Nat) (x1 : Int32) (h : AH) : Option ((Int32 × AH) ⊕ (AH)) :=
(gR 7 91 (some a0) h).bind fun v6 =>
(isO 7 (some a0) h).bind fun a => b2 (X7_takes a v6 h) fun v7 h8 =>
if v7 = 0 then ((gR 7 92 (some a0) h8).bind fun v9 =>
(isO 7 (some a0) h8).bind fun a => (X7_asks a v9 h8).bind fun h10 =>
X7_qPartTold_101 a0 x1 v7 h10) else (X7_qPartTold_101 a0 x1 v7 h8)
noncomputable def X7_qPartTold_237 (a0 : Nat) (s0 : Option Nat) (s1 : Int32) (h : AH) : Option (AH) :=
(isO 7 s0 h).bind fun a => (X7_qCode a s1 h).bind fun h11 =>
(isO 7 (some a0) h11).bind fun a => (X7_qEndsPart a h11).bind fun h12 =>
some (h12)
noncomputable def X7_qPartTold_212 (a0 : Nat) (x2 : Int32) (h : AH) : Option (AH) :=
if x2 = (-1) then ((isO 7 (some a0) h).bind fun a => b2 (X7_number a 0 9999 h) fun v13 h14 =>
X7_qPartTold_237 a0 (some a0) (1000 + v13) h14) else (X7_qPartTold_237 a0 (some a0) (40 + x2) h)
noncomputable def X7_qPartTold_186 (a0 : Nat) (h : AH) : Option (AH) :=
(gI 7 5 (some a0) h).bind fun v15 =>
if v15 = 0 then ((isO 7 (some a0) h).bind fun a => b2 (X7_qWordOf a 0 10 h) fun v16 h17 =>
if v16 = (-1) then (X7_qPartTold_212 a0 v16 h17) else ((isO 7 (some a0) h17).bind fun a => (X7_qAsksWord a v16 h17).bind fun h18 =>
X7_qPartTold_212 a0 v16 h18)) else (some (h))
noncomputable def X7_qPartTold_2b (a0 : Nat) (x1 : Int32) (h : AH) : Option ((Int32 × AH) ⊕ (AH)) :=
if x1 = 0 then ((X7_qPartTold_186 a0 h).bind fun o => some (.inr o)) else ((gI 7 5 (some a0) h).bind fun v19 =>
if v19 = 0 then ((isO 7 (some a0) h).bind fun a => b2 (X7_look a h) fun v20 h21 =>
(isO 7 (some a0) h21).bind fun a => b2 (X7_qWordOf a 10 12 h21) fun v22 h23 =>
if v20 = 40 then ((gI 7 2 (some a0) h23).bind fun v33 =>
(isO 7 (some a0) h23).bind fun a => (X7_qOpens a 20 v33 h23).bind fun h34 =>
(gI 7 2 (some a0) h34).bind fun v35 =>
(pI 7 2 (some a0) (v35 + 1) h34).bind fun h36 =>
some (.inl (x1, h36))) else ((gR 7 91 (some a0) h23).bind fun v24 =>
(isO 7 (some a0) h23).bind fun a => b2 (X7_isHere a v24 h23) fun v25 h26 =>
if v25 = 0 then ((gR 7 92 (some a0) h26).bind fun v27 =>
(isO 7 (some a0) h26).bind fun a => b2 (X7_isHere a v27 h26) fun v28 h29 =>
if v28 = 0 then (if v22 = (-1) then (some (.inl (0, h29))) else ((gI 7 2 (some a0) h29).bind fun v30 =>
(isO 7 (some a0) h29).bind fun a => (X7_qOpens a ((60 + v22) - 10) v30 h29).bind fun h31 =>
(isO 7 (some a0) h31).bind fun a => (X7_qAsksWord a v22 h31).bind fun h32 =>
some (.inl (x1, h32)))) else (X7_qPartTold_78 a0 x1 h29)) else (X7_qPartTold_78 a0 x1 h26))) else ((X7_qPartTold_186 a0 h).bind fun o => some (.inr o)))
noncomputable def X7_qPartTold_2 (a0 : Nat) (x1 : Int32) (h : AH) : Option (AH) := loopC (fun s : Int32 × AH => X7_qPartTold_2b a0 s.1 s.2) (x1, h)
noncomputable def X7_qPartTold (a0 : Nat) (h : AH) : Option (AH) :=
X7_qPartTold_2 a0 1 h
noncomputable def X7_qSums_78 (a0 : Nat) (x1 : Int32) (h : AH) : Option (AH) :=
(pI 7 110 (some a0) x1 h).bind fun h1 =>
some (h1)
noncomputable def X7_qSums_53b (a0 : Nat) (x1 : Int32)  (h : AH) : Option ((AH) ⊕ (AH)) :=
(gI 7 5 (some a0) h).bind fun v2 =>
if v2 = 0 then ((gI 7 108 (some a0) h).bind fun v3 =>
(gI 7 110 (some a0) h).bind fun v4 =>
if v4 < v3 then ((isO 7 (some a0) h).bind fun a => (X7_qDrops a h).bind fun h5 =>
some (.inl (h5))) else ((X7_qSums_78 a0 x1 h).bind fun o => some (.inr o))) else ((X7_qSums_78 a0 x1 h).bind fun o => some (.inr o))
noncomputable def X7_qSums_53 (a0 : Nat) (x1 : Int32) (h : AH) : Option (AH) := loopC (fun s : AH => X7_qSums_53b a0 x1 s) (h)
noncomputable def X7_qSums_15b (a0 : Nat) (x1 : Int32) (x2 : Int32) (h : AH) : Option ((Int32 × AH) ⊕ (AH)) :=
if x2 = 0 then ((X7_qSums_53 a0 x1 h).bind fun o => some (.inr o)) else ((gI 7 5 (some a0) h).bind fun v6 =>
if v6 = 0 then ((isO 7 (some a0) h).bind fun a => (X7_qPartTold a h).bind fun h7 =>
(gI 7 5 (some a0) h7).bind fun v8 =>
if v8 = 0 then ((isO 7 (some a0) h7).bind fun a => b2 (X7_qGoesOn a h7) fun v9 h10 =>
if v9 = 0 then (some (.inl (0, h10))) else (some (.inl (1, h10)))) else (some (.inl (0, h7)))) else ((X7_qSums_53 a0 x1 h).bind fun o => some (.inr o)))
noncomputable def X7_qSums_15 (a0 : Nat) (x1 : Int32) (x2 : Int32) (h : AH) : Option (AH) := loopC (fun s : Int32 × AH => X7_qSums_15b a0 x1 s.1 s.2) (x2, h)
noncomputable def X7_qSums (a0 : Nat) (h : AH) : Option (AH) :=
(gI 7 110 (some a0) h).bind fun v11 =>
(gI 7 108 (some a0) h).bind fun v12 =>
(pI 7 110 (some a0) v12 h).bind fun h13 =>
X7_qSums_15 a0 v11 1 h13
noncomputable def X7_qDropsNots_0b (a0 : Nat)  (h : AH) : Option ((AH) ⊕ (AH)) :=
(gI 7 5 (some a0) h).bind fun v1 =>
if v1 = 0 then ((isO 7 (some a0) h).bind fun a => b2 (X7_qIsOn a 12 h) fun v2 h3 =>
if v2 = 0 then (some (.inr (h3))) else ((gI 7 109 (some a0) h3).bind fun v4 =>
(pI 7 109 (some a0) (v4 - 1) h3).bind fun h5 =>
(isO 7 (some a0) h5).bind fun a => (X7_qDrops a h5).bind fun h6 =>
some (.inl (h6)))) else (some (.inr (h)))
noncomputable def X7_qDropsNots (a0 : Nat) (h : AH) : Option (AH) := loopC (fun s : AH => X7_qDropsNots_0b a0 s) (h)
noncomputable def X7_qFact_102  (s0 : Option Nat) (s1 : Int32) (h : AH) : Option (AH) :=
(isO 7 s0 h).bind fun a => (X7_qCode a s1 h).bind fun h1 =>
some (h1)
noncomputable def X7_qFact_63 (a0 : Nat) (x1 : Int32) (h : AH) : Option (AH) :=
(gI 7 2 (some a0) h).bind fun v2 =>
(pI 7 2 (some a0) (v2 + 1) h).bind fun h3 =>
(isO 7 (some a0) h3).bind fun a => (X7_qSums a h3).bind fun h4 =>
if x1 = 60 then (X7_qFact_102 (some a0) 7 h4) else (if x1 = 62 then (X7_qFact_102 (some a0) 8 h4) else (X7_qFact_102 (some a0) 9 h4))
noncomputable def X7_qFact (a0 : Nat) (h : AH) : Option (AH) :=
(gR 7 90 (some a0) h).bind fun v5 =>
(isO 7 (some a0) h).bind fun a => b2 (X7_takes a v5 h) fun v6 h7 =>
if v6 = 0 then ((isO 7 (some a0) h7).bind fun a => (X7_qSums a h7).bind fun h8 =>
(gI 7 5 (some a0) h8).bind fun v9 =>
if v9 = 0 then ((isO 7 (some a0) h8).bind fun a => b2 (X7_look a h8) fun v10 h11 =>
if v10 = 60 then (X7_qFact_63 a0 v10 h11) else (if v10 = 62 then (X7_qFact_63 a0 v10 h11) else (if v10 = 61 then (X7_qFact_63 a0 v10 h11) else ((gI 7 2 (some a0) h11).bind fun v12 =>
(isO 7 (some a0) h11).bind fun a => (X7_fail a 1 v12 h11).bind fun h13 =>
some (h13))))) else (some (h8))) else ((isO 7 (some a0) h7).bind fun a => (X7_qCode a 13 h7).bind fun h14 =>
some (h14))
noncomputable def X7_qHasSquare_2b (a0 : Nat) (x1 : Int32) (h : AH) : Option ((Int32 × AH) ⊕ (Int32 × AH)) :=
(gI 7 108 (some a0) h).bind fun v1 =>
if x1 < v1 then ((gR 7 107 (some a0) h).bind fun v2 =>
(xI 100 v2 x1 h).bind fun v3 =>
if v3 = 25 then (some (.inr ((1, h)))) else (some (.inl ((x1 + 1), h)))) else (some (.inr ((0, h))))
noncomputable def X7_qHasSquare_2 (a0 : Nat) (x1 : Int32) (h : AH) : Option (Int32 × AH) := loopC (fun s : Int32 × AH => X7_qHasSquare_2b a0 s.1 s.2) (x1, h)
noncomputable def X7_qHasSquare (a0 : Nat) (h : AH) : Option (Int32 × AH) :=
X7_qHasSquare_2 a0 0 h
noncomputable def X7_qGoesOnTest_49 (a0 : Nat) (h : AH) : Option ((AH) ⊕ (Int32 × AH)) :=
(gI 7 108 (some a0) h).bind fun v1 =>
(pI 7 108 (some a0) (v1 - 1) h).bind fun h2 =>
(gI 7 109 (some a0) h2).bind fun v3 =>
(pI 7 109 (some a0) (v3 - 1) h2).bind fun h4 =>
(isO 7 (some a0) h4).bind fun a => (X7_qDropsNots a h4).bind fun h5 =>
some (.inl (h5))
noncomputable def X7_qGoesOnTest_33b (a0 : Nat)  (h : AH) : Option ((AH) ⊕ ((AH) ⊕ (Int32 × AH))) :=
(isO 7 (some a0) h).bind fun a => b2 (X7_qIsOn a 25 h) fun v6 h7 =>
if v6 = 0 then ((isO 7 (some a0) h7).bind fun a => (X7_qDrops a h7).bind fun h8 =>
some (.inl (h8))) else ((X7_qGoesOnTest_49 a0 h7).bind fun o => some (.inr o))
noncomputable def X7_qGoesOnTest_33 (a0 : Nat) (h : AH) : Option ((AH) ⊕ (Int32 × AH)) := loopC (fun s : AH => X7_qGoesOnTest_33b a0 s) (h)
noncomputable def X7_qGoesOnTest_103 (a0 : Nat) (h : AH) : Option (Int32 × AH) :=
(gR 7 107 (some a0) h).bind fun v9 =>
(gI 7 108 (some a0) h).bind fun v10 =>
(sI 100 v9 v10 10 h).bind fun h11 =>
(gI 7 108 (some a0) h11).bind fun v12 =>
(pI 7 108 (some a0) (v12 + 1) h11).bind fun h13 =>
some ((1, h13))
noncomputable def X7_qGoesOnTest_87b (a0 : Nat)  (h : AH) : Option ((AH) ⊕ (Int32 × AH)) :=
(isO 7 (some a0) h).bind fun a => b2 (X7_qIsOn a 10 h) fun v14 h15 =>
if v14 = 0 then ((X7_qGoesOnTest_103 a0 h15).bind fun o => some (.inr o)) else ((isO 7 (some a0) h15).bind fun a => (X7_qDrops a h15).bind fun h16 =>
some (.inl (h16)))
noncomputable def X7_qGoesOnTest_87 (a0 : Nat) (h : AH) : Option (Int32 × AH) := loopC (fun s : AH => X7_qGoesOnTest_87b a0 s) (h)
noncomputable def X7_qGoesOnTest_155 (a0 : Nat) (h : AH) : Option ((AH) ⊕ (Int32 × AH)) :=
(isO 7 (some a0) h).bind fun a => (X7_qDrops a h).bind fun h17 =>
some (.inl (h17))
noncomputable def X7_qGoesOnTest_162 (a0 : Nat) (h : AH) : Option (Int32 × AH) :=
(gR 7 107 (some a0) h).bind fun v18 =>
(gI 7 108 (some a0) h).bind fun v19 =>
(sI 100 v18 v19 11 h).bind fun h20 =>
(gI 7 108 (some a0) h20).bind fun v21 =>
(pI 7 108 (some a0) (v21 + 1) h20).bind fun h22 =>
some ((1, h22))
noncomputable def X7_qGoesOnTest_137b (a0 : Nat)  (h : AH) : Option ((AH) ⊕ (Int32 × AH)) :=
(isO 7 (some a0) h).bind fun a => b2 (X7_qIsOn a 10 h) fun v23 h24 =>
if v23 = 0 then ((isO 7 (some a0) h24).bind fun a => b2 (X7_qIsOn a 11 h24) fun v25 h26 =>
if v25 = 0 then ((X7_qGoesOnTest_162 a0 h26).bind fun o => some (.inr o)) else (X7_qGoesOnTest_155 a0 h26)) else (X7_qGoesOnTest_155 a0 h24)
noncomputable def X7_qGoesOnTest_137 (a0 : Nat) (h : AH) : Option (Int32 × AH) := loopC (fun s : AH => X7_qGoesOnTest_137b a0 s) (h)
noncomputable def X7_qGoesOnTest_76 (a0 : Nat) (h : AH) : Option (Int32 × AH) :=
(gR 7 88 (some a0) h).bind fun v27 =>
(isO 7 (some a0) h).bind fun a => b2 (X7_takes a v27 h) fun v28 h29 =>
if v28 = 0 then ((gR 7 89 (some a0) h29).bind fun v30 =>
(isO 7 (some a0) h29).bind fun a => b2 (X7_takes a v30 h29) fun v31 h32 =>
if v31 = 0 then ((gI 7 5 (some a0) h32).bind fun v33 =>
if v33 = 0 then ((isO 7 (some a0) h32).bind fun a => b2 (X7_qHasSquare a h32) fun v34 h35 =>
if v34 = 0 then (some ((0, h35))) else ((gI 7 2 (some a0) h35).bind fun v36 =>
(isO 7 (some a0) h35).bind fun a => (X7_fail a 1 v36 h35).bind fun h37 =>
some ((0, h37)))) else (some ((0, h32)))) else (X7_qGoesOnTest_137 a0 h32)) else (X7_qGoesOnTest_87 a0 h29)
noncomputable def X7_qGoesOnTest_0b (a0 : Nat)  (h : AH) : Option ((AH) ⊕ (Int32 × AH)) :=
(gI 7 5 (some a0) h).bind fun v38 =>
if v38 = 0 then ((isO 7 (some a0) h).bind fun a => b2 (X7_look a h) fun v39 h40 =>
if v39 = 93 then ((isO 7 (some a0) h40).bind fun a => b2 (X7_qHasSquare a h40) fun v41 h42 =>
if v41 = 0 then ((X7_qGoesOnTest_76 a0 h42).bind fun o => some (.inr o)) else ((gI 7 2 (some a0) h42).bind fun v43 =>
(pI 7 2 (some a0) (v43 + 1) h42).bind fun h44 =>
X7_qGoesOnTest_33 a0 h44)) else ((X7_qGoesOnTest_76 a0 h40).bind fun o => some (.inr o))) else ((X7_qGoesOnTest_76 a0 h).bind fun o => some (.inr o))
noncomputable def X7_qGoesOnTest (a0 : Nat) (h : AH) : Option (Int32 × AH) := loopC (fun s : AH => X7_qGoesOnTest_0b a0 s) (h)
noncomputable def X7_qTest_110b (a0 : Nat)  (h : AH) : Option ((AH) ⊕ (AH)) :=
(gI 7 5 (some a0) h).bind fun v1 =>
if v1 = 0 then ((gI 7 108 (some a0) h).bind fun v2 =>
if 0 < v2 then ((isO 7 (some a0) h).bind fun a => (X7_qDrops a h).bind fun h3 =>
some (.inl (h3))) else (some (.inr (h)))) else (some (.inr (h)))
noncomputable def X7_qTest_110 (a0 : Nat) (h : AH) : Option (AH) := loopC (fun s : AH => X7_qTest_110b a0 s) (h)
noncomputable def X7_qTest_2b (a0 : Nat) (x1 : Int32) (h : AH) : Option ((Int32 × AH) ⊕ (AH)) :=
if x1 = 0 then ((X7_qTest_110 a0 h).bind fun o => some (.inr o)) else ((gI 7 5 (some a0) h).bind fun v4 =>
if v4 = 0 then ((isO 7 (some a0) h).bind fun a => b2 (X7_look a h) fun v5 h6 =>
if v5 = 91 then ((gI 7 2 (some a0) h6).bind fun v19 =>
(isO 7 (some a0) h6).bind fun a => (X7_qOpens a 25 v19 h6).bind fun h20 =>
(gI 7 2 (some a0) h20).bind fun v21 =>
(pI 7 2 (some a0) (v21 + 1) h20).bind fun h22 =>
some (.inl (x1, h22))) else ((gR 7 87 (some a0) h6).bind fun v7 =>
(isO 7 (some a0) h6).bind fun a => b2 (X7_isHere a v7 h6) fun v8 h9 =>
if v8 = 0 then ((isO 7 (some a0) h9).bind fun a => (X7_qFact a h9).bind fun h10 =>
(isO 7 (some a0) h10).bind fun a => (X7_qDropsNots a h10).bind fun h11 =>
(gI 7 5 (some a0) h11).bind fun v12 =>
if v12 = 0 then ((isO 7 (some a0) h11).bind fun a => b2 (X7_qGoesOnTest a h11) fun v13 h14 =>
if v13 = 0 then (some (.inl (0, h14))) else (some (.inl (1, h14)))) else (some (.inl (0, h11)))) else ((gI 7 2 (some a0) h9).bind fun v15 =>
(isO 7 (some a0) h9).bind fun a => (X7_qOpens a 12 v15 h9).bind fun h16 =>
(gR 7 87 (some a0) h16).bind fun v17 =>
(isO 7 (some a0) h16).bind fun a => (X7_asks a v17 h16).bind fun h18 =>
some (.inl (x1, h18))))) else ((X7_qTest_110 a0 h).bind fun o => some (.inr o)))
noncomputable def X7_qTest_2 (a0 : Nat) (x1 : Int32) (h : AH) : Option (AH) := loopC (fun s : Int32 × AH => X7_qTest_2b a0 s.1 s.2) (x1, h)
noncomputable def X7_qTest (a0 : Nat) (h : AH) : Option (AH) :=
X7_qTest_2 a0 1 h
noncomputable def X7_codesTold_131 (a0 : Nat) (x1 : Int32) (h : AH) : Option (AH) :=
(gR 7 52 (some a0) h).bind fun v1 =>
(gI 7 54 (some a0) h).bind fun v2 =>
(sI 100 v1 x1 v2 h).bind fun h3 =>
some (h3)
noncomputable def X7_codesTold_92b (a0 : Nat) (x1 : Int32) (x3 : Int32) (h : AH) : Option ((Int32 × AH) ⊕ (AH)) :=
(gI 7 106 (some a0) h).bind fun v4 =>
if x3 < v4 then ((gR 7 53 (some a0) h).bind fun v5 =>
(gI 7 54 (some a0) h).bind fun v6 =>
(gR 7 105 (some a0) h).bind fun v7 =>
(xI 100 v7 x3 h).bind fun v8 =>
(sI 100 v5 v6 v8 h).bind fun h9 =>
(gI 7 54 (some a0) h9).bind fun v10 =>
(pI 7 54 (some a0) (v10 + 1) h9).bind fun h11 =>
some (.inl ((x3 + 1), h11))) else ((X7_codesTold_131 a0 x1 h).bind fun o => some (.inr o))
noncomputable def X7_codesTold_92 (a0 : Nat) (x1 : Int32) (x3 : Int32) (h : AH) : Option (AH) := loopC (fun s : Int32 × AH => X7_codesTold_92b a0 x1 s.1 s.2) (x3, h)
noncomputable def X7_codesTold_72 (a0 : Nat) (x1 : Int32) (h : AH) : Option (AH) :=
(gI 7 5 (some a0) h).bind fun v12 =>
if v12 = 0 then ((gR 7 51 (some a0) h).bind fun v13 =>
(gI 7 54 (some a0) h).bind fun v14 =>
(sI 100 v13 x1 v14 h).bind fun h15 =>
X7_codesTold_92 a0 x1 0 h15) else (some (h))
noncomputable def X7_codesTold_23 (a0 : Nat) (x1 : Int32) (h : AH) : Option (AH) :=
(gI 7 5 (some a0) h).bind fun v16 =>
if v16 = 0 then ((pI 7 56 (some a0) x1 h).bind fun h17 =>
(pI 7 106 (some a0) 0 h17).bind fun h18 =>
(pI 7 108 (some a0) 0 h18).bind fun h19 =>
(pI 7 109 (some a0) 0 h19).bind fun h20 =>
(pI 7 110 (some a0) 0 h20).bind fun h21 =>
if x1 = 1 then ((isO 7 (some a0) h21).bind fun a => (X7_qTest a h21).bind fun h23 =>
X7_codesTold_72 a0 x1 h23) else ((isO 7 (some a0) h21).bind fun a => (X7_qSums a h21).bind fun h22 =>
X7_codesTold_72 a0 x1 h22)) else (some (h))
noncomputable def X7_codesTold (a0 : Nat) (x1 : Int32) (x2 : Int32) (h : AH) : Option (AH) :=
(gI 7 5 (some a0) h).bind fun v24 =>
if v24 = 0 then ((gR 7 51 (some a0) h).bind fun v25 =>
(xI 100 v25 x1 h).bind fun v26 =>
if v26 = (-1) then (X7_codesTold_23 a0 x1 h) else ((isO 7 (some a0) h).bind fun a => (X7_fail a 5 x2 h).bind fun h27 =>
X7_codesTold_23 a0 x1 h27)) else (X7_codesTold_23 a0 x1 h)
noncomputable def X7_rowTold (a0 : Nat) (h : AH) : Option (Int32 × AH) :=
(isO 7 (some a0) h).bind fun a => b2 (X7_number a 0 7 h) fun v1 h2 =>
some ((((((jshr v1 2) &&& 1) ||| (jshl ((jshr v1 1) &&& 1) 1)) ||| (jshl (v1 &&& 1) 2)), h2))
noncomputable def X7_letterTold_117 (a0 : Nat) (x1 : Int32) (x2 : Int32) (x3 : Int32) (h : AH) : Option (AH) :=
(gI 7 5 (some a0) h).bind fun v1 =>
if v1 = 0 then ((gR 7 42 (some a0) h).bind fun v2 =>
(xI 100 v2 x2 h).bind fun v3 =>
(gR 7 43 (some a0) h).bind fun v4 =>
(sI 100 v4 ((24 * x2) + (2 * v3)) x1 h).bind fun h5 =>
(gR 7 43 (some a0) h5).bind fun v6 =>
(sI 100 v6 (((24 * x2) + (2 * v3)) + 1) x3 h5).bind fun h7 =>
(gR 7 42 (some a0) h7).bind fun v8 =>
(xI 100 v8 x2 h7).bind fun v9 =>
(sI 100 v8 x2 (v9 + 1) h7).bind fun h10 =>
some (h10)) else (some (h))
noncomputable def X7_letterTold_93b (a0 : Nat) (x1 : Int32) (x2 : Int32) (x3 : Int32) (x4 : Int32) (h : AH) : Option ((Int32 × Int32 × AH) ⊕ (AH)) :=
if x4 < 5 then ((isO 7 (some a0) h).bind fun a => b2 (X7_rowTold a h) fun v11 h12 =>
some (.inl ((x3 ||| (jshl v11 (3 * x4))), (x4 + 1), h12))) else ((X7_letterTold_117 a0 x1 x2 x3 h).bind fun o => some (.inr o))
noncomputable def X7_letterTold_93 (a0 : Nat) (x1 : Int32) (x2 : Int32) (x3 : Int32) (x4 : Int32) (h : AH) : Option (AH) := loopC (fun s : Int32 × Int32 × AH => X7_letterTold_93b a0 x1 x2 s.1 s.2.1 s.2.2) (x3, x4, h)
noncomputable def X7_letterTold_80 (a0 : Nat) (x1 : Int32) (x2 : Int32) (h : AH) : Option (AH) :=
(gR 7 13 (some a0) h).bind fun v13 =>
(isO 7 (some a0) h).bind fun a => (X7_asks a v13 h).bind fun h14 =>
X7_letterTold_93 a0 x1 x2 0 0 h14
noncomputable def X7_letterTold_54 (a0 : Nat) (x1 : Int32) (x2 : Int32) (h : AH) : Option (AH) :=
(gI 7 5 (some a0) h).bind fun v15 =>
if v15 = 0 then ((isO 7 (some a0) h).bind fun a => b2 (X7_toldAt a x2 x1 h) fun v16 h17 =>
if v16 = (-1) then (X7_letterTold_80 a0 x1 x2 h17) else ((gI 7 10 (some a0) h17).bind fun v18 =>
(isO 7 (some a0) h17).bind fun a => (X7_fail a 2 v18 h17).bind fun h19 =>
X7_letterTold_80 a0 x1 x2 h19)) else (X7_letterTold_80 a0 x1 x2 h)
noncomputable def X7_letterTold (a0 : Nat) (h : AH) : Option (AH) :=
(isO 7 (some a0) h).bind fun a => (X7_name a 1 h).bind fun h20 =>
(gR 7 41 (some a0) h20).bind fun v21 =>
(xI 100 v21 0 h20).bind fun v22 =>
(gR 7 12 (some a0) h20).bind fun v23 =>
(isO 7 (some a0) h20).bind fun a => (X7_asks a v23 h20).bind fun h24 =>
(isO 7 (some a0) h24).bind fun a => b2 (X7_number a 0 1 h24) fun v25 h26 =>
(gI 7 5 (some a0) h26).bind fun v27 =>
if v27 = 0 then ((gR 7 42 (some a0) h26).bind fun v28 =>
(xI 100 v28 v25 h26).bind fun v29 =>
if v29 = 12 then ((gI 7 10 (some a0) h26).bind fun v30 =>
(isO 7 (some a0) h26).bind fun a => (X7_fail a 5 v30 h26).bind fun h31 =>
X7_letterTold_54 a0 v22 v25 h31) else (X7_letterTold_54 a0 v22 v25 h26)) else (X7_letterTold_54 a0 v22 v25 h26)
noncomputable def X7_wordTold_167 (a0 : Nat) (h : AH) : Option (AH) :=
(gI 7 44 (some a0) h).bind fun v1 =>
(pI 7 44 (some a0) (v1 + 1) h).bind fun h2 =>
some (h2)
noncomputable def X7_wordTold_131b (a0 : Nat) (x3 : Int32) (h : AH) : Option ((Int32 × AH) ⊕ (AH)) :=
(gI 7 40 (some a0) h).bind fun v3 =>
if x3 < v3 then ((gR 7 46 (some a0) h).bind fun v4 =>
(gI 7 44 (some a0) h).bind fun v5 =>
(gR 7 41 (some a0) h).bind fun v6 =>
(xI 100 v6 x3 h).bind fun v7 =>
(sI 100 v4 (((7 * v5) + 1) + x3) v7 h).bind fun h8 =>
some (.inl ((x3 + 1), h8))) else ((X7_wordTold_167 a0 h).bind fun o => some (.inr o))
noncomputable def X7_wordTold_131 (a0 : Nat) (x3 : Int32) (h : AH) : Option (AH) := loopC (fun s : Int32 × AH => X7_wordTold_131b a0 s.1 s.2) (x3, h)
noncomputable def X7_wordTold_99 (a0 : Nat) (x2 : Int32) (h : AH) : Option (AH) :=
if x2 = 0 then ((gI 7 39 (some a0) h).bind fun v13 =>
(isO 7 (some a0) h).bind fun a => (X7_fail a 3 v13 h).bind fun h14 =>
some (h14)) else ((gR 7 46 (some a0) h).bind fun v9 =>
(gI 7 44 (some a0) h).bind fun v10 =>
(gI 7 40 (some a0) h).bind fun v11 =>
(sI 100 v9 (7 * v10) v11 h).bind fun h12 =>
X7_wordTold_131 a0 0 h12)
noncomputable def X7_wordTold_60b (a0 : Nat) (x2 : Int32) (x3 : Int32) (h : AH) : Option ((Int32 × Int32 × AH) ⊕ (AH)) :=
(gI 7 40 (some a0) h).bind fun v15 =>
if x3 < v15 then (if x2 = 0 then ((X7_wordTold_99 a0 x2 h).bind fun o => some (.inr o)) else ((gR 7 41 (some a0) h).bind fun v16 =>
(xI 100 v16 x3 h).bind fun v17 =>
(isO 7 (some a0) h).bind fun a => b2 (X7_toldAt a 0 v17 h) fun v18 h19 =>
if v18 = (-1) then (some (.inl (0, (x3 + 1), h19))) else (some (.inl (1, (x3 + 1), h19))))) else ((X7_wordTold_99 a0 x2 h).bind fun o => some (.inr o))
noncomputable def X7_wordTold_60 (a0 : Nat) (x2 : Int32) (x3 : Int32) (h : AH) : Option (AH) := loopC (fun s : Int32 × Int32 × AH => X7_wordTold_60b a0 s.1 s.2.1 s.2.2) (x2, x3, h)
noncomputable def X7_wordTold_22 (a0 : Nat) (h : AH) : Option (AH) :=
(gI 7 5 (some a0) h).bind fun v20 =>
if v20 = 0 then ((isO 7 (some a0) h).bind fun a => (X7_name a 6 h).bind fun h21 =>
(gI 7 5 (some a0) h21).bind fun v22 =>
if v22 = 0 then ((isO 7 (some a0) h21).bind fun a => b2 (X7_wordNamed a h21) fun v23 h24 =>
if v23 = (-1) then (X7_wordTold_60 a0 1 0 h24) else (X7_wordTold_60 a0 0 0 h24)) else (some (h21))) else (some (h))
noncomputable def X7_wordTold (a0 : Nat) (x1 : Int32) (h : AH) : Option (AH) :=
(gI 7 5 (some a0) h).bind fun v25 =>
if v25 = 0 then ((gI 7 44 (some a0) h).bind fun v26 =>
if v26 = 8 then ((isO 7 (some a0) h).bind fun a => (X7_fail a 5 x1 h).bind fun h27 =>
X7_wordTold_22 a0 h27) else (X7_wordTold_22 a0 h)) else (X7_wordTold_22 a0 h)
noncomputable def X7_statementTold_192 (a0 : Nat) (h : AH) : Option (AH) :=
(isO 7 (some a0) h).bind fun a => (X7_asksSign a 59 h).bind fun h1 =>
(gI 7 55 (some a0) h1).bind fun v2 =>
(pI 7 55 (some a0) (v2 + 1) h1).bind fun h3 =>
some (h3)
noncomputable def X7_statementTold (a0 : Nat) (h : AH) : Option (AH) :=
(gI 7 2 (some a0) h).bind fun v4 =>
(gI 7 55 (some a0) h).bind fun v5 =>
if v5 = 60 then ((isO 7 (some a0) h).bind fun a => (X7_fail a 5 v4 h).bind fun h46 =>
some (h46)) else ((gR 7 11 (some a0) h).bind fun v6 =>
(isO 7 (some a0) h).bind fun a => b2 (X7_takes a v6 h) fun v7 h8 =>
if v7 = 0 then ((gR 7 14 (some a0) h8).bind fun v9 =>
(isO 7 (some a0) h8).bind fun a => b2 (X7_takes a v9 h8) fun v10 h11 =>
if v10 = 0 then ((gR 7 15 (some a0) h11).bind fun v12 =>
(isO 7 (some a0) h11).bind fun a => b2 (X7_takes a v12 h11) fun v13 h14 =>
if v13 = 0 then ((gR 7 16 (some a0) h14).bind fun v15 =>
(isO 7 (some a0) h14).bind fun a => b2 (X7_takes a v15 h14) fun v16 h17 =>
if v16 = 0 then ((gR 7 17 (some a0) h17).bind fun v18 =>
(isO 7 (some a0) h17).bind fun a => b2 (X7_takes a v18 h17) fun v19 h20 =>
if v19 = 0 then ((gR 7 38 (some a0) h20).bind fun v21 =>
(isO 7 (some a0) h20).bind fun a => b2 (X7_takes a v21 h20) fun v22 h23 =>
if v22 = 0 then ((gR 7 18 (some a0) h23).bind fun v24 =>
(isO 7 (some a0) h23).bind fun a => b2 (X7_takes a v24 h23) fun v25 h26 =>
if v25 = 0 then ((gR 7 19 (some a0) h26).bind fun v27 =>
(isO 7 (some a0) h26).bind fun a => (X7_asks a v27 h26).bind fun h28 =>
(gR 7 50 (some a0) h28).bind fun v29 =>
(isO 7 (some a0) h28).bind fun a => b2 (X7_number a 0 100 h28) fun v30 h31 =>
(sI 100 v29 2 v30 h31).bind fun h32 =>
X7_statementTold_192 a0 h32) else ((gR 7 50 (some a0) h26).bind fun v33 =>
(isO 7 (some a0) h26).bind fun a => b2 (X7_number a 0 99 h26) fun v34 h35 =>
(sI 100 v33 1 v34 h35).bind fun h36 =>
X7_statementTold_192 a0 h36)) else ((gR 7 50 (some a0) h23).bind fun v37 =>
(isO 7 (some a0) h23).bind fun a => b2 (X7_number a 0 99 h23) fun v38 h39 =>
(sI 100 v37 0 v38 h39).bind fun h40 =>
X7_statementTold_192 a0 h40)) else ((isO 7 (some a0) h20).bind fun a => (X7_codesTold a 1 v4 h20).bind fun h41 =>
X7_statementTold_192 a0 h41)) else ((isO 7 (some a0) h17).bind fun a => (X7_codesTold a 0 v4 h17).bind fun h42 =>
X7_statementTold_192 a0 h42)) else ((isO 7 (some a0) h14).bind fun a => (X7_boardTold a v4 h14).bind fun h43 =>
X7_statementTold_192 a0 h43)) else ((isO 7 (some a0) h11).bind fun a => (X7_wordTold a v4 h11).bind fun h44 =>
X7_statementTold_192 a0 h44)) else ((isO 7 (some a0) h8).bind fun a => (X7_letterTold a h8).bind fun h45 =>
X7_statementTold_192 a0 h45))
noncomputable def X7_shop_125 (a0 : Nat) (h : AH) : Option (Int32 × AH) :=
(gI 7 5 (some a0) h).bind fun v1 =>
(pI 7 7 (some a0) v1 h).bind fun h2 =>
(gI 7 6 (some a0) h2).bind fun v3 =>
(pI 7 8 (some a0) v3 h2).bind fun h4 =>
(gI 7 5 (some a0) h4).bind fun v5 =>
if v5 = 0 then ((isO 7 (some a0) h4).bind fun a => (X7_stands a h4).bind fun h6 =>
(gI 7 55 (some a0) h6).bind fun v7 =>
some ((v7, h6))) else ((gR 7 9 (some a0) h4).bind fun v8 =>
(xI 100 v8 1 h4).bind fun v9 =>
(sI 100 v8 1 (v9 + 1) h4).bind fun h10 =>
some (((-1), h10)))
noncomputable def X7_shop_103b (a0 : Nat)  (h : AH) : Option ((AH) ⊕ (Int32 × AH)) :=
(gI 7 5 (some a0) h).bind fun v11 =>
if v11 = 0 then ((isO 7 (some a0) h).bind fun a => b2 (X7_look a h) fun v12 h13 =>
if v12 = (-1) then ((X7_shop_125 a0 h13).bind fun o => some (.inr o)) else ((isO 7 (some a0) h13).bind fun a => (X7_statementTold a h13).bind fun h14 =>
some (.inl (h14)))) else ((X7_shop_125 a0 h).bind fun o => some (.inr o))
noncomputable def X7_shop_103 (a0 : Nat) (h : AH) : Option (Int32 × AH) := loopC (fun s : AH => X7_shop_103b a0 s) (h)
noncomputable def X7_shop (a0 : Nat) (h : AH) : Option (Int32 × AH) :=
(gI 7 1 (some a0) h).bind fun v15 =>
(pI 7 3 (some a0) v15 h).bind fun h16 =>
(pI 7 1 (some a0) 0 h16).bind fun h17 =>
(pI 7 2 (some a0) 0 h17).bind fun h18 =>
(pI 7 4 (some a0) (-1) h18).bind fun h19 =>
(pI 7 5 (some a0) 0 h19).bind fun h20 =>
(pI 7 6 (some a0) (-1) h20).bind fun h21 =>
(pI 7 54 (some a0) 0 h21).bind fun h22 =>
(gR 7 42 (some a0) h22).bind fun v23 =>
(sI 100 v23 0 0 h22).bind fun h24 =>
(gR 7 42 (some a0) h24).bind fun v25 =>
(sI 100 v25 1 0 h24).bind fun h26 =>
(pI 7 44 (some a0) 0 h26).bind fun h27 =>
(pI 7 47 (some a0) 0 h27).bind fun h28 =>
(gR 7 50 (some a0) h28).bind fun v29 =>
(sI 100 v29 0 2 h28).bind fun h30 =>
(gR 7 50 (some a0) h30).bind fun v31 =>
(sI 100 v31 1 9 h30).bind fun h32 =>
(gR 7 50 (some a0) h32).bind fun v33 =>
(sI 100 v33 2 0 h32).bind fun h34 =>
(gR 7 51 (some a0) h34).bind fun v35 =>
(sI 100 v35 0 (-1) h34).bind fun h36 =>
(gR 7 51 (some a0) h36).bind fun v37 =>
(sI 100 v37 1 (-1) h36).bind fun h38 =>
(pI 7 55 (some a0) 0 h38).bind fun h39 =>
X7_shop_103 a0 h39
noncomputable def X7_fault (a0 : Nat) (x1 : Int32) (h : AH) : Option (Int32 × AH) :=
if x1 = 0 then ((gI 7 7 (some a0) h).bind fun v2 =>
some ((v2, h))) else (if x1 = 1 then ((gI 7 8 (some a0) h).bind fun v1 =>
some ((v1, h))) else (some (((-1), h))))
noncomputable def X7_boardMany (a0 : Nat) (h : AH) : Option (Int32 × AH) :=
(gI 7 48 (some a0) h).bind fun v1 =>
some ((v1, h))
noncomputable def X7_bits_4b  (x1 : Int32) (x2 : Int32) (h : AH) : Option ((Int32 × Int32 × AH) ⊕ (Int32 × AH)) :=
if x2 = 0 then (some (.inr ((x1, h)))) else (some (.inl ((x1 + 1), (x2 &&& (x2 - 1)), h)))
noncomputable def X7_bits_4 (x1 : Int32) (x2 : Int32) (h : AH) : Option (Int32 × AH) := loopC (fun s : Int32 × Int32 × AH => X7_bits_4b s.1 s.2.1 s.2.2) (x1, x2, h)
noncomputable def X7_bits (x0 : Int32) (h : AH) : Option (Int32 × AH) :=
X7_bits_4 0 x0 h
noncomputable def X7_glyphAt (a0 : Nat) (x1 : Int32) (x2 : Int32) (h : AH) : Option (Int32 × AH) :=
(gR 7 57 (some a0) h).bind fun v1 =>
(xI 100 v1 ((3 + (8 * x1)) + x2) h).bind fun v2 =>
some ((v2, h))
noncomputable def X7_strokeMany_14b (a0 : Nat) (x2 : Int32) (x1 : Int32) (x3 : Int32) (h : AH) : Option ((Int32 × Int32 × AH) ⊕ ((Int32 × Int32 × AH) ⊕ (Int32 × AH))) :=
if x3 < 6 then ((isO 7 (some a0) h).bind fun a => b2 (X7_glyphAt a x2 x3 h) fun v1 h2 =>
b2 (X7_bits v1 h2) fun v3 h4 =>
some (.inl ((x1 + v3), (x3 + 1), h4))) else (some (.inr (.inl (x1, (x2 + 1), h))))
noncomputable def X7_strokeMany_14 (a0 : Nat) (x1 : Int32) (x2 : Int32) (x3 : Int32) (h : AH) : Option ((Int32 × Int32 × AH) ⊕ (Int32 × AH)) := loopC (fun s : Int32 × Int32 × AH => X7_strokeMany_14b a0 x2 s.1 s.2.1 s.2.2) (x1, x3, h)
noncomputable def X7_strokeMany_4b (a0 : Nat) (x1 : Int32) (x2 : Int32) (h : AH) : Option ((Int32 × Int32 × AH) ⊕ (Int32 × AH)) :=
(isO 7 (some a0) h).bind fun a => b2 (X7_boardMany a h) fun v5 h6 =>
if x2 < v5 then (X7_strokeMany_14 a0 x1 x2 0 h6) else (some (.inr ((x1, h6))))
noncomputable def X7_strokeMany_4 (a0 : Nat) (x1 : Int32) (x2 : Int32) (h : AH) : Option (Int32 × AH) := loopC (fun s : Int32 × Int32 × AH => X7_strokeMany_4b a0 s.1 s.2.1 s.2.2) (x1, x2, h)
noncomputable def X7_strokeMany (a0 : Nat) (h : AH) : Option (Int32 × AH) :=
X7_strokeMany_4 a0 0 0 h
noncomputable def X7_wordMany (a0 : Nat) (h : AH) : Option (Int32 × AH) :=
(gI 7 45 (some a0) h).bind fun v1 =>
some ((v1, h))
noncomputable def X7_has_48 (a0 : Nat) (x1 : Int32) (h : AH) : Option (Int32 × AH) :=
(gR 7 42 (some a0) h).bind fun v1 =>
(xI 100 v1 (2 + x1) h).bind fun v2 =>
some ((v2, h))
noncomputable def X7_has (a0 : Nat) (x1 : Int32) (h : AH) : Option (Int32 × AH) :=
if x1 = 0 then (X7_has_48 a0 x1 h) else (if x1 = 1 then (X7_has_48 a0 x1 h) else (if x1 = 2 then ((isO 7 (some a0) h).bind fun a => b2 (X7_wordMany a h) fun v6 h7 =>
some ((v6, h7))) else (if x1 = 3 then ((isO 7 (some a0) h).bind fun a => b2 (X7_boardMany a h) fun v9 h10 =>
some ((v9, h10))) else (if x1 = 4 then ((gR 7 57 (some a0) h).bind fun v12 =>
(xI 100 v12 0 h).bind fun v13 =>
some ((v13, h))) else (if x1 = 5 then ((isO 7 (some a0) h).bind fun a => b2 (X7_strokeMany a h) fun v15 h16 =>
some ((v15, h16))) else (if x1 = 6 then ((gR 7 57 (some a0) h).bind fun v18 =>
(xI 100 v18 33 h).bind fun v19 =>
some ((v19, h))) else (if x1 = 7 then ((gI 7 78 (some a0) h).bind fun v21 =>
some ((v21, h))) else (some (((-1), h))))))))))
noncomputable def X7_isHand (a0 : Nat) (x1 : Int32) (h : AH) : Option (Int32 × AH) :=
b2 (X7_isIn (Int32.toInt64 x1) 0 1 h) fun v1 h2 =>
b2 (rz v1 h2) fun v3 h4 => some ((v3, h4))
noncomputable def X7_isLetterOf (a0 : Nat) (x1 : Int32) (x2 : Int32) (h : AH) : Option (Int32 × AH) :=
(isO 7 (some a0) h).bind fun a => b2 (X7_isHand a x1 h) fun v1 h2 =>
if v1 = 0 then (some ((0, h2))) else ((gR 7 42 (some a0) h2).bind fun v3 =>
(xI 100 v3 (2 + x1) h2).bind fun v4 =>
b2 (X7_isIn (Int32.toInt64 x2) 0 (Int32.toInt64 (v4 - 1)) h2) fun v5 h6 =>
if v5 = 0 then (some ((0, h6))) else (some ((1, h6))))
noncomputable def X7_letter (a0 : Nat) (x1 : Int32) (x2 : Int32) (x3 : Int32) (h : AH) : Option (Int32 × AH) :=
(isO 7 (some a0) h).bind fun a => b2 (X7_isLetterOf a x1 x2 h) fun v1 h2 =>
if v1 = 0 then (some (((-1), h2))) else (if x3 = 0 then ((isO 7 (some a0) h2).bind fun a => b2 (X7_nameOf a x1 x2 h2) fun v9 h10 =>
some ((v9, h10))) else (if x3 = 1 then ((isO 7 (some a0) h2).bind fun a => b2 (X7_glyphOf a x1 x2 h2) fun v7 h8 =>
some ((v7, h8))) else (if x3 = 2 then ((isO 7 (some a0) h2).bind fun a => b2 (X7_glyphOf a x1 x2 h2) fun v3 h4 =>
b2 (X7_bits v3 h4) fun v5 h6 =>
some ((v5, h6))) else (some (((-1), h2))))))
noncomputable def X7_isWord (a0 : Nat) (x1 : Int64) (h : AH) : Option (Int32 × AH) :=
(isO 7 (some a0) h).bind fun a => b2 (X7_wordMany a h) fun v1 h2 =>
b2 (X7_isIn x1 0 (Int32.toInt64 (v1 - 1)) h2) fun v3 h4 =>
b2 (rz v3 h4) fun v5 h6 => some ((v5, h6))
noncomputable def X7_word (a0 : Nat) (x1 : Int32) (x2 : Int32) (h : AH) : Option (Int32 × AH) :=
(isO 7 (some a0) h).bind fun a => b2 (X7_isWord a (Int32.toInt64 x1) h) fun v1 h2 =>
if v1 = 0 then (some (((-1), h2))) else (b2 (X7_isIn (Int32.toInt64 x2) 0 5 h2) fun v3 h4 =>
if v3 = 0 then (some (((-1), h4))) else ((isO 7 (some a0) h4).bind fun a => b2 (X7_longOf a x1 h4) fun v5 h6 =>
if x2 < v5 then ((isO 7 (some a0) h6).bind fun a => b2 (X7_letterOf a x1 x2 h6) fun v7 h8 =>
some ((v7, h8))) else (some ((0, h6)))))
noncomputable def X7_handOf (a0 : Nat) (x1 : Int32) (h : AH) : Option (Int32 × AH) :=
(gR 7 57 (some a0) h).bind fun v1 =>
(xI 100 v1 (2 + (8 * x1)) h).bind fun v2 =>
some ((v2, h))
noncomputable def X7_isBoard (a0 : Nat) (x1 : Int32) (h : AH) : Option (Int32 × AH) :=
(isO 7 (some a0) h).bind fun a => b2 (X7_boardMany a h) fun v1 h2 =>
b2 (X7_isIn (Int32.toInt64 x1) 0 (Int32.toInt64 (v1 - 1)) h2) fun v3 h4 =>
b2 (rz v3 h4) fun v5 h6 => some ((v5, h6))
noncomputable def X7_wordOf (a0 : Nat) (x1 : Int32) (h : AH) : Option (Int32 × AH) :=
(gR 7 57 (some a0) h).bind fun v1 =>
(xI 100 v1 (1 + (8 * x1)) h).bind fun v2 =>
some ((v2, h))
noncomputable def X7_board (a0 : Nat) (x1 : Int32) (x2 : Int32) (h : AH) : Option (Int32 × AH) :=
(isO 7 (some a0) h).bind fun a => b2 (X7_isBoard a x1 h) fun v1 h2 =>
if v1 = 0 then (some (((-1), h2))) else (if x2 = 0 then ((isO 7 (some a0) h2).bind fun a => b2 (X7_wordOf a x1 h2) fun v9 h10 =>
some ((v9, h10))) else (if x2 = 1 then ((isO 7 (some a0) h2).bind fun a => b2 (X7_handOf a x1 h2) fun v7 h8 =>
some ((v7, h8))) else (if x2 = 2 then ((isO 7 (some a0) h2).bind fun a => b2 (X7_wordOf a x1 h2) fun v3 h4 =>
(isO 7 (some a0) h4).bind fun a => b2 (X7_longOf a v3 h4) fun v5 h6 =>
some ((v5, h6))) else (some (((-1), h2))))))
noncomputable def X7_isPlace (a0 : Nat) (x1 : Int32) (x2 : Int32) (h : AH) : Option (Int32 × AH) :=
(isO 7 (some a0) h).bind fun a => b2 (X7_isBoard a x1 h) fun v1 h2 =>
if v1 = 0 then (some ((0, h2))) else ((isO 7 (some a0) h2).bind fun a => b2 (X7_wordOf a x1 h2) fun v3 h4 =>
(isO 7 (some a0) h4).bind fun a => b2 (X7_longOf a v3 h4) fun v5 h6 =>
b2 (X7_isIn (Int32.toInt64 x2) 0 (Int32.toInt64 (v5 - 1)) h6) fun v7 h8 =>
if v7 = 0 then (some ((0, h8))) else (some ((1, h8))))
noncomputable def X7_glyph (a0 : Nat) (x1 : Int32) (x2 : Int32) (h : AH) : Option (Int32 × AH) :=
(isO 7 (some a0) h).bind fun a => b2 (X7_isPlace a x1 x2 h) fun v1 h2 =>
if v1 = 0 then (some (((-1), h2))) else ((isO 7 (some a0) h2).bind fun a => b2 (X7_glyphAt a x1 x2 h2) fun v3 h4 =>
some ((v3, h4)))
noncomputable def X7_kept (a0 : Nat) (x1 : Int32) (x2 : Int32) (h : AH) : Option (Int32 × AH) :=
(gR 7 57 (some a0) h).bind fun v1 =>
(xI 100 v1 33 h).bind fun v2 =>
b2 (X7_isIn (Int32.toInt64 x1) 0 (Int32.toInt64 (v2 - 1)) h) fun v3 h4 =>
if v3 = 0 then (some (((-1), h4))) else (b2 (X7_isIn (Int32.toInt64 x2) 0 2 h4) fun v5 h6 =>
if v5 = 0 then (some (((-1), h6))) else ((gR 7 57 (some a0) h6).bind fun v7 =>
(xI 100 v7 ((34 + (3 * x1)) + x2) h6).bind fun v8 =>
some ((v8, h6))))
noncomputable def X7_isGlyph (a0 : Nat) (x1 : Int32) (h : AH) : Option (Int32 × AH) :=
b2 (X7_isIn (Int32.toInt64 x1) 0 32767 h) fun v1 h2 =>
b2 (rz v1 h2) fun v3 h4 => some ((v3, h4))
noncomputable def X7_seenBy_72 (x0 : Int32) (x1 : Int32) (x2 : Int32) (x3 : Int32) (x4 : Int32) (x5 : Int32) (s0 : Int32) (h : AH) : Option ((Int32 × Int32 × AH) ⊕ ((Int32 × Int32 × AH) ⊕ (Int32 × AH))) :=
some (.inl ((x2 ||| (jshl 1 ((3 * x5) + s0))), (x4 + 1), h))
noncomputable def X7_seenBy_63 (x0 : Int32) (x1 : Int32) (x2 : Int32) (x3 : Int32) (x4 : Int32) (x5 : Int32) (h : AH) : Option ((Int32 × Int32 × AH) ⊕ ((Int32 × Int32 × AH) ⊕ (Int32 × AH))) :=
X7_seenBy_72 x0 x1 x2 x3 x4 x5 (2 - x4) h
noncomputable def X7_seenBy_51 (x0 : Int32) (x1 : Int32) (x2 : Int32) (x3 : Int32) (x4 : Int32) (s0 : Int32) (h : AH) : Option ((Int32 × Int32 × AH) ⊕ ((Int32 × Int32 × AH) ⊕ (Int32 × AH))) :=
if x1 = 1 then (X7_seenBy_63 x0 x1 x2 x3 x4 s0 h) else (if x1 = 3 then (X7_seenBy_63 x0 x1 x2 x3 x4 s0 h) else (X7_seenBy_72 x0 x1 x2 x3 x4 s0 x4 h))
noncomputable def X7_seenBy_44 (x0 : Int32) (x1 : Int32) (x2 : Int32) (x3 : Int32) (x4 : Int32) (h : AH) : Option ((Int32 × Int32 × AH) ⊕ ((Int32 × Int32 × AH) ⊕ (Int32 × AH))) :=
X7_seenBy_51 x0 x1 x2 x3 x4 (4 - x3) h
noncomputable def X7_seenBy_12b (x0 : Int32) (x1 : Int32) (x3 : Int32) (x2 : Int32) (x4 : Int32) (h : AH) : Option ((Int32 × Int32 × AH) ⊕ ((Int32 × Int32 × AH) ⊕ (Int32 × AH))) :=
if x4 < 3 then (if ((jshr x0 ((3 * x3) + x4)) &&& 1) = 0 then (some (.inl (x2, (x4 + 1), h))) else (if x1 = 1 then (X7_seenBy_44 x0 x1 x2 x3 x4 h) else (if x1 = 2 then (X7_seenBy_44 x0 x1 x2 x3 x4 h) else (X7_seenBy_51 x0 x1 x2 x3 x4 x3 h)))) else (some (.inr (.inl (x2, (x3 + 1), h))))
noncomputable def X7_seenBy_12 (x0 : Int32) (x1 : Int32) (x2 : Int32) (x3 : Int32) (x4 : Int32) (h : AH) : Option ((Int32 × Int32 × AH) ⊕ (Int32 × AH)) := loopC (fun s : Int32 × Int32 × AH => X7_seenBy_12b x0 x1 x3 s.1 s.2.1 s.2.2) (x2, x4, h)
noncomputable def X7_seenBy_4b (x0 : Int32) (x1 : Int32) (x2 : Int32) (x3 : Int32) (h : AH) : Option ((Int32 × Int32 × AH) ⊕ (Int32 × AH)) :=
if x3 < 5 then (X7_seenBy_12 x0 x1 x2 x3 0 h) else (some (.inr ((x2, h))))
noncomputable def X7_seenBy_4 (x0 : Int32) (x1 : Int32) (x2 : Int32) (x3 : Int32) (h : AH) : Option (Int32 × AH) := loopC (fun s : Int32 × Int32 × AH => X7_seenBy_4b x0 x1 s.1 s.2.1 s.2.2) (x2, x3, h)
noncomputable def X7_seenBy (x0 : Int32) (x1 : Int32) (h : AH) : Option (Int32 × AH) :=
X7_seenBy_4 x0 x1 0 0 h
noncomputable def X7_seen (a0 : Nat) (x1 : Int32) (x2 : Int32) (h : AH) : Option (Int32 × AH) :=
(isO 7 (some a0) h).bind fun a => b2 (X7_isGlyph a x1 h) fun v1 h2 =>
if v1 = 0 then (some (((-1), h2))) else (b2 (X7_isIn (Int32.toInt64 x2) 0 3 h2) fun v3 h4 =>
if v3 = 0 then (some (((-1), h4))) else (b2 (X7_seenBy x1 x2 h4) fun v5 h6 =>
some ((v5, h6))))
noncomputable def X7_qClip (x0 : Int64) (h : AH) : Option (Int64 × AH) :=
if 0 < (lg_cmp x0 1000000) then (some ((1000000, h))) else (if (lg_cmp x0 (-1000000)) < 0 then (some (((-1000000), h))) else (some ((x0, h))))
noncomputable def X7_qFloor_43 (x4 : Int64) (s0 : Int32) (s1 : Int32) (h : AH) : Option (Int64 × AH) :=
if s0 = s1 then (some ((x4, h))) else (some (((x4 - 1), h)))
noncomputable def X7_qFloor_32 (x2 : Int64) (x4 : Int64) (s0 : Int32) (h : AH) : Option (Int64 × AH) :=
if (lg_cmp x2 0) < 0 then (X7_qFloor_43 x4 s0 1 h) else (X7_qFloor_43 x4 s0 0 h)
noncomputable def X7_qFloor (x0 : Int64) (x2 : Int64) (h : AH) : Option (Int64 × AH) :=
if (lg_cmp x2 0) = 0 then (some ((0, h))) else ((nzL x2).bind fun _ =>
(nzL x2).bind fun _ =>
if (lg_cmp (jremL x0 x2) 0) = 0 then (some (((x0 / x2), h))) else (if (lg_cmp x0 0) < 0 then (X7_qFloor_32 x2 (x0 / x2) 1 h) else (X7_qFloor_32 x2 (x0 / x2) 0 h)))
noncomputable def X7_qPuts (a0 : Nat) (x1 : Int64) (h : AH) : Option (AH) :=
(gR 7 111 (some a0) h).bind fun v1 =>
(gI 7 112 (some a0) h).bind fun v2 =>
(sL 103 v1 v2 x1 h).bind fun h3 =>
(gI 7 112 (some a0) h3).bind fun v4 =>
(pI 7 112 (some a0) (v4 + 1) h3).bind fun h5 =>
some (h5)
noncomputable def X7_qJoins_161  (s0 : Option Nat) (s1 : Int64) (h : AH) : Option (AH) :=
(isO 7 s0 h).bind fun a => (X7_qPuts a s1 h).bind fun h1 =>
some (h1)
noncomputable def X7_qJoins_181  (s0 : Option Nat) (s1 : Int64) (h : AH) : Option (AH) :=
(isO 7 s0 h).bind fun a => (X7_qPuts a s1 h).bind fun h2 =>
some (h2)
noncomputable def X7_qJoins_200  (s0 : Option Nat) (s1 : Int64) (h : AH) : Option (AH) :=
(isO 7 s0 h).bind fun a => (X7_qPuts a s1 h).bind fun h3 =>
some (h3)
noncomputable def X7_qJoins_219  (s0 : Option Nat) (s1 : Int64) (h : AH) : Option (AH) :=
(isO 7 s0 h).bind fun a => (X7_qPuts a s1 h).bind fun h4 =>
some (h4)
noncomputable def X7_qJoins_238  (s0 : Option Nat) (s1 : Int64) (h : AH) : Option (AH) :=
(isO 7 s0 h).bind fun a => (X7_qPuts a s1 h).bind fun h5 =>
some (h5)
noncomputable def X7_qJoins_270  (s0 : Option Nat) (s1 : Int64) (h : AH) : Option (AH) :=
(isO 7 s0 h).bind fun a => (X7_qPuts a s1 h).bind fun h6 =>
some (h6)
noncomputable def X7_qJoins (a0 : Nat) (x1 : Int32) (h : AH) : Option (AH) :=
(gR 7 111 (some a0) h).bind fun v7 =>
(gI 7 112 (some a0) h).bind fun v8 =>
(xL 103 v7 (v8 - 1) h).bind fun v9 =>
(gR 7 111 (some a0) h).bind fun v10 =>
(gI 7 112 (some a0) h).bind fun v11 =>
(xL 103 v10 (v11 - 2) h).bind fun v12 =>
(gI 7 112 (some a0) h).bind fun v13 =>
(pI 7 112 (some a0) (v13 - 2) h).bind fun h14 =>
if x1 = 1 then (b2 (X7_qClip (v12 + v9) h14) fun v16 h17 =>
(isO 7 (some a0) h17).bind fun a => (X7_qPuts a v16 h17).bind fun h18 =>
some (h18)) else (if x1 = 2 then (b2 (X7_qClip (v12 - v9) h14) fun v20 h21 =>
(isO 7 (some a0) h21).bind fun a => (X7_qPuts a v20 h21).bind fun h22 =>
some (h22)) else (if x1 = 3 then (b2 (X7_qClip (v12 * v9) h14) fun v24 h25 =>
(isO 7 (some a0) h25).bind fun a => (X7_qPuts a v24 h25).bind fun h26 =>
some (h26)) else (if x1 = 4 then (b2 (X7_qFloor v12 v9 h14) fun v28 h29 =>
(isO 7 (some a0) h29).bind fun a => (X7_qPuts a v28 h29).bind fun h30 =>
some (h30)) else (if x1 = 5 then (if (lg_cmp v12 v9) < 0 then (X7_qJoins_161 (some a0) v12 h14) else (X7_qJoins_161 (some a0) v9 h14)) else (if x1 = 6 then (if 0 < (lg_cmp v12 v9) then (X7_qJoins_181 (some a0) v12 h14) else (X7_qJoins_181 (some a0) v9 h14)) else (if x1 = 7 then (if (lg_cmp v12 v9) < 0 then (X7_qJoins_200 (some a0) 1 h14) else (X7_qJoins_200 (some a0) 0 h14)) else (if x1 = 8 then (if 0 < (lg_cmp v12 v9) then (X7_qJoins_219 (some a0) 1 h14) else (X7_qJoins_219 (some a0) 0 h14)) else (if x1 = 9 then (if (lg_cmp v12 v9) = 0 then (X7_qJoins_238 (some a0) 1 h14) else (X7_qJoins_238 (some a0) 0 h14)) else (if x1 = 10 then ((isO 7 (some a0) h14).bind fun a => (X7_qPuts a (v12 * v9) h14).bind fun h37 =>
some (h37)) else (if 0 < (lg_cmp (v12 + v9) 0) then (X7_qJoins_270 (some a0) 1 h14) else (X7_qJoins_270 (some a0) 0 h14)))))))))))
noncomputable def X7_inkOf_4b (a0 : Nat) (x1 : Int32) (x2 : Int32) (x3 : Int32) (h : AH) : Option ((Int32 × Int32 × AH) ⊕ (Int32 × AH)) :=
(isO 7 (some a0) h).bind fun a => b2 (X7_longOf a x1 h) fun v1 h2 =>
if x3 < v1 then ((isO 7 (some a0) h2).bind fun a => b2 (X7_letterOf a x1 x3 h2) fun v3 h4 =>
(isO 7 (some a0) h4).bind fun a => b2 (X7_letterAt a 0 v3 h4) fun v5 h6 =>
(isO 7 (some a0) h6).bind fun a => b2 (X7_glyphOf a 0 v5 h6) fun v7 h8 =>
b2 (X7_bits v7 h8) fun v9 h10 =>
some (.inl ((x2 + v9), (x3 + 1), h10))) else (some (.inr ((x2, h2))))
noncomputable def X7_inkOf_4 (a0 : Nat) (x1 : Int32) (x2 : Int32) (x3 : Int32) (h : AH) : Option (Int32 × AH) := loopC (fun s : Int32 × Int32 × AH => X7_inkOf_4b a0 x1 s.1 s.2.1 s.2.2) (x2, x3, h)
noncomputable def X7_inkOf (a0 : Nat) (x1 : Int32) (h : AH) : Option (Int32 × AH) :=
X7_inkOf_4 a0 x1 0 0 h
noncomputable def X7_qPartOf (a0 : Nat) (x1 : Int32) (x2 : Int32) (h : AH) : Option (Int64 × AH) :=
if x1 = 0 then ((gI 7 59 (some a0) h).bind fun v2 =>
some (((Int32.toInt64 v2), h))) else (if x1 = 1 then ((gI 7 60 (some a0) h).bind fun v4 =>
some (((Int32.toInt64 v4), h))) else (if x1 = 2 then ((gI 7 56 (some a0) h).bind fun v6 =>
if v6 = 2 then ((isO 7 (some a0) h).bind fun a => b2 (X7_inkOf a x2 h) fun v8 h9 =>
some (((Int32.toInt64 v8), h9))) else ((gI 7 61 (some a0) h).bind fun v7 =>
some (((Int32.toInt64 v7), h)))) else (if x1 = 3 then ((gI 7 62 (some a0) h).bind fun v11 =>
some (((Int32.toInt64 v11), h))) else (if x1 = 4 then ((gI 7 63 (some a0) h).bind fun v13 =>
some (((Int32.toInt64 v13), h))) else (if x1 = 5 then ((gI 7 64 (some a0) h).bind fun v15 =>
some (((Int32.toInt64 v15), h))) else (if x1 = 6 then ((gI 7 65 (some a0) h).bind fun v17 =>
some (((Int32.toInt64 v17), h))) else (if x1 = 7 then ((gR 7 57 (some a0) h).bind fun v19 =>
(xI 100 v19 0 h).bind fun v20 =>
some (((Int32.toInt64 v20), h))) else (if x1 = 8 then (some (((Int32.toInt64 x2), h))) else ((isO 7 (some a0) h).bind fun a => b2 (X7_longOf a x2 h) fun v22 h23 =>
some (((Int32.toInt64 v22), h23)))))))))))
noncomputable def X7_codesTell_142 (a0 : Nat) (h : AH) : Option (Int64 × AH) :=
(gR 7 111 (some a0) h).bind fun v1 =>
(xL 103 v1 0 h).bind fun v2 =>
some ((v2, h))
noncomputable def X7_codesTell_19b (a0 : Nat) (x1 : Int32) (x2 : Int32) (h : AH) : Option ((Int32 × AH) ⊕ (Int64 × AH)) :=
(gR 7 52 (some a0) h).bind fun v3 =>
(xI 100 v3 (2 + x1) h).bind fun v4 =>
if x2 < v4 then ((gR 7 53 (some a0) h).bind fun v5 =>
(xI 100 v5 (1600 + x2) h).bind fun v6 =>
if v6 < 1000 then (if v6 < 40 then (if v6 = 13 then ((isO 7 (some a0) h).bind fun a => (X7_qPuts a 1 h).bind fun h14 =>
some (.inl ((x2 + 1), h14))) else (if v6 = 12 then ((gR 7 111 (some a0) h).bind fun v8 =>
(gI 7 112 (some a0) h).bind fun v9 =>
(gR 7 111 (some a0) h).bind fun v10 =>
(gI 7 112 (some a0) h).bind fun v11 =>
(xL 103 v10 (v11 - 1) h).bind fun v12 =>
(sL 103 v8 (v9 - 1) (1 - v12) h).bind fun h13 =>
some (.inl ((x2 + 1), h13))) else ((isO 7 (some a0) h).bind fun a => (X7_qJoins a v6 h).bind fun h7 =>
some (.inl ((x2 + 1), h7))))) else ((isO 7 (some a0) h).bind fun a => b2 (X7_qPartOf a (v6 - 40) 0 h) fun v15 h16 =>
(isO 7 (some a0) h16).bind fun a => (X7_qPuts a v15 h16).bind fun h17 =>
some (.inl ((x2 + 1), h17)))) else ((isO 7 (some a0) h).bind fun a => (X7_qPuts a (Int32.toInt64 (v6 - 1000)) h).bind fun h18 =>
some (.inl ((x2 + 1), h18)))) else ((X7_codesTell_142 a0 h).bind fun o => some (.inr o))
noncomputable def X7_codesTell_19 (a0 : Nat) (x1 : Int32) (x2 : Int32) (h : AH) : Option (Int64 × AH) := loopC (fun s : Int32 × AH => X7_codesTell_19b a0 x1 s.1 s.2) (x2, h)
noncomputable def X7_codesTell (a0 : Nat) (x1 : Int32) (h : AH) : Option (Int64 × AH) :=
(pI 7 56 (some a0) x1 h).bind fun h19 =>
(pI 7 112 (some a0) 0 h19).bind fun h20 =>
(gR 7 51 (some a0) h20).bind fun v21 =>
(xI 100 v21 (2 + x1) h20).bind fun v22 =>
X7_codesTell_19 a0 x1 v22 h20
noncomputable def X7_doubtOf_76  (s0 : Int64) (h : AH) : Option (Int32 × AH) :=
if (lg_cmp s0 0) < 0 then (some ((0, h))) else (some (((Int64.toInt32 s0), h)))
noncomputable def X7_doubtOf (a0 : Nat) (x1 : Int32) (x2 : Int32) (x3 : Int32) (h : AH) : Option (Int32 × AH) :=
(isO 7 (some a0) h).bind fun a => b2 (X7_glyphOf a x1 x2 h) fun v1 h2 =>
b2 (X7_bits (x3 &&& (v1 ^^^ (-1))) h2) fun v3 h4 =>
(pI 7 59 (some a0) v3 h4).bind fun h5 =>
b2 (X7_bits (v1 &&& (x3 ^^^ (-1))) h5) fun v6 h7 =>
(pI 7 60 (some a0) v6 h7).bind fun h8 =>
b2 (X7_bits v1 h8) fun v9 h10 =>
(pI 7 61 (some a0) v9 h10).bind fun h11 =>
(gR 7 51 (some a0) h11).bind fun v12 =>
(xI 100 v12 2 h11).bind fun v13 =>
if v13 = (-1) then ((gI 7 59 (some a0) h11).bind fun v16 =>
(gI 7 60 (some a0) h11).bind fun v17 =>
X7_doubtOf_76 ((Int32.toInt64 v16) + (2 * (Int32.toInt64 v17))) h11) else ((isO 7 (some a0) h11).bind fun a => b2 (X7_codesTell a 0 h11) fun v14 h15 =>
X7_doubtOf_76 v14 h15)
noncomputable def X7_doubt_28  (h : AH) : Option (Int64 × AH) :=
some (((-1000000000000000), h))
noncomputable def X7_doubt (a0 : Nat) (x1 : Int32) (x2 : Int32) (x3 : Int32) (h : AH) : Option (Int64 × AH) :=
(isO 7 (some a0) h).bind fun a => b2 (X7_isLetterOf a x1 x2 h) fun v1 h2 =>
if v1 = 0 then (X7_doubt_28 h2) else ((isO 7 (some a0) h2).bind fun a => b2 (X7_isGlyph a x3 h2) fun v3 h4 =>
if v3 = 0 then (X7_doubt_28 h4) else ((isO 7 (some a0) h4).bind fun a => b2 (X7_doubtOf a x1 x2 x3 h4) fun v5 h6 =>
some (((Int32.toInt64 v5), h6))))
noncomputable def X7_readAs_57 (a0 : Nat) (x1 : Int32) (x2 : Int32) (x5 : Int32) (x6 : Int32) (h : AH) : Option ((Int32 × Int32 × Int32 × AH) ⊕ (Int32 × AH)) :=
some (.inl (x5, x6, (x5 + 1), h))
noncomputable def X7_readAs_70 (a0 : Nat) (x1 : Int32) (x3 : Int32) (h : AH) : Option (Int32 × AH) :=
if x3 = (-1) then (some ((0, h))) else ((isO 7 (some a0) h).bind fun a => b2 (X7_nameOf a x1 x3 h) fun v1 h2 =>
some ((v1, h2)))
noncomputable def X7_readAs_8b (a0 : Nat) (x1 : Int32) (x2 : Int32) (x3 : Int32) (x4 : Int32) (x5 : Int32) (h : AH) : Option ((Int32 × Int32 × Int32 × AH) ⊕ (Int32 × AH)) :=
(gR 7 42 (some a0) h).bind fun v3 =>
(xI 100 v3 (2 + x1) h).bind fun v4 =>
if x5 < v4 then ((isO 7 (some a0) h).bind fun a => b2 (X7_doubtOf a x1 x5 x2 h) fun v5 h6 =>
(gR 7 50 (some a0) h6).bind fun v7 =>
(xI 100 v7 3 h6).bind fun v8 =>
if v8 < v5 then (some (.inl (x3, x4, (x5 + 1), h6))) else (if x3 = (-1) then (X7_readAs_57 a0 x1 x2 x5 v5 h6) else (if v5 < x4 then (X7_readAs_57 a0 x1 x2 x5 v5 h6) else (some (.inl (x3, x4, (x5 + 1), h6)))))) else ((X7_readAs_70 a0 x1 x3 h).bind fun o => some (.inr o))
noncomputable def X7_readAs_8 (a0 : Nat) (x1 : Int32) (x2 : Int32) (x3 : Int32) (x4 : Int32) (x5 : Int32) (h : AH) : Option (Int32 × AH) := loopC (fun s : Int32 × Int32 × Int32 × AH => X7_readAs_8b a0 x1 x2 s.1 s.2.1 s.2.2.1 s.2.2.2) (x3, x4, x5, h)
noncomputable def X7_readAs (a0 : Nat) (x1 : Int32) (x2 : Int32) (h : AH) : Option (Int32 × AH) :=
X7_readAs_8 a0 x1 x2 (-1) 0 0 h
noncomputable def X7_reads (a0 : Nat) (x1 : Int32) (x2 : Int32) (x3 : Int32) (h : AH) : Option (Int32 × AH) :=
(isO 7 (some a0) h).bind fun a => b2 (X7_isHand a x1 h) fun v1 h2 =>
if v1 = 0 then (some (((-1), h2))) else ((isO 7 (some a0) h2).bind fun a => b2 (X7_isGlyph a x2 h2) fun v3 h4 =>
if v3 = 0 then (some (((-1), h4))) else (b2 (X7_isIn (Int32.toInt64 x3) 0 3 h4) fun v5 h6 =>
if v5 = 0 then (some (((-1), h6))) else (b2 (X7_seenBy x2 x3 h6) fun v7 h8 =>
(isO 7 (some a0) h8).bind fun a => b2 (X7_readAs a x1 v7 h8) fun v9 h10 =>
some ((v9, h10)))))
noncomputable def X7_isAhead (a0 : Nat) (x1 : Int32) (x2 : Int32) (x3 : Int32) (h : AH) : Option (Int32 × AH) :=
b2 (X7_isIn (Int32.toInt64 x1) (Int32.toInt64 x2) (Int32.toInt64 x3) h) fun v1 h2 =>
if v1 = 0 then (some ((0, h2))) else ((gR 7 57 (some a0) h2).bind fun v3 =>
(xI 100 v3 0 h2).bind fun v4 =>
if 999 < (v4 + x1) then (some ((0, h2))) else (some ((1, h2))))
noncomputable def X7_putsAside_7b (a0 : Nat) (x1 : Int32) (h : AH) : Option ((Int32 × AH) ⊕ (AH)) :=
if x1 < 33 then ((gR 7 58 (some a0) h).bind fun v1 =>
(gR 7 57 (some a0) h).bind fun v2 =>
(xI 100 v2 x1 h).bind fun v3 =>
(sI 100 v1 x1 v3 h).bind fun h4 =>
some (.inl ((x1 + 1), h4))) else (some (.inr (h)))
noncomputable def X7_putsAside_7 (a0 : Nat) (x1 : Int32) (h : AH) : Option (AH) := loopC (fun s : Int32 × AH => X7_putsAside_7b a0 s.1 s.2) (x1, h)
noncomputable def X7_putsAside (a0 : Nat) (h : AH) : Option (AH) :=
(pZ 7 66 (some a0) 1 h).bind fun h5 =>
X7_putsAside_7 a0 0 h5
noncomputable def X7_takesBack_26 (a0 : Nat) (h : AH) : Option (AH) :=
(pZ 7 66 (some a0) 0 h).bind fun h1 =>
some (h1)
noncomputable def X7_takesBack_2b (a0 : Nat) (x1 : Int32) (h : AH) : Option ((Int32 × AH) ⊕ (AH)) :=
if x1 < 33 then ((gR 7 57 (some a0) h).bind fun v2 =>
(gR 7 58 (some a0) h).bind fun v3 =>
(xI 100 v3 x1 h).bind fun v4 =>
(sI 100 v2 x1 v4 h).bind fun h5 =>
some (.inl ((x1 + 1), h5))) else ((X7_takesBack_26 a0 h).bind fun o => some (.inr o))
noncomputable def X7_takesBack_2 (a0 : Nat) (x1 : Int32) (h : AH) : Option (AH) := loopC (fun s : Int32 × AH => X7_takesBack_2b a0 s.1 s.2) (x1, h)
noncomputable def X7_takesBack (a0 : Nat) (h : AH) : Option (AH) :=
X7_takesBack_2 a0 0 h
noncomputable def X7_laysSaid_12b (a0 : Nat) (x1 : Int32) (x2 : Int32) (h : AH) : Option ((Int32 × AH) ⊕ ((Int32 × AH) ⊕ (AH))) :=
(isO 7 (some a0) h).bind fun a => b2 (X7_wordOf a x1 h) fun v1 h2 =>
(isO 7 (some a0) h2).bind fun a => b2 (X7_longOf a v1 h2) fun v3 h4 =>
if x2 < v3 then ((gR 7 68 (some a0) h4).bind fun v5 =>
(isO 7 (some a0) h4).bind fun a => b2 (X7_handOf a x1 h4) fun v6 h7 =>
(isO 7 (some a0) h7).bind fun a => b2 (X7_glyphAt a x1 x2 h7) fun v8 h9 =>
(isO 7 (some a0) h9).bind fun a => b2 (X7_readAs a v6 v8 h9) fun v10 h11 =>
(sI 100 v5 ((6 * x1) + x2) v10 h11).bind fun h12 =>
some (.inl ((x2 + 1), h12))) else (some (.inr (.inl ((x1 + 1), h4))))
noncomputable def X7_laysSaid_12 (a0 : Nat) (x1 : Int32) (x2 : Int32) (h : AH) : Option ((Int32 × AH) ⊕ (AH)) := loopC (fun s : Int32 × AH => X7_laysSaid_12b a0 x1 s.1 s.2) (x2, h)
noncomputable def X7_laysSaid_2b (a0 : Nat) (x1 : Int32) (h : AH) : Option ((Int32 × AH) ⊕ (AH)) :=
(isO 7 (some a0) h).bind fun a => b2 (X7_boardMany a h) fun v13 h14 =>
if x1 < v13 then (X7_laysSaid_12 a0 x1 0 h14) else (some (.inr (h14)))
noncomputable def X7_laysSaid_2 (a0 : Nat) (x1 : Int32) (h : AH) : Option (AH) := loopC (fun s : Int32 × AH => X7_laysSaid_2b a0 s.1 s.2) (x1, h)
noncomputable def X7_laysSaid (a0 : Nat) (h : AH) : Option (AH) :=
X7_laysSaid_2 a0 0 h
noncomputable def X7_isKept_65 (a0 : Nat) (x1 : Int32) (x3 : Int32) (x4 : Int32) (x5 : Int32) (s0 : Int32) (h : AH) : Option ((Int32 × Int32 × Int32 × AH) ⊕ (AH)) :=
if x5 = 0 then (some (.inl (s0, (x3 + 1), (x4 + 1), h))) else (some (.inl (s0, x3, (x4 + 1), h)))
noncomputable def X7_isKept_60 (a0 : Nat) (x1 : Int32) (x3 : Int32) (x4 : Int32) (x5 : Int32) (h : AH) : Option ((Int32 × Int32 × Int32 × AH) ⊕ (AH)) :=
X7_isKept_65 a0 x1 x3 x4 x5 1 h
noncomputable def X7_isKept_145 (a0 : Nat) (x1 : Int32) (x3 : Int32) (h : AH) : Option (AH) :=
(gR 7 57 (some a0) h).bind fun v1 =>
(xI 100 v1 33 h).bind fun v2 =>
(gR 7 57 (some a0) h).bind fun v3 =>
(gR 7 57 (some a0) h).bind fun v4 =>
(xI 100 v4 0 h).bind fun v5 =>
(sI 100 v3 ((34 + (3 * v2)) - 3) v5 h).bind fun h6 =>
(gR 7 57 (some a0) h6).bind fun v7 =>
(sI 100 v7 (((34 + (3 * v2)) - 3) + 1) x1 h6).bind fun h8 =>
(gR 7 57 (some a0) h8).bind fun v9 =>
(sI 100 v9 (((34 + (3 * v2)) - 3) + 2) x3 h8).bind fun h10 =>
some (h10)
noncomputable def X7_isKept_131 (a0 : Nat) (x1 : Int32) (x3 : Int32) (h : AH) : Option (AH) :=
X7_isKept_145 a0 x1 x3 h
noncomputable def X7_isKept_101b (a0 : Nat) (x1 : Int32) (x3 : Int32) (x4 : Int32) (h : AH) : Option ((Int32 × AH) ⊕ (AH)) :=
if x4 < 151 then ((gR 7 57 (some a0) h).bind fun v11 =>
(gR 7 57 (some a0) h).bind fun v12 =>
(xI 100 v12 (x4 + 3) h).bind fun v13 =>
(sI 100 v11 x4 v13 h).bind fun h14 =>
some (.inl ((x4 + 1), h14))) else ((X7_isKept_131 a0 x1 x3 h).bind fun o => some (.inr o))
noncomputable def X7_isKept_101 (a0 : Nat) (x1 : Int32) (x3 : Int32) (x4 : Int32) (h : AH) : Option (AH) := loopC (fun s : Int32 × AH => X7_isKept_101b a0 x1 x3 s.1 s.2) (x4, h)
noncomputable def X7_isKept_80 (a0 : Nat) (x1 : Int32) (x2 : Int32) (x3 : Int32) (h : AH) : Option (AH) :=
if x2 = 0 then (some (h)) else ((gR 7 57 (some a0) h).bind fun v15 =>
(xI 100 v15 33 h).bind fun v16 =>
if v16 = 40 then (X7_isKept_101 a0 x1 x3 34 h) else ((gR 7 57 (some a0) h).bind fun v17 =>
(xI 100 v17 33 h).bind fun v18 =>
(sI 100 v17 33 (v18 + 1) h).bind fun h19 =>
X7_isKept_145 a0 x1 x3 h19))
noncomputable def X7_isKept_7b (a0 : Nat) (x1 : Int32) (x2 : Int32) (x3 : Int32) (x4 : Int32) (h : AH) : Option ((Int32 × Int32 × Int32 × AH) ⊕ (AH)) :=
(isO 7 (some a0) h).bind fun a => b2 (X7_wordOf a x1 h) fun v20 h21 =>
(isO 7 (some a0) h21).bind fun a => b2 (X7_longOf a v20 h21) fun v22 h23 =>
if x4 < v22 then ((isO 7 (some a0) h23).bind fun a => b2 (X7_handOf a x1 h23) fun v24 h25 =>
(isO 7 (some a0) h25).bind fun a => b2 (X7_glyphAt a x1 x4 h25) fun v26 h27 =>
(isO 7 (some a0) h27).bind fun a => b2 (X7_readAs a v24 v26 h27) fun v28 h29 =>
if x2 = 0 then ((gR 7 68 (some a0) h29).bind fun v30 =>
(xI 100 v30 ((6 * x1) + x4) h29).bind fun v31 =>
if v28 = v31 then (X7_isKept_65 a0 x1 x3 x4 v28 0 h29) else (X7_isKept_60 a0 x1 x3 x4 v28 h29)) else (X7_isKept_60 a0 x1 x3 x4 v28 h29)) else ((X7_isKept_80 a0 x1 x2 x3 h23).bind fun o => some (.inr o))
noncomputable def X7_isKept_7 (a0 : Nat) (x1 : Int32) (x2 : Int32) (x3 : Int32) (x4 : Int32) (h : AH) : Option (AH) := loopC (fun s : Int32 × Int32 × Int32 × AH => X7_isKept_7b a0 x1 s.1 s.2.1 s.2.2.1 s.2.2.2) (x2, x3, x4, h)
noncomputable def X7_isKept (a0 : Nat) (x1 : Int32) (h : AH) : Option (AH) :=
X7_isKept_7 a0 x1 0 0 0 h
noncomputable def X7_nearOf_64 (x1 : Int32) (x2 : Int32) (x3 : Int32) (x4 : Int32) (h : AH) : Option (Int32 × AH) :=
if x3 < 2 then (some (((x4 + ((jshr x1 (((3 * x2) + x3) + 1)) &&& 1)), h))) else (some ((x4, h)))
noncomputable def X7_nearOf_44 (x1 : Int32) (x2 : Int32) (x3 : Int32) (x4 : Int32) (h : AH) : Option (Int32 × AH) :=
if 0 < x3 then (X7_nearOf_64 x1 x2 x3 (x4 + ((jshr x1 (((3 * x2) + x3) - 1)) &&& 1)) h) else (X7_nearOf_64 x1 x2 x3 x4 h)
noncomputable def X7_nearOf_23 (x1 : Int32) (x2 : Int32) (x3 : Int32) (x4 : Int32) (h : AH) : Option (Int32 × AH) :=
if x2 < 4 then (X7_nearOf_44 x1 x2 x3 (x4 + ((jshr x1 (((3 * x2) + x3) + 3)) &&& 1)) h) else (X7_nearOf_44 x1 x2 x3 x4 h)
noncomputable def X7_nearOf (a0 : Nat) (x1 : Int32) (x2 : Int32) (x3 : Int32) (h : AH) : Option (Int32 × AH) :=
if 0 < x2 then (X7_nearOf_23 x1 x2 x3 (0 + ((jshr x1 (((3 * x2) + x3) - 3)) &&& 1)) h) else (X7_nearOf_23 x1 x2 x3 0 h)
noncomputable def X7_isLost (a0 : Nat) (x1 : Int32) (x2 : Int32) (x3 : Int32) (h : AH) : Option (Int32 × AH) :=
(nz 3).bind fun _ =>
(pI 7 63 (some a0) (x2 / 3) h).bind fun h1 =>
(nz 3).bind fun _ =>
(pI 7 62 (some a0) (jrem x2 3) h1).bind fun h2 =>
(pI 7 64 (some a0) x3 h2).bind fun h3 =>
(gI 7 63 (some a0) h3).bind fun v4 =>
(gI 7 62 (some a0) h3).bind fun v5 =>
(isO 7 (some a0) h3).bind fun a => b2 (X7_nearOf a x1 v4 v5 h3) fun v6 h7 =>
(pI 7 65 (some a0) v6 h7).bind fun h8 =>
(isO 7 (some a0) h8).bind fun a => b2 (X7_codesTell a 1 h8) fun v9 h10 =>
if (lg_cmp v9 1) = 0 then (some ((1, h10))) else (some ((0, h10)))
noncomputable def X7_rains_94 (a0 : Nat) (x1 : Int32) (x2 : Int32) (x3 : Int32) (x4 : Int32) (h : AH) : Option ((Int32 × AH) ⊕ ((Int32 × AH) ⊕ (AH))) :=
(gI 7 67 (some a0) h).bind fun v1 =>
b2 (X7_bits x3 h) fun v2 h3 =>
b2 (X7_bits x4 h3) fun v4 h5 =>
(pI 7 67 (some a0) (v1 + (v2 - v4)) h5).bind fun h6 =>
(gR 7 57 (some a0) h6).bind fun v7 =>
(sI 100 v7 ((3 + (8 * x1)) + x2) x4 h6).bind fun h8 =>
some (.inl ((x2 + 1), h8))
noncomputable def X7_rains_49b (a0 : Nat) (x1 : Int32) (x2 : Int32) (x3 : Int32) (x4 : Int32) (x5 : Int32) (h : AH) : Option ((Int32 × Int32 × AH) ⊕ ((Int32 × AH) ⊕ ((Int32 × AH) ⊕ (AH)))) :=
if x5 < 15 then (if ((jshr x3 x5) &&& 1) = 1 then ((isO 7 (some a0) h).bind fun a => b2 (X7_isLost a x3 x5 x2 h) fun v9 h10 =>
if v9 = 0 then (some (.inl (x4, (x5 + 1), h10))) else (some (.inl ((x4 &&& ((jshl 1 x5) ^^^ (-1))), (x5 + 1), h10)))) else (some (.inl (x4, (x5 + 1), h)))) else ((X7_rains_94 a0 x1 x2 x3 x4 h).bind fun o => some (.inr o))
noncomputable def X7_rains_49 (a0 : Nat) (x1 : Int32) (x2 : Int32) (x3 : Int32) (x4 : Int32) (x5 : Int32) (h : AH) : Option ((Int32 × AH) ⊕ ((Int32 × AH) ⊕ (AH))) := loopC (fun s : Int32 × Int32 × AH => X7_rains_49b a0 x1 x2 x3 s.1 s.2.1 s.2.2) (x4, x5, h)
noncomputable def X7_rains_23b (a0 : Nat) (x1 : Int32) (x2 : Int32) (h : AH) : Option ((Int32 × AH) ⊕ ((Int32 × AH) ⊕ (AH))) :=
(isO 7 (some a0) h).bind fun a => b2 (X7_wordOf a x1 h) fun v11 h12 =>
(isO 7 (some a0) h12).bind fun a => b2 (X7_longOf a v11 h12) fun v13 h14 =>
if x2 < v13 then ((isO 7 (some a0) h14).bind fun a => b2 (X7_glyphAt a x1 x2 h14) fun v15 h16 =>
X7_rains_49 a0 x1 x2 v15 v15 0 h16) else (some (.inr (.inl ((x1 + 1), h14))))
noncomputable def X7_rains_23 (a0 : Nat) (x1 : Int32) (x2 : Int32) (h : AH) : Option ((Int32 × AH) ⊕ (AH)) := loopC (fun s : Int32 × AH => X7_rains_23b a0 x1 s.1 s.2) (x2, h)
noncomputable def X7_rains_13b (a0 : Nat) (x1 : Int32) (h : AH) : Option ((Int32 × AH) ⊕ (AH)) :=
(isO 7 (some a0) h).bind fun a => b2 (X7_boardMany a h) fun v17 h18 =>
if x1 < v17 then (X7_rains_23 a0 x1 0 h18) else (some (.inr (h18)))
noncomputable def X7_rains_13 (a0 : Nat) (x1 : Int32) (h : AH) : Option (AH) := loopC (fun s : Int32 × AH => X7_rains_13b a0 s.1 s.2) (x1, h)
noncomputable def X7_rains (a0 : Nat) (h : AH) : Option (AH) :=
(gR 7 51 (some a0) h).bind fun v19 =>
(xI 100 v19 3 h).bind fun v20 =>
if v20 = (-1) then (some (h)) else (X7_rains_13 a0 0 h)
noncomputable def X7_yearGoes_32 (a0 : Nat) (h : AH) : Option (AH) :=
(gR 7 57 (some a0) h).bind fun v1 =>
(xI 100 v1 0 h).bind fun v2 =>
(sI 100 v1 0 (v2 + 1) h).bind fun h3 =>
some (h3)
noncomputable def X7_yearGoes_6b (a0 : Nat) (x1 : Int32) (h : AH) : Option ((Int32 × AH) ⊕ (AH)) :=
(isO 7 (some a0) h).bind fun a => b2 (X7_boardMany a h) fun v4 h5 =>
if x1 < v4 then ((gI 7 66 (some a0) h5).bind fun v6 =>
if v6 = 0 then ((isO 7 (some a0) h5).bind fun a => (X7_isKept a x1 h5).bind fun h7 =>
some (.inl ((x1 + 1), h7))) else ((X7_yearGoes_32 a0 h5).bind fun o => some (.inr o))) else ((X7_yearGoes_32 a0 h5).bind fun o => some (.inr o))
noncomputable def X7_yearGoes_6 (a0 : Nat) (x1 : Int32) (h : AH) : Option (AH) := loopC (fun s : Int32 × AH => X7_yearGoes_6b a0 s.1 s.2) (x1, h)
noncomputable def X7_yearGoes (a0 : Nat) (h : AH) : Option (AH) :=
(isO 7 (some a0) h).bind fun a => (X7_rains a h).bind fun h8 =>
X7_yearGoes_6 a0 0 h8
noncomputable def X7_yearsGo_18 (a0 : Nat) (x1 : Int32) (x2 : Int32) (h : AH) : Option ((Int32 × AH) ⊕ (AH)) :=
(isO 7 (some a0) h).bind fun a => (X7_yearGoes a h).bind fun h1 =>
some (.inl ((x2 + 1), h1))
noncomputable def X7_yearsGo_2b (a0 : Nat) (x1 : Int32) (x2 : Int32) (h : AH) : Option ((Int32 × AH) ⊕ (AH)) :=
if x2 < x1 then ((gI 7 66 (some a0) h).bind fun v2 =>
if v2 = 0 then ((isO 7 (some a0) h).bind fun a => (X7_laysSaid a h).bind fun h3 =>
X7_yearsGo_18 a0 x1 x2 h3) else (X7_yearsGo_18 a0 x1 x2 h)) else (some (.inr (h)))
noncomputable def X7_yearsGo_2 (a0 : Nat) (x1 : Int32) (x2 : Int32) (h : AH) : Option (AH) := loopC (fun s : Int32 × AH => X7_yearsGo_2b a0 x1 s.1 s.2) (x2, h)
noncomputable def X7_yearsGo (a0 : Nat) (x1 : Int32) (h : AH) : Option (AH) :=
X7_yearsGo_2 a0 x1 0 h
noncomputable def X7_says_64 (a0 : Nat) (x1 : Int32) (x2 : Int32) (x3 : Int32) (s0 : Int32) (h : AH) : Option (Int32 × AH) :=
(isO 7 (some a0) h).bind fun a => (X7_putsAside a h).bind fun h1 =>
(isO 7 (some a0) h1).bind fun a => (X7_yearsGo a x3 h1).bind fun h2 =>
(isO 7 (some a0) h2).bind fun a => b2 (X7_handOf a x1 h2) fun v3 h4 =>
(isO 7 (some a0) h4).bind fun a => b2 (X7_glyphAt a x1 s0 h4) fun v5 h6 =>
b2 (X7_seenBy v5 x2 h6) fun v7 h8 =>
(isO 7 (some a0) h8).bind fun a => b2 (X7_readAs a v3 v7 h8) fun v9 h10 =>
(isO 7 (some a0) h10).bind fun a => (X7_takesBack a h10).bind fun h11 =>
some ((v9, h11))
noncomputable def X7_says_45 (a0 : Nat) (x1 : Int32) (x2 : Int32) (x3 : Int32) (x4 : Int32) (h : AH) : Option (Int32 × AH) :=
(isO 7 (some a0) h).bind fun a => b2 (X7_wordOf a x1 h) fun v12 h13 =>
(isO 7 (some a0) h13).bind fun a => b2 (X7_longOf a v12 h13) fun v14 h15 =>
X7_says_64 a0 x1 x2 x3 ((v14 - 1) - x4) h15
noncomputable def X7_says (a0 : Nat) (x1 : Int32) (x2 : Int32) (x3 : Int32) (x4 : Int32) (h : AH) : Option (Int32 × AH) :=
(isO 7 (some a0) h).bind fun a => b2 (X7_isPlace a x1 x4 h) fun v16 h17 =>
if v16 = 0 then (some (((-1), h17))) else (b2 (X7_isIn (Int32.toInt64 x2) 0 3 h17) fun v18 h19 =>
if v18 = 0 then (some (((-1), h19))) else ((isO 7 (some a0) h19).bind fun a => b2 (X7_isAhead a x3 0 60 h19) fun v20 h21 =>
if v20 = 0 then (some (((-1), h21))) else (if x2 = 1 then (X7_says_45 a0 x1 x2 x3 x4 h21) else (if x2 = 3 then (X7_says_45 a0 x1 x2 x3 x4 h21) else (X7_says_64 a0 x1 x2 x3 x4 h21)))))
noncomputable def X7_canPaint_2b (a0 : Nat) (x1 : Int32) (x2 : Int32) (x3 : Int32) (h : AH) : Option ((Int32 × AH) ⊕ (Int32 × AH)) :=
(isO 7 (some a0) h).bind fun a => b2 (X7_longOf a x1 h) fun v1 h2 =>
if x3 < v1 then ((isO 7 (some a0) h2).bind fun a => b2 (X7_letterOf a x1 x3 h2) fun v3 h4 =>
(isO 7 (some a0) h4).bind fun a => b2 (X7_letterAt a x2 v3 h4) fun v5 h6 =>
if v5 = (-1) then (some (.inr ((0, h6)))) else (some (.inl ((x3 + 1), h6)))) else (some (.inr ((1, h2))))
noncomputable def X7_canPaint_2 (a0 : Nat) (x1 : Int32) (x2 : Int32) (x3 : Int32) (h : AH) : Option (Int32 × AH) := loopC (fun s : Int32 × AH => X7_canPaint_2b a0 x1 x2 s.1 s.2) (x3, h)
noncomputable def X7_canPaint (a0 : Nat) (x1 : Int32) (x2 : Int32) (h : AH) : Option (Int32 × AH) :=
X7_canPaint_2 a0 x1 x2 0 h
noncomputable def X7_isSaid_13b (a0 : Nat) (x1 : Int32) (x2 : Int32) (x3 : Int32) (h : AH) : Option ((Int32 × AH) ⊕ (Int32 × AH)) :=
if x3 < x2 then ((isO 7 (some a0) h).bind fun a => b2 (X7_letterOf a x1 x3 h) fun v1 h2 =>
(gR 7 69 (some a0) h2).bind fun v3 =>
(xI 100 v3 x3 h2).bind fun v4 =>
if v1 = v4 then (some (.inl ((x3 + 1), h2))) else (some (.inr ((0, h2))))) else (some (.inr ((1, h))))
noncomputable def X7_isSaid_13 (a0 : Nat) (x1 : Int32) (x2 : Int32) (x3 : Int32) (h : AH) : Option (Int32 × AH) := loopC (fun s : Int32 × AH => X7_isSaid_13b a0 x1 x2 s.1 s.2) (x3, h)
noncomputable def X7_isSaid (a0 : Nat) (x1 : Int32) (x2 : Int32) (h : AH) : Option (Int32 × AH) :=
(isO 7 (some a0) h).bind fun a => b2 (X7_longOf a x1 h) fun v5 h6 =>
if v5 = x2 then (X7_isSaid_13 a0 x1 x2 0 h6) else (some ((0, h6)))
noncomputable def X7_becomes_79 (a0 : Nat) (x1 : Int32) (x2 : Int32) (x3 : Int32) (x4 : Int32) (x5 : Int32) (s0 : Int32) (h : AH) : Option ((Int32 × AH) ⊕ (Int32 × AH)) :=
(gR 7 69 (some a0) h).bind fun v1 =>
(isO 7 (some a0) h).bind fun a => b2 (X7_letterOf a x1 s0 h) fun v2 h3 =>
(isO 7 (some a0) h3).bind fun a => b2 (X7_letterAt a x2 v2 h3) fun v4 h5 =>
(isO 7 (some a0) h5).bind fun a => b2 (X7_glyphOf a x2 v4 h5) fun v6 h7 =>
b2 (X7_seenBy v6 x3 h7) fun v8 h9 =>
(isO 7 (some a0) h9).bind fun a => b2 (X7_readAs a x2 v8 h9) fun v10 h11 =>
(sI 100 v1 x5 v10 h11).bind fun h12 =>
some (.inl ((x5 + 1), h12))
noncomputable def X7_becomes_67 (a0 : Nat) (x1 : Int32) (x2 : Int32) (x3 : Int32) (x4 : Int32) (x5 : Int32) (h : AH) : Option ((Int32 × AH) ⊕ (Int32 × AH)) :=
X7_becomes_79 a0 x1 x2 x3 x4 x5 ((x4 - 1) - x5) h
noncomputable def X7_becomes_123b (a0 : Nat) (x4 : Int32) (x5 : Int32) (h : AH) : Option ((Int32 × AH) ⊕ (Int32 × AH)) :=
(isO 7 (some a0) h).bind fun a => b2 (X7_wordMany a h) fun v13 h14 =>
if x5 < v13 then ((isO 7 (some a0) h14).bind fun a => b2 (X7_isSaid a x5 x4 h14) fun v15 h16 =>
if v15 = 0 then (some (.inl ((x5 + 1), h16))) else (some (.inr ((x5, h16))))) else (some (.inr (((-1), h14))))
noncomputable def X7_becomes_123 (a0 : Nat) (x4 : Int32) (x5 : Int32) (h : AH) : Option (Int32 × AH) := loopC (fun s : Int32 × AH => X7_becomes_123b a0 x4 s.1 s.2) (x5, h)
noncomputable def X7_becomes_50b (a0 : Nat) (x1 : Int32) (x2 : Int32) (x3 : Int32) (x4 : Int32) (x5 : Int32) (h : AH) : Option ((Int32 × AH) ⊕ (Int32 × AH)) :=
if x5 < x4 then (if x3 = 1 then (X7_becomes_67 a0 x1 x2 x3 x4 x5 h) else (if x3 = 3 then (X7_becomes_67 a0 x1 x2 x3 x4 x5 h) else (X7_becomes_79 a0 x1 x2 x3 x4 x5 x5 h))) else ((X7_becomes_123 a0 x4 0 h).bind fun o => some (.inr o))
noncomputable def X7_becomes_50 (a0 : Nat) (x1 : Int32) (x2 : Int32) (x3 : Int32) (x4 : Int32) (x5 : Int32) (h : AH) : Option (Int32 × AH) := loopC (fun s : Int32 × AH => X7_becomes_50b a0 x1 x2 x3 x4 s.1 s.2) (x5, h)
noncomputable def X7_becomes (a0 : Nat) (x1 : Int32) (x2 : Int32) (x3 : Int32) (h : AH) : Option (Int32 × AH) :=
(isO 7 (some a0) h).bind fun a => b2 (X7_isWord a (Int32.toInt64 x1) h) fun v17 h18 =>
if v17 = 0 then (some (((-1), h18))) else ((isO 7 (some a0) h18).bind fun a => b2 (X7_isHand a x2 h18) fun v19 h20 =>
if v19 = 0 then (some (((-1), h20))) else (b2 (X7_isIn (Int32.toInt64 x3) 0 3 h20) fun v21 h22 =>
if v21 = 0 then (some (((-1), h22))) else ((isO 7 (some a0) h22).bind fun a => b2 (X7_canPaint a x1 x2 h22) fun v23 h24 =>
if v23 = 0 then (some (((-1), h24))) else ((isO 7 (some a0) h24).bind fun a => b2 (X7_longOf a x1 h24) fun v25 h26 =>
X7_becomes_50 a0 x1 x2 x3 v25 0 h26))))
noncomputable def X7_areWords (a0 : Nat) (x1 : Int32) (x2 : Int32) (h : AH) : Option (Int32 × AH) :=
(isO 7 (some a0) h).bind fun a => b2 (X7_isWord a (Int32.toInt64 x1) h) fun v1 h2 =>
if v1 = 0 then (some ((0, h2))) else ((isO 7 (some a0) h2).bind fun a => b2 (X7_isWord a (Int32.toInt64 x2) h2) fun v3 h4 =>
if v3 = 0 then (some ((0, h4))) else (some ((1, h4))))
noncomputable def X7_glyphBy_48 (x1 : Int32) (x2 : Int32) (h : AH) : Option (Int32 × AH) :=
some (((x1 &&& x2), h))
noncomputable def X7_glyphBy (x0 : Int32) (x1 : Int32) (x2 : Int32) (h : AH) : Option (Int32 × AH) :=
if x0 = 0 then (some ((x1, h))) else (if x0 = 1 then (some ((x2, h))) else (if x0 = 2 then (some (((x1 ||| x2), h))) else (if x0 = 3 then (X7_glyphBy_48 x1 x2 h) else (if x0 = 4 then (some ((x1, h))) else (if x0 = 5 then (some ((x2, h))) else (X7_glyphBy_48 x1 x2 h))))))
noncomputable def X7_bothDoubt (a0 : Nat) (x1 : Int32) (x2 : Int32) (x3 : Int32) (x4 : Int32) (h : AH) : Option (Int32 × AH) :=
(isO 7 (some a0) h).bind fun a => b2 (X7_doubtOf a x1 x2 x4 h) fun v1 h2 =>
b2 (X7_seenBy x4 1 h2) fun v3 h4 =>
(isO 7 (some a0) h4).bind fun a => b2 (X7_doubtOf a x1 x3 v3 h4) fun v5 h6 =>
(gR 7 50 (some a0) h6).bind fun v7 =>
(xI 100 v7 3 h6).bind fun v8 =>
if v8 < v1 then (some (((-1), h6))) else ((gR 7 50 (some a0) h6).bind fun v9 =>
(xI 100 v9 3 h6).bind fun v10 =>
if v10 < v5 then (some (((-1), h6))) else (some (((v1 + v5), h6))))
noncomputable def X7_oneAt (a0 : Nat) (x1 : Int32) (x2 : Int32) (x3 : Int32) (h : AH) : Option (Int32 × AH) :=
(isO 7 (some a0) h).bind fun a => b2 (X7_longOf a x1 h) fun v1 h2 =>
if x3 < v1 then ((isO 7 (some a0) h2).bind fun a => b2 (X7_letterOf a x1 x3 h2) fun v3 h4 =>
(isO 7 (some a0) h4).bind fun a => b2 (X7_letterAt a x2 v3 h4) fun v5 h6 =>
some ((v5, h6))) else (some (((-1), h2)))
noncomputable def X7_otherAt (a0 : Nat) (x1 : Int32) (x2 : Int32) (x3 : Int32) (h : AH) : Option (Int32 × AH) :=
(isO 7 (some a0) h).bind fun a => b2 (X7_longOf a x1 h) fun v1 h2 =>
if x3 < v1 then ((isO 7 (some a0) h2).bind fun a => b2 (X7_longOf a x1 h2) fun v3 h4 =>
(isO 7 (some a0) h4).bind fun a => b2 (X7_letterOf a x1 ((v3 - 1) - x3) h4) fun v5 h6 =>
(isO 7 (some a0) h6).bind fun a => b2 (X7_letterAt a x2 v5 h6) fun v7 h8 =>
some ((v7, h8))) else (some (((-1), h2)))
noncomputable def X7_linePuts_276 (a0 : Nat) (x3 : Int32) (x6 : Int32) (x7 : Int32) (x8 : Int32) (x9 : Int32) (x10 : Int32) (x11 : Int32) (x15 : Int32) (x16 : Int32) (h : AH) : Option ((Int32 × AH) ⊕ (AH)) :=
(gR 7 72 (some a0) h).bind fun v1 =>
(sI 100 v1 x6 x11 h).bind fun h2 =>
(gR 7 70 (some a0) h2).bind fun v3 =>
(sI 100 v3 x6 x15 h2).bind fun h4 =>
(gR 7 71 (some a0) h4).bind fun v5 =>
(sI 100 v5 x6 x16 h4).bind fun h6 =>
some (.inl ((x11 + 1), h6))
noncomputable def X7_linePuts_197 (a0 : Nat) (x3 : Int32) (x6 : Int32) (x7 : Int32) (x8 : Int32) (x9 : Int32) (x10 : Int32) (x11 : Int32) (x12 : Int32) (x13 : Int32) (s0 : Int32) (h : AH) : Option ((Int32 × AH) ⊕ (AH)) :=
(gR 7 70 (some a0) h).bind fun v7 =>
(xI 100 v7 s0 h).bind fun v8 =>
b2 (X7_bits x12 h) fun v9 h10 =>
(gR 7 71 (some a0) h10).bind fun v11 =>
(xI 100 v11 s0 h10).bind fun v12 =>
(gR 7 72 (some a0) h10).bind fun v13 =>
(xI 100 v13 x6 h10).bind fun v14 =>
if v14 = (-1) then (X7_linePuts_276 a0 x3 x6 x7 x8 x9 x10 x11 (x13 + v8) (v9 + v12) h10) else ((gR 7 70 (some a0) h10).bind fun v15 =>
(xI 100 v15 x6 h10).bind fun v16 =>
if v16 < (x13 + v8) then (some (.inl ((x11 + 1), h10))) else ((gR 7 70 (some a0) h10).bind fun v17 =>
(xI 100 v17 x6 h10).bind fun v18 =>
if (x13 + v8) = v18 then ((gR 7 71 (some a0) h10).bind fun v19 =>
(xI 100 v19 x6 h10).bind fun v20 =>
if (v9 + v12) < v20 then (X7_linePuts_276 a0 x3 x6 x7 x8 x9 x10 x11 (x13 + v8) (v9 + v12) h10) else (some (.inl ((x11 + 1), h10)))) else (X7_linePuts_276 a0 x3 x6 x7 x8 x9 x10 x11 (x13 + v8) (v9 + v12) h10)))
noncomputable def X7_linePuts_154 (a0 : Nat) (x3 : Int32) (x6 : Int32) (x7 : Int32) (x8 : Int32) (x9 : Int32) (x10 : Int32) (x11 : Int32) (x12 : Int32) (s0 : Int32) (h : AH) : Option ((Int32 × AH) ⊕ (AH)) :=
if s0 = (-1) then (some (.inl ((x11 + 1), h))) else (if x11 < 4 then (X7_linePuts_197 a0 x3 x6 x7 x8 x9 x10 x11 x12 s0 (x6 + 8) h) else (if x11 = 4 then (X7_linePuts_197 a0 x3 x6 x7 x8 x9 x10 x11 x12 s0 (x6 + 7) h) else (X7_linePuts_197 a0 x3 x6 x7 x8 x9 x10 x11 x12 s0 (x6 + 1) h)))
noncomputable def X7_linePuts_117 (a0 : Nat) (x3 : Int32) (x6 : Int32) (x7 : Int32) (x8 : Int32) (x9 : Int32) (x10 : Int32) (x11 : Int32) (h : AH) : Option ((Int32 × AH) ⊕ (AH)) :=
b2 (X7_glyphBy x11 x9 x10 h) fun v21 h22 =>
if x11 < 4 then ((isO 7 (some a0) h22).bind fun a => b2 (X7_bothDoubt a x3 x7 x8 v21 h22) fun v25 h26 =>
X7_linePuts_154 a0 x3 x6 x7 x8 x9 x10 x11 v21 v25 h26) else ((gR 7 50 (some a0) h22).bind fun v23 =>
(xI 100 v23 4 h22).bind fun v24 =>
X7_linePuts_154 a0 x3 x6 x7 x8 x9 x10 x11 v21 v24 h22)
noncomputable def X7_linePuts_102 (a0 : Nat) (x3 : Int32) (x6 : Int32) (x7 : Int32) (x8 : Int32) (x9 : Int32) (x10 : Int32) (x11 : Int32) (h : AH) : Option ((Int32 × AH) ⊕ (AH)) :=
if x11 = 4 then (X7_linePuts_117 a0 x3 x6 x7 x8 x9 x10 x11 h) else (if x8 = (-1) then (some (.inl ((x11 + 1), h))) else (X7_linePuts_117 a0 x3 x6 x7 x8 x9 x10 x11 h))
noncomputable def X7_linePuts_83b (a0 : Nat) (x3 : Int32) (x6 : Int32) (x7 : Int32) (x8 : Int32) (x9 : Int32) (x10 : Int32) (x11 : Int32) (h : AH) : Option ((Int32 × AH) ⊕ (AH)) :=
if x11 < 6 then (if x11 = 5 then (X7_linePuts_102 a0 x3 x6 x7 x8 x9 x10 x11 h) else (if x7 = (-1) then (some (.inl ((x11 + 1), h))) else (X7_linePuts_102 a0 x3 x6 x7 x8 x9 x10 x11 h))) else (some (.inr (h)))
noncomputable def X7_linePuts_83 (a0 : Nat) (x3 : Int32) (x6 : Int32) (x7 : Int32) (x8 : Int32) (x9 : Int32) (x10 : Int32) (x11 : Int32) (h : AH) : Option (AH) := loopC (fun s : Int32 × AH => X7_linePuts_83b a0 x3 x6 x7 x8 x9 x10 s.1 s.2) (x11, h)
noncomputable def X7_linePuts_70 (a0 : Nat) (x3 : Int32) (x6 : Int32) (x7 : Int32) (x8 : Int32) (x9 : Int32) (s0 : Int32) (h : AH) : Option (AH) :=
(gR 7 72 (some a0) h).bind fun v27 =>
(sI 100 v27 x6 (-1) h).bind fun h28 =>
X7_linePuts_83 a0 x3 x6 x7 x8 x9 s0 0 h28
noncomputable def X7_linePuts_47 (a0 : Nat) (x3 : Int32) (x6 : Int32) (x7 : Int32) (x8 : Int32) (s0 : Int32) (h : AH) : Option (AH) :=
if x8 = (-1) then (X7_linePuts_70 a0 x3 x6 x7 x8 s0 0 h) else ((isO 7 (some a0) h).bind fun a => b2 (X7_glyphOf a x3 x8 h) fun v29 h30 =>
b2 (X7_seenBy v29 1 h30) fun v31 h32 =>
X7_linePuts_70 a0 x3 x6 x7 x8 s0 v31 h32)
noncomputable def X7_linePuts (a0 : Nat) (x1 : Int32) (x2 : Int32) (x3 : Int32) (x4 : Int32) (x5 : Int32) (h : AH) : Option (AH) :=
(isO 7 (some a0) h).bind fun a => b2 (X7_oneAt a x1 x3 x4 h) fun v33 h34 =>
(isO 7 (some a0) h34).bind fun a => b2 (X7_otherAt a x2 x3 x5 h34) fun v35 h36 =>
if v33 = (-1) then (X7_linePuts_47 a0 x3 ((7 * x4) + x5) v33 v35 0 h36) else ((isO 7 (some a0) h36).bind fun a => b2 (X7_glyphOf a x3 v33 h36) fun v37 h38 =>
X7_linePuts_47 a0 x3 ((7 * x4) + x5) v33 v35 v37 h38)
noncomputable def X7_laysLine_37 (a0 : Nat) (h : AH) : Option (AH) :=
(gR 7 70 (some a0) h).bind fun v1 =>
(sI 100 v1 0 (-1) h).bind fun h2 =>
some (h2)
noncomputable def X7_laysLine_77 (a0 : Nat) (x1 : Int32) (x2 : Int32) (x3 : Int32) (x4 : Int32) (x5 : Int32) (x6 : Int32) (x7 : Int32) (h : AH) : Option ((Int32 × AH) ⊕ ((Int32 × AH) ⊕ (AH))) :=
(isO 7 (some a0) h).bind fun a => (X7_linePuts a x1 x2 x3 x6 x7 h).bind fun h3 =>
some (.inl ((x7 + (-1)), h3))
noncomputable def X7_laysLine_58b (a0 : Nat) (x1 : Int32) (x2 : Int32) (x3 : Int32) (x4 : Int32) (x5 : Int32) (x6 : Int32) (x7 : Int32) (h : AH) : Option ((Int32 × AH) ⊕ ((Int32 × AH) ⊕ (AH))) :=
if x7 < 0 then (some (.inr (.inl ((x6 + (-1)), h)))) else (if x6 < x4 then (X7_laysLine_77 a0 x1 x2 x3 x4 x5 x6 x7 h) else (if x7 < x5 then (X7_laysLine_77 a0 x1 x2 x3 x4 x5 x6 x7 h) else ((gR 7 70 (some a0) h).bind fun v4 =>
(sI 100 v4 ((7 * x4) + x5) 0 h).bind fun h5 =>
(gR 7 71 (some a0) h5).bind fun v6 =>
(sI 100 v6 ((7 * x4) + x5) 0 h5).bind fun h7 =>
(gR 7 72 (some a0) h7).bind fun v8 =>
(sI 100 v8 ((7 * x4) + x5) (-1) h7).bind fun h9 =>
some (.inl ((x7 + (-1)), h9)))))
noncomputable def X7_laysLine_58 (a0 : Nat) (x1 : Int32) (x2 : Int32) (x3 : Int32) (x4 : Int32) (x5 : Int32) (x6 : Int32) (x7 : Int32) (h : AH) : Option ((Int32 × AH) ⊕ (AH)) := loopC (fun s : Int32 × AH => X7_laysLine_58b a0 x1 x2 x3 x4 x5 x6 s.1 s.2) (x7, h)
noncomputable def X7_laysLine_297 (a0 : Nat) (x1 : Int32) (x2 : Int32) (x3 : Int32) (x6 : Int32) (x7 : Int32) (x8 : Int32) (h : AH) : Option ((Int32 × Int32 × AH) ⊕ (AH)) :=
if x8 = 4 then (some (.inl (x6, x7, h))) else (some (.inl (x6, (x7 + 1), h)))
noncomputable def X7_laysLine_274 (a0 : Nat) (x1 : Int32) (x2 : Int32) (x3 : Int32) (x6 : Int32) (x7 : Int32) (x8 : Int32) (s0 : Option Nat) (s1 : Int32) (s2 : Int32) (s3 : Int32) (s4 : Int32) (h : AH) : Option ((Int32 × Int32 × AH) ⊕ (AH)) :=
b2 (X7_glyphBy s2 s3 s4 h) fun v10 h11 =>
(sI 100 s0 s1 v10 h11).bind fun h12 =>
(gI 7 74 (some a0) h12).bind fun v13 =>
(pI 7 74 (some a0) (v13 + 1) h12).bind fun h14 =>
if x8 = 5 then (X7_laysLine_297 a0 x1 x2 x3 x6 x7 x8 h14) else (X7_laysLine_297 a0 x1 x2 x3 (x6 + 1) x7 x8 h14)
noncomputable def X7_laysLine_253 (a0 : Nat) (x1 : Int32) (x2 : Int32) (x3 : Int32) (x6 : Int32) (x7 : Int32) (x8 : Int32) (x10 : Int32) (s0 : Option Nat) (s1 : Int32) (s2 : Int32) (s3 : Int32) (h : AH) : Option ((Int32 × Int32 × AH) ⊕ (AH)) :=
if x10 = (-1) then (X7_laysLine_274 a0 x1 x2 x3 x6 x7 x8 s0 s1 s2 s3 0 h) else ((isO 7 (some a0) h).bind fun a => b2 (X7_glyphOf a x3 x10 h) fun v15 h16 =>
b2 (X7_seenBy v15 1 h16) fun v17 h18 =>
X7_laysLine_274 a0 x1 x2 x3 x6 x7 x8 s0 s1 s2 s3 v17 h18)
noncomputable def X7_laysLine_225 (a0 : Nat) (x1 : Int32) (x2 : Int32) (x3 : Int32) (x6 : Int32) (x7 : Int32) (x8 : Int32) (x9 : Int32) (x10 : Int32) (s0 : Option Nat) (s1 : Int32) (s2 : Int32) (h : AH) : Option ((Int32 × Int32 × AH) ⊕ (AH)) :=
(sI 100 s0 s1 s2 h).bind fun h19 =>
(gR 7 76 (some a0) h19).bind fun v20 =>
(gI 7 74 (some a0) h19).bind fun v21 =>
if x9 = (-1) then (X7_laysLine_253 a0 x1 x2 x3 x6 x7 x8 x10 v20 v21 x8 0 h19) else ((isO 7 (some a0) h19).bind fun a => b2 (X7_glyphOf a x3 x9 h19) fun v22 h23 =>
X7_laysLine_253 a0 x1 x2 x3 x6 x7 x8 x10 v20 v21 x8 v22 h23)
noncomputable def X7_laysLine_151b (a0 : Nat) (x1 : Int32) (x2 : Int32) (x3 : Int32) (x6 : Int32) (x7 : Int32) (h : AH) : Option ((Int32 × Int32 × AH) ⊕ (AH)) :=
(gR 7 72 (some a0) h).bind fun v24 =>
(xI 100 v24 ((7 * x6) + x7) h).bind fun v25 =>
if v25 = (-1) then (some (.inr (h))) else ((gR 7 72 (some a0) h).bind fun v26 =>
(xI 100 v26 ((7 * x6) + x7) h).bind fun v27 =>
(isO 7 (some a0) h).bind fun a => b2 (X7_oneAt a x1 x3 x6 h) fun v28 h29 =>
(isO 7 (some a0) h29).bind fun a => b2 (X7_otherAt a x2 x3 x7 h29) fun v30 h31 =>
(gR 7 75 (some a0) h31).bind fun v32 =>
(gI 7 74 (some a0) h31).bind fun v33 =>
if v27 < 4 then (X7_laysLine_225 a0 x1 x2 x3 x6 x7 v27 v28 v30 v32 v33 0 h31) else (X7_laysLine_225 a0 x1 x2 x3 x6 x7 v27 v28 v30 v32 v33 (v27 - 3) h31))
noncomputable def X7_laysLine_151 (a0 : Nat) (x1 : Int32) (x2 : Int32) (x3 : Int32) (x6 : Int32) (x7 : Int32) (h : AH) : Option (AH) := loopC (fun s : Int32 × Int32 × AH => X7_laysLine_151b a0 x1 x2 x3 s.1 s.2.1 s.2.2) (x6, x7, h)
noncomputable def X7_laysLine_49b (a0 : Nat) (x1 : Int32) (x2 : Int32) (x3 : Int32) (x4 : Int32) (x5 : Int32) (x6 : Int32) (h : AH) : Option ((Int32 × AH) ⊕ (AH)) :=
if x6 < 0 then ((X7_laysLine_151 a0 x1 x2 x3 0 0 h).bind fun o => some (.inr o)) else (X7_laysLine_58 a0 x1 x2 x3 x4 x5 x6 x5 h)
noncomputable def X7_laysLine_49 (a0 : Nat) (x1 : Int32) (x2 : Int32) (x3 : Int32) (x4 : Int32) (x5 : Int32) (x6 : Int32) (h : AH) : Option (AH) := loopC (fun s : Int32 × AH => X7_laysLine_49b a0 x1 x2 x3 x4 x5 s.1 s.2) (x6, h)
noncomputable def X7_laysLine (a0 : Nat) (x1 : Int32) (x2 : Int32) (x3 : Int32) (h : AH) : Option (AH) :=
(isO 7 (some a0) h).bind fun a => b2 (X7_longOf a x1 h) fun v34 h35 =>
(isO 7 (some a0) h35).bind fun a => b2 (X7_longOf a x2 h35) fun v36 h37 =>
(pI 7 74 (some a0) 0 h37).bind fun h38 =>
(isO 7 (some a0) h38).bind fun a => b2 (X7_canPaint a x1 x3 h38) fun v39 h40 =>
if v39 = 0 then (X7_laysLine_37 a0 h40) else ((isO 7 (some a0) h40).bind fun a => b2 (X7_canPaint a x2 x3 h40) fun v41 h42 =>
if v41 = 0 then (X7_laysLine_37 a0 h42) else (X7_laysLine_49 a0 x1 x2 x3 v34 v36 v34 h42))
noncomputable def X7_line (a0 : Nat) (x1 : Int32) (x2 : Int32) (x3 : Int32) (x4 : Int32) (h : AH) : Option (Int32 × AH) :=
(isO 7 (some a0) h).bind fun a => b2 (X7_areWords a x1 x2 h) fun v1 h2 =>
if v1 = 0 then (some (((-1), h2))) else ((isO 7 (some a0) h2).bind fun a => b2 (X7_isHand a x3 h2) fun v3 h4 =>
if v3 = 0 then (some (((-1), h4))) else (b2 (X7_isIn (Int32.toInt64 x4) 0 2 h4) fun v5 h6 =>
if v5 = 0 then (some (((-1), h6))) else ((isO 7 (some a0) h6).bind fun a => (X7_laysLine a x1 x2 x3 h6).bind fun h7 =>
(gR 7 70 (some a0) h7).bind fun v8 =>
(xI 100 v8 0 h7).bind fun v9 =>
if v9 = (-1) then (some (((-1), h7))) else (if x4 = 0 then ((gR 7 70 (some a0) h7).bind fun v13 =>
(xI 100 v13 0 h7).bind fun v14 =>
some ((v14, h7))) else (if x4 = 1 then ((gR 7 71 (some a0) h7).bind fun v11 =>
(xI 100 v11 0 h7).bind fun v12 =>
some ((v12, h7))) else ((gI 7 74 (some a0) h7).bind fun v10 =>
some ((v10, h7))))))))
noncomputable def X7_piece (a0 : Nat) (x1 : Int32) (x2 : Int32) (x3 : Int32) (x4 : Int32) (x5 : Int32) (h : AH) : Option (Int32 × AH) :=
(isO 7 (some a0) h).bind fun a => b2 (X7_areWords a x1 x2 h) fun v1 h2 =>
if v1 = 0 then (some (((-1), h2))) else ((isO 7 (some a0) h2).bind fun a => b2 (X7_isHand a x3 h2) fun v3 h4 =>
if v3 = 0 then (some (((-1), h4))) else (b2 (X7_isIn (Int32.toInt64 x5) 0 1 h4) fun v5 h6 =>
if v5 = 0 then (some (((-1), h6))) else ((isO 7 (some a0) h6).bind fun a => (X7_laysLine a x1 x2 x3 h6).bind fun h7 =>
(gI 7 74 (some a0) h7).bind fun v8 =>
b2 (X7_isIn (Int32.toInt64 x4) 0 (Int32.toInt64 (v8 - 1)) h7) fun v9 h10 =>
if v9 = 0 then (some (((-1), h10))) else (if x5 = 0 then ((gR 7 75 (some a0) h10).bind fun v13 =>
(xI 100 v13 x4 h10).bind fun v14 =>
some ((v14, h10))) else ((gR 7 76 (some a0) h10).bind fun v11 =>
(xI 100 v11 x4 h10).bind fun v12 =>
some ((v12, h10)))))))
noncomputable def X7_best_53 (a0 : Nat) (x1 : Int32) (x4 : Int32) (h : AH) : Option ((Int32 × Int32 × Int32 × AH) ⊕ (Int32 × AH)) :=
(gR 7 70 (some a0) h).bind fun v1 =>
(xI 100 v1 0 h).bind fun v2 =>
some (.inl (x4, v2, (x4 + 1), h))
noncomputable def X7_best_18b (a0 : Nat) (x1 : Int32) (x2 : Int32) (x3 : Int32) (x4 : Int32) (h : AH) : Option ((Int32 × Int32 × Int32 × AH) ⊕ (Int32 × AH)) :=
(isO 7 (some a0) h).bind fun a => b2 (X7_wordMany a h) fun v3 h4 =>
if x4 < v3 then ((isO 7 (some a0) h4).bind fun a => (X7_laysLine a x1 x4 0 h4).bind fun h5 =>
if x2 = (-1) then (X7_best_53 a0 x1 x4 h5) else ((gR 7 70 (some a0) h5).bind fun v6 =>
(xI 100 v6 0 h5).bind fun v7 =>
if v7 < x3 then (X7_best_53 a0 x1 x4 h5) else (some (.inl (x2, x3, (x4 + 1), h5))))) else (some (.inr ((x2, h4))))
noncomputable def X7_best_18 (a0 : Nat) (x1 : Int32) (x2 : Int32) (x3 : Int32) (x4 : Int32) (h : AH) : Option (Int32 × AH) := loopC (fun s : Int32 × Int32 × Int32 × AH => X7_best_18b a0 x1 s.1 s.2.1 s.2.2.1 s.2.2.2) (x2, x3, x4, h)
noncomputable def X7_best (a0 : Nat) (x1 : Int32) (h : AH) : Option (Int32 × AH) :=
(isO 7 (some a0) h).bind fun a => b2 (X7_isWord a (Int32.toInt64 x1) h) fun v8 h9 =>
if v8 = 0 then (some (((-1), h9))) else (X7_best_18 a0 x1 (-1) 0 0 h9)
noncomputable def X7_hand (a0 : Nat) (x1 : Int32) (x2 : Int32) (h : AH) : Option (Int32 × AH) :=
(isO 7 (some a0) h).bind fun a => b2 (X7_areWords a x1 x2 h) fun v1 h2 =>
if v1 = 0 then (some (((-1), h2))) else ((isO 7 (some a0) h2).bind fun a => (X7_laysLine a x1 x2 0 h2).bind fun h3 =>
(gR 7 70 (some a0) h3).bind fun v4 =>
(xI 100 v4 0 h3).bind fun v5 =>
(isO 7 (some a0) h3).bind fun a => (X7_laysLine a x1 x2 1 h3).bind fun h6 =>
(gR 7 70 (some a0) h6).bind fun v7 =>
(xI 100 v7 0 h6).bind fun v8 =>
if v8 = (-1) then (some ((0, h6))) else ((gR 7 70 (some a0) h6).bind fun v9 =>
(xI 100 v9 0 h6).bind fun v10 =>
if v10 < v5 then (some ((1, h6))) else (some ((0, h6)))))
noncomputable def X7_canHaveBeen_37b (a0 : Nat) (x1 : Int32) (x2 : Int32) (x3 : Int32) (x4 : Int32) (h : AH) : Option ((Int32 × AH) ⊕ (Int32 × AH)) :=
(isO 7 (some a0) h).bind fun a => b2 (X7_longOf a x2 h) fun v1 h2 =>
if x4 < v1 then ((isO 7 (some a0) h2).bind fun a => b2 (X7_glyphAt a x1 x4 h2) fun v3 h4 =>
(isO 7 (some a0) h4).bind fun a => b2 (X7_letterOf a x2 x4 h4) fun v5 h6 =>
(isO 7 (some a0) h6).bind fun a => b2 (X7_letterAt a x3 v5 h6) fun v7 h8 =>
(isO 7 (some a0) h8).bind fun a => b2 (X7_glyphOf a x3 v7 h8) fun v9 h10 =>
if (v3 &&& (v9 ^^^ (-1))) = 0 then (some (.inl ((x4 + 1), h10))) else (some (.inr ((0, h10))))) else (some (.inr ((1, h2))))
noncomputable def X7_canHaveBeen_37 (a0 : Nat) (x1 : Int32) (x2 : Int32) (x3 : Int32) (x4 : Int32) (h : AH) : Option (Int32 × AH) := loopC (fun s : Int32 × AH => X7_canHaveBeen_37b a0 x1 x2 x3 s.1 s.2) (x4, h)
noncomputable def X7_canHaveBeen (a0 : Nat) (x1 : Int32) (x2 : Int32) (h : AH) : Option (Int32 × AH) :=
(isO 7 (some a0) h).bind fun a => b2 (X7_handOf a x1 h) fun v11 h12 =>
(isO 7 (some a0) h12).bind fun a => b2 (X7_longOf a x2 h12) fun v13 h14 =>
(isO 7 (some a0) h14).bind fun a => b2 (X7_wordOf a x1 h14) fun v15 h16 =>
(isO 7 (some a0) h16).bind fun a => b2 (X7_longOf a v15 h16) fun v17 h18 =>
if v13 = v17 then ((isO 7 (some a0) h18).bind fun a => b2 (X7_canPaint a x2 v11 h18) fun v19 h20 =>
if v19 = 0 then (some ((0, h20))) else (X7_canHaveBeen_37 a0 x1 x2 v11 0 h20)) else (some ((0, h18)))
noncomputable def X7_been_14b (a0 : Nat) (x1 : Int32) (x2 : Int32) (x3 : Int32) (h : AH) : Option ((Int32 × Int32 × AH) ⊕ (Int32 × AH)) :=
(isO 7 (some a0) h).bind fun a => b2 (X7_wordMany a h) fun v1 h2 =>
if x3 < v1 then ((isO 7 (some a0) h2).bind fun a => b2 (X7_canHaveBeen a x1 x3 h2) fun v3 h4 =>
if v3 = 0 then (some (.inl (x2, (x3 + 1), h4))) else (some (.inl ((x2 ||| (jshl 1 x3)), (x3 + 1), h4)))) else (some (.inr ((x2, h2))))
noncomputable def X7_been_14 (a0 : Nat) (x1 : Int32) (x2 : Int32) (x3 : Int32) (h : AH) : Option (Int32 × AH) := loopC (fun s : Int32 × Int32 × AH => X7_been_14b a0 x1 s.1 s.2.1 s.2.2) (x2, x3, h)
noncomputable def X7_been (a0 : Nat) (x1 : Int32) (h : AH) : Option (Int32 × AH) :=
(isO 7 (some a0) h).bind fun a => b2 (X7_isBoard a x1 h) fun v5 h6 =>
if v5 = 0 then (some (((-1), h6))) else (X7_been_14 a0 x1 0 0 h6)
noncomputable def X7_doesSay_2b (a0 : Nat) (x1 : Int32) (x2 : Int32) (h : AH) : Option ((Int32 × AH) ⊕ (Int32 × AH)) :=
(isO 7 (some a0) h).bind fun a => b2 (X7_wordOf a x1 h) fun v1 h2 =>
(isO 7 (some a0) h2).bind fun a => b2 (X7_longOf a v1 h2) fun v3 h4 =>
if x2 < v3 then ((isO 7 (some a0) h4).bind fun a => b2 (X7_handOf a x1 h4) fun v5 h6 =>
(isO 7 (some a0) h6).bind fun a => b2 (X7_glyphAt a x1 x2 h6) fun v7 h8 =>
(isO 7 (some a0) h8).bind fun a => b2 (X7_readAs a v5 v7 h8) fun v9 h10 =>
(isO 7 (some a0) h10).bind fun a => b2 (X7_wordOf a x1 h10) fun v11 h12 =>
(isO 7 (some a0) h12).bind fun a => b2 (X7_letterOf a v11 x2 h12) fun v13 h14 =>
if v9 = v13 then (some (.inl ((x2 + 1), h14))) else (some (.inr ((0, h14))))) else (some (.inr ((1, h4))))
noncomputable def X7_doesSay_2 (a0 : Nat) (x1 : Int32) (x2 : Int32) (h : AH) : Option (Int32 × AH) := loopC (fun s : Int32 × AH => X7_doesSay_2b a0 x1 s.1 s.2) (x2, h)
noncomputable def X7_doesSay (a0 : Nat) (x1 : Int32) (h : AH) : Option (Int32 × AH) :=
X7_doesSay_2 a0 x1 0 h
noncomputable def X7_lasts_63 (a0 : Nat) (x2 : Int32) (h : AH) : Option (Int32 × AH) :=
(isO 7 (some a0) h).bind fun a => (X7_takesBack a h).bind fun h1 =>
some ((x2, h1))
noncomputable def X7_lasts_54 (a0 : Nat) (x2 : Int32) (h : AH) : Option (Int32 × AH) :=
X7_lasts_63 a0 x2 h
noncomputable def X7_lasts_24b (a0 : Nat) (x1 : Int32) (x2 : Int32) (h : AH) : Option ((Int32 × AH) ⊕ (Int32 × AH)) :=
if x2 < 60 then ((gR 7 57 (some a0) h).bind fun v2 =>
(xI 100 v2 0 h).bind fun v3 =>
if v3 < 999 then ((isO 7 (some a0) h).bind fun a => (X7_yearGoes a h).bind fun h4 =>
(isO 7 (some a0) h4).bind fun a => b2 (X7_doesSay a x1 h4) fun v5 h6 =>
if v5 = 0 then ((X7_lasts_54 a0 x2 h6).bind fun o => some (.inr o)) else (some (.inl ((x2 + 1), h6)))) else ((X7_lasts_63 a0 x2 h).bind fun o => some (.inr o))) else ((X7_lasts_63 a0 x2 h).bind fun o => some (.inr o))
noncomputable def X7_lasts_24 (a0 : Nat) (x1 : Int32) (x2 : Int32) (h : AH) : Option (Int32 × AH) := loopC (fun s : Int32 × AH => X7_lasts_24b a0 x1 s.1 s.2) (x2, h)
noncomputable def X7_lasts (a0 : Nat) (x1 : Int32) (h : AH) : Option (Int32 × AH) :=
(isO 7 (some a0) h).bind fun a => b2 (X7_isBoard a x1 h) fun v7 h8 =>
if v7 = 0 then (some (((-1), h8))) else ((isO 7 (some a0) h8).bind fun a => b2 (X7_doesSay a x1 h8) fun v9 h10 =>
if v9 = 0 then (some (((-1), h10))) else ((isO 7 (some a0) h10).bind fun a => (X7_putsAside a h10).bind fun h11 =>
X7_lasts_24 a0 x1 0 h11))
noncomputable def X7_mend_65b (a0 : Nat) (x3 : Int32) (x4 : Int32) (x5 : Int32) (x6 : Int32) (x7 : Int32) (h : AH) : Option ((Int32 × Int32 × Int32 × AH) ⊕ (Int32 × AH)) :=
if x7 < 15 then (if ((jshr x5 x7) &&& 1) = 1 then (some (.inl (x5, x6, (x7 + 1), h))) else ((isO 7 (some a0) h).bind fun a => b2 (X7_glyphOf a x4 x3 h) fun v1 h2 =>
if ((jshr v1 x7) &&& 1) = 0 then (some (.inl (x5, x6, (x7 + 1), h2))) else ((isO 7 (some a0) h2).bind fun a => b2 (X7_readAs a x4 (x5 ||| (jshl 1 x7)) h2) fun v3 h4 =>
(isO 7 (some a0) h4).bind fun a => b2 (X7_nameOf a x4 x3 h4) fun v5 h6 =>
if v3 = v5 then (some (.inr (((x6 + 1), h6)))) else (some (.inl ((x5 ||| (jshl 1 x7)), (x6 + 1), (x7 + 1), h6)))))) else (some (.inr (((-1), h))))
noncomputable def X7_mend_65 (a0 : Nat) (x3 : Int32) (x4 : Int32) (x5 : Int32) (x6 : Int32) (x7 : Int32) (h : AH) : Option (Int32 × AH) := loopC (fun s : Int32 × Int32 × Int32 × AH => X7_mend_65b a0 x3 x4 s.1 s.2.1 s.2.2.1 s.2.2.2) (x5, x6, x7, h)
noncomputable def X7_mend (a0 : Nat) (x1 : Int32) (x2 : Int32) (x3 : Int32) (h : AH) : Option (Int32 × AH) :=
(isO 7 (some a0) h).bind fun a => b2 (X7_isPlace a x1 x2 h) fun v7 h8 =>
if v7 = 0 then (some (((-1), h8))) else ((isO 7 (some a0) h8).bind fun a => b2 (X7_handOf a x1 h8) fun v9 h10 =>
(isO 7 (some a0) h10).bind fun a => b2 (X7_isLetterOf a v9 x3 h10) fun v11 h12 =>
if v11 = 0 then (some (((-1), h12))) else ((isO 7 (some a0) h12).bind fun a => b2 (X7_handOf a x1 h12) fun v13 h14 =>
(isO 7 (some a0) h14).bind fun a => b2 (X7_glyphAt a x1 x2 h14) fun v15 h16 =>
(isO 7 (some a0) h16).bind fun a => b2 (X7_readAs a v13 v15 h16) fun v17 h18 =>
(isO 7 (some a0) h18).bind fun a => b2 (X7_nameOf a v13 x3 h18) fun v19 h20 =>
if v17 = v19 then (some ((0, h20))) else (X7_mend_65 a0 x3 v13 v15 0 0 h20)))
noncomputable def X7_undo_55 (a0 : Nat) (h : AH) : Option (Int32 × AH) :=
(gI 7 79 (some a0) h).bind fun v1 =>
(nz 20).bind fun _ =>
(pI 7 79 (some a0) (jrem ((v1 + 20) - 1) 20) h).bind fun h2 =>
(gI 7 78 (some a0) h2).bind fun v3 =>
(pI 7 78 (some a0) (v3 - 1) h2).bind fun h4 =>
some ((1, h4))
noncomputable def X7_undo_21b (a0 : Nat) (x1 : Int32) (h : AH) : Option ((Int32 × AH) ⊕ (Int32 × AH)) :=
if x1 < 154 then ((gR 7 57 (some a0) h).bind fun v5 =>
(gR 7 77 (some a0) h).bind fun v6 =>
(gI 7 79 (some a0) h).bind fun v7 =>
(xI 100 v6 ((154 * v7) + x1) h).bind fun v8 =>
(sI 100 v5 x1 v8 h).bind fun h9 =>
some (.inl ((x1 + 1), h9))) else ((X7_undo_55 a0 h).bind fun o => some (.inr o))
noncomputable def X7_undo_21 (a0 : Nat) (x1 : Int32) (h : AH) : Option (Int32 × AH) := loopC (fun s : Int32 × AH => X7_undo_21b a0 s.1 s.2) (x1, h)
noncomputable def X7_undo (a0 : Nat) (h : AH) : Option (Int32 × AH) :=
(gI 7 78 (some a0) h).bind fun v10 =>
if v10 = 0 then ((gR 7 9 (some a0) h).bind fun v11 =>
(xI 100 v11 4 h).bind fun v12 =>
(sI 100 v11 4 (v12 + 1) h).bind fun h13 =>
some ((0, h13))) else (X7_undo_21 a0 0 h)
noncomputable def X7_keeps_49 (a0 : Nat) (h : AH) : Option (AH) :=
(gI 7 78 (some a0) h).bind fun v1 =>
if v1 < 20 then ((gI 7 78 (some a0) h).bind fun v2 =>
(pI 7 78 (some a0) (v2 + 1) h).bind fun h3 =>
some (h3)) else (some (h))
noncomputable def X7_keeps_15b (a0 : Nat) (x1 : Int32) (h : AH) : Option ((Int32 × AH) ⊕ (AH)) :=
if x1 < 154 then ((gR 7 77 (some a0) h).bind fun v4 =>
(gI 7 79 (some a0) h).bind fun v5 =>
(gR 7 57 (some a0) h).bind fun v6 =>
(xI 100 v6 x1 h).bind fun v7 =>
(sI 100 v4 ((154 * v5) + x1) v7 h).bind fun h8 =>
some (.inl ((x1 + 1), h8))) else ((X7_keeps_49 a0 h).bind fun o => some (.inr o))
noncomputable def X7_keeps_15 (a0 : Nat) (x1 : Int32) (h : AH) : Option (AH) := loopC (fun s : Int32 × AH => X7_keeps_15b a0 s.1 s.2) (x1, h)
noncomputable def X7_keeps (a0 : Nat) (h : AH) : Option (AH) :=
(gI 7 79 (some a0) h).bind fun v9 =>
(nz 20).bind fun _ =>
(pI 7 79 (some a0) (jrem (v9 + 1) 20) h).bind fun h10 =>
X7_keeps_15 a0 0 h10
noncomputable def X7_refuses (a0 : Nat) (x1 : Int32) (h : AH) : Option (Int32 × AH) :=
(gR 7 9 (some a0) h).bind fun v1 =>
(xI 100 v1 x1 h).bind fun v2 =>
(sI 100 v1 x1 (v2 + 1) h).bind fun h3 =>
some (((-1), h3))
noncomputable def X7_years (a0 : Nat) (x1 : Int32) (h : AH) : Option (Int32 × AH) :=
(isO 7 (some a0) h).bind fun a => b2 (X7_isAhead a x1 1 100 h) fun v1 h2 =>
if v1 = 0 then ((isO 7 (some a0) h2).bind fun a => b2 (X7_refuses a 3 h2) fun v7 h8 =>
some ((v7, h8))) else ((isO 7 (some a0) h2).bind fun a => (X7_keeps a h2).bind fun h3 =>
(pI 7 67 (some a0) 0 h3).bind fun h4 =>
(isO 7 (some a0) h4).bind fun a => (X7_yearsGo a x1 h4).bind fun h5 =>
(gI 7 67 (some a0) h5).bind fun v6 =>
some ((v6, h5)))
noncomputable def X7_seed (a0 : Nat) (x1 : Int32) (h : AH) : Option (Int32 × AH) :=
if x1 < 0 then ((gR 7 9 (some a0) h).bind fun v2 =>
(xI 100 v2 5 h).bind fun v3 =>
(sI 100 v2 5 (v3 + 1) h).bind fun h4 =>
some ((0, h4))) else ((pL 7 80 (some a0) (Int32.toInt64 x1) h).bind fun h1 =>
some ((1, h1)))
noncomputable def X7_drawOf (a0 : Nat) (x1 : Int32) (h : AH) : Option (Int32 × AH) :=
(gL 7 80 (some a0) h).bind fun v1 =>
(nzL 2147483648).bind fun _ =>
(pL 7 80 (some a0) (jremL ((1103515245 * v1) + 12345) 2147483648) h).bind fun h2 =>
(gL 7 80 (some a0) h2).bind fun v3 =>
(nzL 64).bind fun _ =>
(nzL (Int32.toInt64 x1)).bind fun _ =>
some (((Int64.toInt32 (jremL (v3 / 64) (Int32.toInt64 x1))), h2))
noncomputable def X7_hails (a0 : Nat) (h : AH) : Option (Int32 × AH) :=
(isO 7 (some a0) h).bind fun a => b2 (X7_boardMany a h) fun v1 h2 =>
(isO 7 (some a0) h2).bind fun a => b2 (X7_drawOf a v1 h2) fun v3 h4 =>
(isO 7 (some a0) h4).bind fun a => b2 (X7_wordOf a v3 h4) fun v5 h6 =>
(isO 7 (some a0) h6).bind fun a => b2 (X7_longOf a v5 h6) fun v7 h8 =>
(isO 7 (some a0) h8).bind fun a => b2 (X7_drawOf a v7 h8) fun v9 h10 =>
(isO 7 (some a0) h10).bind fun a => b2 (X7_drawOf a 15 h10) fun v11 h12 =>
(isO 7 (some a0) h12).bind fun a => b2 (X7_glyphAt a v3 v9 h12) fun v13 h14 =>
(gR 7 57 (some a0) h14).bind fun v15 =>
(isO 7 (some a0) h14).bind fun a => b2 (X7_glyphAt a v3 v9 h14) fun v16 h17 =>
(sI 100 v15 ((3 + (8 * v3)) + v9) (v16 &&& ((jshl 1 v11) ^^^ (-1))) h17).bind fun h18 =>
some ((((jshr v13 v11) &&& 1), h18))
noncomputable def X7_chance_63 (a0 : Nat) (x1 : Int32) (x2 : Int32) (x3 : Int32) (h : AH) : Option ((Int32 × Int32 × AH) ⊕ (Int32 × AH)) :=
(isO 7 (some a0) h).bind fun a => (X7_yearGoes a h).bind fun h1 =>
some (.inl (x2, (x3 + 1), h1))
noncomputable def X7_chance_25b (a0 : Nat) (x1 : Int32) (x2 : Int32) (x3 : Int32) (h : AH) : Option ((Int32 × Int32 × AH) ⊕ (Int32 × AH)) :=
if x3 < x1 then ((isO 7 (some a0) h).bind fun a => (X7_laysSaid a h).bind fun h2 =>
(isO 7 (some a0) h2).bind fun a => b2 (X7_drawOf a 100 h2) fun v3 h4 =>
(gR 7 50 (some a0) h4).bind fun v5 =>
(xI 100 v5 5 h4).bind fun v6 =>
if v3 < v6 then ((isO 7 (some a0) h4).bind fun a => b2 (X7_boardMany a h4) fun v7 h8 =>
if 0 < v7 then ((isO 7 (some a0) h8).bind fun a => b2 (X7_hails a h8) fun v9 h10 =>
X7_chance_63 a0 x1 (x2 + v9) x3 h10) else (X7_chance_63 a0 x1 x2 x3 h8)) else (X7_chance_63 a0 x1 x2 x3 h4)) else (some (.inr ((x2, h))))
noncomputable def X7_chance_25 (a0 : Nat) (x1 : Int32) (x2 : Int32) (x3 : Int32) (h : AH) : Option (Int32 × AH) := loopC (fun s : Int32 × Int32 × AH => X7_chance_25b a0 x1 s.1 s.2.1 s.2.2) (x2, x3, h)
noncomputable def X7_chance (a0 : Nat) (x1 : Int32) (h : AH) : Option (Int32 × AH) :=
(isO 7 (some a0) h).bind fun a => b2 (X7_isAhead a x1 1 100 h) fun v11 h12 =>
if v11 = 0 then ((isO 7 (some a0) h12).bind fun a => b2 (X7_refuses a 3 h12) fun v14 h15 =>
some ((v14, h15))) else ((isO 7 (some a0) h12).bind fun a => (X7_keeps a h12).bind fun h13 =>
X7_chance_25 a0 x1 0 0 h13)
noncomputable def X7_isRefused (a0 : Nat) (h : AH) : Option (Int32 × AH) :=
(gR 7 9 (some a0) h).bind fun v1 =>
(xI 100 v1 2 h).bind fun v2 =>
(sI 100 v1 2 (v2 + 1) h).bind fun h3 =>
some ((0, h3))
noncomputable def X7_stroke_47 (a0 : Nat) (h : AH) : Option (Int32 × AH) :=
(isO 7 (some a0) h).bind fun a => b2 (X7_isRefused a h) fun v1 h2 =>
b2 (rz v1 h2) fun v3 h4 => some ((v3, h4))
noncomputable def X7_stroke (a0 : Nat) (x1 : Int32) (x2 : Int32) (x3 : Int32) (x4 : Int32) (h : AH) : Option (Int32 × AH) :=
(isO 7 (some a0) h).bind fun a => b2 (X7_isPlace a x1 x2 h) fun v5 h6 =>
if v5 = 0 then (X7_stroke_47 a0 h6) else (b2 (X7_isIn (Int32.toInt64 x3) 0 14 h6) fun v7 h8 =>
if v7 = 0 then (X7_stroke_47 a0 h8) else (b2 (X7_isIn (Int32.toInt64 x4) 0 1 h8) fun v9 h10 =>
if v9 = 0 then (X7_stroke_47 a0 h10) else ((isO 7 (some a0) h10).bind fun a => b2 (X7_glyphAt a x1 x2 h10) fun v11 h12 =>
if ((jshr v11 x3) &&& 1) = x4 then (X7_stroke_47 a0 h12) else ((isO 7 (some a0) h12).bind fun a => (X7_keeps a h12).bind fun h13 =>
(gR 7 57 (some a0) h13).bind fun v14 =>
(xI 100 v14 ((3 + (8 * x1)) + x2) h13).bind fun v15 =>
(sI 100 v14 ((3 + (8 * x1)) + x2) (v15 ^^^ (jshl 1 x3)) h13).bind fun h16 =>
some ((1, h16))))))
noncomputable def X7_paint_34 (a0 : Nat) (h : AH) : Option (Int32 × AH) :=
(isO 7 (some a0) h).bind fun a => b2 (X7_isRefused a h) fun v1 h2 =>
b2 (rz v1 h2) fun v3 h4 => some ((v3, h4))
noncomputable def X7_paint (a0 : Nat) (x1 : Int32) (x2 : Int32) (x3 : Int32) (h : AH) : Option (Int32 × AH) :=
(isO 7 (some a0) h).bind fun a => b2 (X7_isBoard a x1 h) fun v5 h6 =>
if v5 = 0 then (X7_paint_34 a0 h6) else ((isO 7 (some a0) h6).bind fun a => b2 (X7_isWord a (Int32.toInt64 x2) h6) fun v7 h8 =>
if v7 = 0 then (X7_paint_34 a0 h8) else ((isO 7 (some a0) h8).bind fun a => b2 (X7_isHand a x3 h8) fun v9 h10 =>
if v9 = 0 then (X7_paint_34 a0 h10) else ((isO 7 (some a0) h10).bind fun a => b2 (X7_canPaint a x2 x3 h10) fun v11 h12 =>
if v11 = 0 then (X7_paint_34 a0 h12) else ((isO 7 (some a0) h12).bind fun a => (X7_keeps a h12).bind fun h13 =>
(isO 7 (some a0) h13).bind fun a => (X7_paints a x1 x2 x3 h13).bind fun h14 =>
some ((1, h14))))))
noncomputable def X7_qKind_76 (a0 : Nat) (s0 : Int32) (h : AH) : Option (Int32 × AH) :=
if s0 = 5 then ((gR 7 86 (some a0) h).bind fun v1 =>
(isO 7 (some a0) h).bind fun a => (X7_asks a v1 h).bind fun h2 =>
some ((s0, h2))) else (some ((s0, h)))
noncomputable def X7_qKind (a0 : Nat) (h : AH) : Option (Int32 × AH) :=
(gR 7 81 (some a0) h).bind fun v3 =>
(isO 7 (some a0) h).bind fun a => b2 (X7_takes a v3 h) fun v4 h5 =>
if v4 = 0 then ((gR 7 82 (some a0) h5).bind fun v6 =>
(isO 7 (some a0) h5).bind fun a => b2 (X7_takes a v6 h5) fun v7 h8 =>
if v7 = 0 then ((gR 7 83 (some a0) h8).bind fun v9 =>
(isO 7 (some a0) h8).bind fun a => b2 (X7_takes a v9 h8) fun v10 h11 =>
if v10 = 0 then ((gR 7 84 (some a0) h11).bind fun v12 =>
(isO 7 (some a0) h11).bind fun a => b2 (X7_takes a v12 h11) fun v13 h14 =>
if v13 = 0 then ((gR 7 85 (some a0) h14).bind fun v15 =>
(isO 7 (some a0) h14).bind fun a => b2 (X7_takes a v15 h14) fun v16 h17 =>
if v16 = 0 then (X7_qKind_76 a0 5 h17) else (X7_qKind_76 a0 4 h17)) else (X7_qKind_76 a0 3 h14)) else (X7_qKind_76 a0 2 h11)) else (X7_qKind_76 a0 1 h8)) else (X7_qKind_76 a0 0 h5)
noncomputable def X7_qTakes_133 (a0 : Nat) (h : AH) : Option (AH) :=
(pZ 7 114 (some a0) 0 h).bind fun h1 =>
some (h1)
noncomputable def X7_qTakes_128 (a0 : Nat) (x2 : Int64) (h : AH) : Option (AH) :=
(pL 7 113 (some a0) x2 h).bind fun h2 =>
X7_qTakes_133 a0 h2
noncomputable def X7_qTakes_90 (a0 : Nat) (x1 : Int32) (x2 : Int64) (h : AH) : Option (AH) :=
if 3 < x1 then ((gI 7 114 (some a0) h).bind fun v3 =>
if v3 = 0 then (if x1 = 4 then ((gL 7 113 (some a0) h).bind fun v5 =>
if 0 < (lg_cmp x2 v5) then (X7_qTakes_128 a0 x2 h) else (X7_qTakes_133 a0 h)) else ((gL 7 113 (some a0) h).bind fun v4 =>
if (lg_cmp x2 v4) < 0 then (X7_qTakes_128 a0 x2 h) else (X7_qTakes_133 a0 h))) else (X7_qTakes_128 a0 x2 h)) else (X7_qTakes_133 a0 h)
noncomputable def X7_qTakes_75 (a0 : Nat) (x1 : Int32) (x2 : Int64) (h : AH) : Option (AH) :=
if x1 = 3 then ((gL 7 113 (some a0) h).bind fun v6 =>
(pL 7 113 (some a0) (v6 + x2) h).bind fun h7 =>
X7_qTakes_90 a0 x1 x2 h7) else (X7_qTakes_90 a0 x1 x2 h)
noncomputable def X7_qTakes_55 (a0 : Nat) (x1 : Int32) (x2 : Int64) (x5 : Int32) (h : AH) : Option (AH) :=
if x1 = 2 then (if x5 = 0 then (X7_qTakes_75 a0 x1 x2 h) else ((gL 7 113 (some a0) h).bind fun v8 =>
(pL 7 113 (some a0) (v8 + 1) h).bind fun h9 =>
X7_qTakes_75 a0 x1 x2 h9)) else (X7_qTakes_75 a0 x1 x2 h)
noncomputable def X7_qTakes_48 (a0 : Nat) (x1 : Int32) (x2 : Int64) (x4 : Int32) (x5 : Int32) (h : AH) : Option (AH) :=
(pL 7 113 (some a0) (Int32.toInt64 x4) h).bind fun h10 =>
X7_qTakes_55 a0 x1 x2 x5 h10
noncomputable def X7_qTakes_38 (a0 : Nat) (x1 : Int32) (x2 : Int64) (x4 : Int32) (x5 : Int32) (h : AH) : Option (AH) :=
if x1 = 1 then (if x5 = 0 then (X7_qTakes_55 a0 x1 x2 x5 h) else (X7_qTakes_48 a0 x1 x2 x4 x5 h)) else (X7_qTakes_55 a0 x1 x2 x5 h)
noncomputable def X7_qTakes_16 (a0 : Nat) (x1 : Int32) (x2 : Int64) (x4 : Int32) (s0 : Int32) (h : AH) : Option (AH) :=
if x1 = 0 then (if s0 = 0 then (X7_qTakes_38 a0 x1 x2 x4 s0 h) else ((gL 7 113 (some a0) h).bind fun v11 =>
if (lg_cmp v11 (-1)) = 0 then (X7_qTakes_48 a0 x1 x2 x4 s0 h) else (X7_qTakes_38 a0 x1 x2 x4 s0 h))) else (X7_qTakes_38 a0 x1 x2 x4 s0 h)
noncomputable def X7_qTakes_15 (a0 : Nat) (x1 : Int32) (x2 : Int64) (x4 : Int32) (h : AH) : Option (AH) :=
X7_qTakes_16 a0 x1 x2 x4 0 h
noncomputable def X7_qTakes (a0 : Nat) (x1 : Int32) (x2 : Int64) (x4 : Int32) (h : AH) : Option (AH) :=
if x1 < 3 then (if (lg_cmp x2 1) = 0 then (X7_qTakes_16 a0 x1 x2 x4 1 h) else (X7_qTakes_15 a0 x1 x2 x4 h)) else (X7_qTakes_15 a0 x1 x2 x4 h)
noncomputable def X7_qOf (a0 : Nat) (x1 : Int32) (x2 : Int64) (x4 : Int32) (h : AH) : Option (Int64 × AH) :=
if x1 = 0 then ((isO 7 (some a0) h).bind fun a => b2 (X7_isWord a x2 h) fun v2 h3 =>
if v2 = 0 then (some (((-1), h3))) else ((gR 7 73 (some a0) h3).bind fun v4 =>
(xI 100 v4 ((8 * x4) + (Int64.toInt32 x2)) h3).bind fun v5 =>
some (((Int32.toInt64 v5), h3)))) else ((isO 7 (some a0) h).bind fun a => b2 (X7_longOf a x4 h) fun v6 h7 =>
b2 (X7_isIn x2 0 (Int32.toInt64 (v6 - 1)) h7) fun v8 h9 =>
if v8 = 0 then (some (((-1), h9))) else ((isO 7 (some a0) h9).bind fun a => b2 (X7_letterOf a x4 (Int64.toInt32 x2) h9) fun v10 h11 =>
some (((Int32.toInt64 v10), h11))))
noncomputable def X7_qTold_168 (a0 : Nat) (h : AH) : Option (Int64 × AH) :=
(gR 7 111 (some a0) h).bind fun v1 =>
(xL 103 v1 0 h).bind fun v2 =>
some ((v2, h))
noncomputable def X7_qTold_7b (a0 : Nat) (x1 : Int32) (x2 : Int32) (h : AH) : Option ((Int32 × AH) ⊕ (Int64 × AH)) :=
(gI 7 106 (some a0) h).bind fun v3 =>
if x2 < v3 then ((gR 7 105 (some a0) h).bind fun v4 =>
(xI 100 v4 x2 h).bind fun v5 =>
if v5 < 1000 then (if v5 < 60 then (if v5 < 40 then (if v5 = 13 then ((isO 7 (some a0) h).bind fun a => (X7_qPuts a 1 h).bind fun h13 =>
some (.inl ((x2 + 1), h13))) else (if v5 = 12 then ((gR 7 111 (some a0) h).bind fun v7 =>
(gI 7 112 (some a0) h).bind fun v8 =>
(gR 7 111 (some a0) h).bind fun v9 =>
(gI 7 112 (some a0) h).bind fun v10 =>
(xL 103 v9 (v10 - 1) h).bind fun v11 =>
(sL 103 v7 (v8 - 1) (1 - v11) h).bind fun h12 =>
some (.inl ((x2 + 1), h12))) else ((isO 7 (some a0) h).bind fun a => (X7_qJoins a v5 h).bind fun h6 =>
some (.inl ((x2 + 1), h6))))) else ((isO 7 (some a0) h).bind fun a => b2 (X7_qPartOf a (v5 - 40) x1 h) fun v14 h15 =>
b2 (X7_qClip v14 h15) fun v16 h17 =>
(isO 7 (some a0) h17).bind fun a => (X7_qPuts a v16 h17).bind fun h18 =>
some (.inl ((x2 + 1), h18)))) else ((gR 7 111 (some a0) h).bind fun v19 =>
(gI 7 112 (some a0) h).bind fun v20 =>
(gR 7 111 (some a0) h).bind fun v21 =>
(gI 7 112 (some a0) h).bind fun v22 =>
(xL 103 v21 (v22 - 1) h).bind fun v23 =>
(isO 7 (some a0) h).bind fun a => b2 (X7_qOf a (v5 - 60) v23 x1 h) fun v24 h25 =>
b2 (X7_qClip v24 h25) fun v26 h27 =>
(sL 103 v19 (v20 - 1) v26 h27).bind fun h28 =>
some (.inl ((x2 + 1), h28)))) else ((isO 7 (some a0) h).bind fun a => (X7_qPuts a (Int32.toInt64 (v5 - 1000)) h).bind fun h29 =>
some (.inl ((x2 + 1), h29)))) else ((X7_qTold_168 a0 h).bind fun o => some (.inr o))
noncomputable def X7_qTold_7 (a0 : Nat) (x1 : Int32) (x2 : Int32) (h : AH) : Option (Int64 × AH) := loopC (fun s : Int32 × AH => X7_qTold_7b a0 x1 s.1 s.2) (x2, h)
noncomputable def X7_qTold (a0 : Nat) (x1 : Int32) (h : AH) : Option (Int64 × AH) :=
(pI 7 112 (some a0) 0 h).bind fun h30 =>
X7_qTold_7 a0 x1 0 h30
noncomputable def X7_ask_177b (a0 : Nat) (x1 : Int32) (x2 : Int32) (x3 : Int32) (h : AH) : Option ((Int32 × AH) ⊕ ((Int32 × AH) ⊕ (Int64 × AH))) :=
(isO 7 (some a0) h).bind fun a => b2 (X7_wordMany a h) fun v1 h2 =>
if x3 < v1 then ((isO 7 (some a0) h2).bind fun a => (X7_laysLine a x2 x3 0 h2).bind fun h3 =>
(gR 7 73 (some a0) h3).bind fun v4 =>
(gR 7 70 (some a0) h3).bind fun v5 =>
(xI 100 v5 0 h3).bind fun v6 =>
(sI 100 v4 ((8 * x2) + x3) v6 h3).bind fun h7 =>
some (.inl ((x3 + 1), h7))) else (some (.inr (.inl ((x2 + 1), h2))))
noncomputable def X7_ask_177 (a0 : Nat) (x1 : Int32) (x2 : Int32) (x3 : Int32) (h : AH) : Option ((Int32 × AH) ⊕ (Int64 × AH)) := loopC (fun s : Int32 × AH => X7_ask_177b a0 x1 x2 s.1 s.2) (x3, h)
noncomputable def X7_ask_253 (a0 : Nat) (h : AH) : Option (Int64 × AH) :=
(gL 7 113 (some a0) h).bind fun v8 =>
some ((v8, h))
noncomputable def X7_ask_228b (a0 : Nat) (x1 : Int32) (x2 : Int32) (h : AH) : Option ((Int32 × AH) ⊕ (Int64 × AH)) :=
(isO 7 (some a0) h).bind fun a => b2 (X7_wordMany a h) fun v9 h10 =>
if x2 < v9 then ((isO 7 (some a0) h10).bind fun a => b2 (X7_qTold a x2 h10) fun v11 h12 =>
(isO 7 (some a0) h12).bind fun a => (X7_qTakes a x1 v11 x2 h12).bind fun h13 =>
some (.inl ((x2 + 1), h13))) else ((X7_ask_253 a0 h10).bind fun o => some (.inr o))
noncomputable def X7_ask_228 (a0 : Nat) (x1 : Int32) (x2 : Int32) (h : AH) : Option (Int64 × AH) := loopC (fun s : Int32 × AH => X7_ask_228b a0 x1 s.1 s.2) (x2, h)
noncomputable def X7_ask_221 (a0 : Nat) (x1 : Int32) (h : AH) : Option (Int64 × AH) :=
(pI 7 56 (some a0) 2 h).bind fun h14 =>
X7_ask_228 a0 x1 0 h14
noncomputable def X7_ask_167b (a0 : Nat) (x1 : Int32) (x2 : Int32) (h : AH) : Option ((Int32 × AH) ⊕ (Int64 × AH)) :=
(isO 7 (some a0) h).bind fun a => b2 (X7_wordMany a h) fun v15 h16 =>
if x2 < v15 then (X7_ask_177 a0 x1 x2 0 h16) else ((X7_ask_221 a0 x1 h16).bind fun o => some (.inr o))
noncomputable def X7_ask_167 (a0 : Nat) (x1 : Int32) (x2 : Int32) (h : AH) : Option (Int64 × AH) := loopC (fun s : Int32 × AH => X7_ask_167b a0 x1 s.1 s.2) (x2, h)
noncomputable def X7_ask_157 (a0 : Nat) (x1 : Int32) (s0 : Option Nat) (s1 : Int64) (h : AH) : Option (Int64 × AH) :=
(pL 7 113 s0 s1 h).bind fun h17 =>
(pZ 7 114 (some a0) 1 h17).bind fun h18 =>
X7_ask_167 a0 x1 0 h18
noncomputable def X7_ask_117 (a0 : Nat) (x1 : Int32) (h : AH) : Option (Int64 × AH) :=
(gI 7 5 (some a0) h).bind fun v19 =>
(pI 7 7 (some a0) v19 h).bind fun h20 =>
(gI 7 6 (some a0) h20).bind fun v21 =>
(pI 7 8 (some a0) v21 h20).bind fun h22 =>
(gI 7 5 (some a0) h22).bind fun v23 =>
if v23 = 0 then (if x1 < 2 then (X7_ask_157 a0 x1 (some a0) (-1) h22) else (X7_ask_157 a0 x1 (some a0) 0 h22)) else (some (((-1000000000000000), h22)))
noncomputable def X7_ask_93 (a0 : Nat) (x1 : Int32) (h : AH) : Option (Int64 × AH) :=
(gI 7 5 (some a0) h).bind fun v24 =>
if v24 = 0 then ((isO 7 (some a0) h).bind fun a => b2 (X7_look a h) fun v25 h26 =>
if v25 = (-1) then (X7_ask_117 a0 x1 h26) else ((gI 7 2 (some a0) h26).bind fun v27 =>
(isO 7 (some a0) h26).bind fun a => (X7_fail a 1 v27 h26).bind fun h28 =>
X7_ask_117 a0 x1 h28)) else (X7_ask_117 a0 x1 h)
noncomputable def X7_ask_82 (a0 : Nat) (x1 : Int32) (h : AH) : Option (Int64 × AH) :=
(gI 7 5 (some a0) h).bind fun v29 =>
if v29 = 0 then ((isO 7 (some a0) h).bind fun a => (X7_qSums a h).bind fun h30 =>
X7_ask_93 a0 x1 h30) else (X7_ask_93 a0 x1 h)
noncomputable def X7_ask (a0 : Nat) (h : AH) : Option (Int64 × AH) :=
(gI 7 1 (some a0) h).bind fun v31 =>
(pI 7 3 (some a0) v31 h).bind fun h32 =>
(pI 7 1 (some a0) 0 h32).bind fun h33 =>
(pI 7 2 (some a0) 0 h33).bind fun h34 =>
(pI 7 4 (some a0) (-1) h34).bind fun h35 =>
(pI 7 5 (some a0) 0 h35).bind fun h36 =>
(pI 7 6 (some a0) (-1) h36).bind fun h37 =>
(pI 7 56 (some a0) 2 h37).bind fun h38 =>
(pI 7 106 (some a0) 0 h38).bind fun h39 =>
(pI 7 108 (some a0) 0 h39).bind fun h40 =>
(pI 7 109 (some a0) 0 h40).bind fun h41 =>
(pI 7 110 (some a0) 0 h41).bind fun h42 =>
(isO 7 (some a0) h42).bind fun a => b2 (X7_qKind a h42) fun v43 h44 =>
(gI 7 5 (some a0) h44).bind fun v45 =>
if v45 = 0 then (if v43 < 3 then ((isO 7 (some a0) h44).bind fun a => (X7_qTest a h44).bind fun h46 =>
X7_ask_93 a0 v43 h46) else (X7_ask_82 a0 v43 h44)) else (X7_ask_82 a0 v43 h44)
noncomputable def X7_checked_6b (x0 : Option Nat) (x1 : Int32) (x2 : Int32) (x3 : Int32) (h : AH) : Option ((Int32 × Int32 × AH) ⊕ (Int32 × AH)) :=
if x3 < x1 then ((xI 100 x0 x3 h).bind fun v1 =>
(nz 251).bind fun _ =>
some (.inl ((jrem ((3 * x2) + v1) 251), (x3 + 1), h))) else (some (.inr ((x2, h))))
noncomputable def X7_checked_6 (x0 : Option Nat) (x1 : Int32) (x2 : Int32) (x3 : Int32) (h : AH) : Option (Int32 × AH) := loopC (fun s : Int32 × Int32 × AH => X7_checked_6b x0 x1 s.1 s.2.1 s.2.2) (x2, x3, h)
noncomputable def X7_checked (x0 : Option Nat) (x1 : Int32) (h : AH) : Option (Int32 × AH) :=
X7_checked_6 x0 x1 223 0 h
noncomputable def X7_writes (a0 : Nat) (x1 : Int32) (h : AH) : Option (AH) :=
(gR 7 115 (some a0) h).bind fun v1 =>
(gI 7 116 (some a0) h).bind fun v2 =>
(sI 100 v1 v2 x1 h).bind fun h3 =>
(gI 7 116 (some a0) h3).bind fun v4 =>
(pI 7 116 (some a0) (v4 + 1) h3).bind fun h5 =>
some (h5)
noncomputable def X7_writesTwo (a0 : Nat) (x1 : Int32) (h : AH) : Option (AH) :=
(nz 256).bind fun _ =>
(isO 7 (some a0) h).bind fun a => (X7_writes a (x1 / 256) h).bind fun h1 =>
(nz 256).bind fun _ =>
(isO 7 (some a0) h1).bind fun a => (X7_writes a (jrem x1 256) h1).bind fun h2 =>
some (h2)
noncomputable def X7_image_45b (a0 : Nat) (x1 : Int32) (x2 : Int32) (h : AH) : Option ((Int32 × AH) ⊕ ((Int32 × AH) ⊕ (Int32 × AH))) :=
if x2 < 6 then ((isO 7 (some a0) h).bind fun a => b2 (X7_glyphAt a x1 x2 h) fun v1 h2 =>
(isO 7 (some a0) h2).bind fun a => (X7_writesTwo a v1 h2).bind fun h3 =>
some (.inl ((x2 + 1), h3))) else (some (.inr (.inl ((x1 + 1), h))))
noncomputable def X7_image_45 (a0 : Nat) (x1 : Int32) (x2 : Int32) (h : AH) : Option ((Int32 × AH) ⊕ (Int32 × AH)) := loopC (fun s : Int32 × AH => X7_image_45b a0 x1 s.1 s.2) (x2, h)
noncomputable def X7_image_73 (a0 : Nat) (h : AH) : Option (Int32 × AH) :=
(gR 7 115 (some a0) h).bind fun v4 =>
(gI 7 116 (some a0) h).bind fun v5 =>
b2 (X7_checked v4 v5 h) fun v6 h7 =>
(isO 7 (some a0) h7).bind fun a => (X7_writes a v6 h7).bind fun h8 =>
(gI 7 116 (some a0) h8).bind fun v9 =>
some ((v9, h8))
noncomputable def X7_image_17b (a0 : Nat) (x1 : Int32) (h : AH) : Option ((Int32 × AH) ⊕ (Int32 × AH)) :=
(isO 7 (some a0) h).bind fun a => b2 (X7_boardMany a h) fun v10 h11 =>
if x1 < v10 then ((isO 7 (some a0) h11).bind fun a => b2 (X7_wordOf a x1 h11) fun v12 h13 =>
(isO 7 (some a0) h13).bind fun a => (X7_writes a v12 h13).bind fun h14 =>
(isO 7 (some a0) h14).bind fun a => b2 (X7_handOf a x1 h14) fun v15 h16 =>
(isO 7 (some a0) h16).bind fun a => (X7_writes a v15 h16).bind fun h17 =>
X7_image_45 a0 x1 0 h17) else ((X7_image_73 a0 h11).bind fun o => some (.inr o))
noncomputable def X7_image_17 (a0 : Nat) (x1 : Int32) (h : AH) : Option (Int32 × AH) := loopC (fun s : Int32 × AH => X7_image_17b a0 s.1 s.2) (x1, h)
noncomputable def X7_image (a0 : Nat) (h : AH) : Option (Int32 × AH) :=
(pI 7 116 (some a0) 0 h).bind fun h18 =>
(gR 7 57 (some a0) h18).bind fun v19 =>
(xI 100 v19 0 h18).bind fun v20 =>
(isO 7 (some a0) h18).bind fun a => (X7_writesTwo a v20 h18).bind fun h21 =>
X7_image_17 a0 0 h21
noncomputable def X7_octet (a0 : Nat) (x1 : Int32) (h : AH) : Option (Int32 × AH) :=
if x1 < 0 then (some (((-1), h))) else ((gI 7 116 (some a0) h).bind fun v1 =>
if x1 < v1 then ((gR 7 115 (some a0) h).bind fun v2 =>
(xI 100 v2 x1 h).bind fun v3 =>
some ((v3, h))) else (some (((-1), h))))
noncomputable def X7_twoAt (a0 : Nat) (x1 : Int32) (h : AH) : Option (Int32 × AH) :=
(gR 7 0 (some a0) h).bind fun v1 =>
(xI 100 v1 x1 h).bind fun v2 =>
(gR 7 0 (some a0) h).bind fun v3 =>
(xI 100 v3 (x1 + 1) h).bind fun v4 =>
some ((((256 * v2) + v4), h))
noncomputable def X7_isBoardTold_84 (a0 : Nat) (x1 : Int32) (x2 : Int32) (x3 : Int32) (s0 : Int32) (s1 : Int32) (h : AH) : Option ((Int32 × AH) ⊕ (Int32 × AH)) :=
if s1 < s0 then (some (.inr ((0, h)))) else (some (.inl ((x3 + 1), h)))
noncomputable def X7_isBoardTold_51b (a0 : Nat) (x1 : Int32) (x2 : Int32) (x3 : Int32) (h : AH) : Option ((Int32 × AH) ⊕ (Int32 × AH)) :=
if x3 < 6 then ((isO 7 (some a0) h).bind fun a => b2 (X7_twoAt a ((x1 + 2) + (2 * x3)) h) fun v1 h2 =>
(isO 7 (some a0) h2).bind fun a => b2 (X7_longOf a x2 h2) fun v3 h4 =>
if x3 < v3 then (X7_isBoardTold_84 a0 x1 x2 x3 v1 32767 h4) else (X7_isBoardTold_84 a0 x1 x2 x3 v1 0 h4)) else (some (.inr ((1, h))))
noncomputable def X7_isBoardTold_51 (a0 : Nat) (x1 : Int32) (x2 : Int32) (x3 : Int32) (h : AH) : Option (Int32 × AH) := loopC (fun s : Int32 × AH => X7_isBoardTold_51b a0 x1 x2 s.1 s.2) (x3, h)
noncomputable def X7_isBoardTold (a0 : Nat) (x1 : Int32) (h : AH) : Option (Int32 × AH) :=
(gR 7 0 (some a0) h).bind fun v5 =>
(xI 100 v5 x1 h).bind fun v6 =>
(isO 7 (some a0) h).bind fun a => b2 (X7_isWord a (Int32.toInt64 v6) h) fun v7 h8 =>
if v7 = 0 then (some ((0, h8))) else ((gR 7 0 (some a0) h8).bind fun v9 =>
(xI 100 v9 (x1 + 1) h8).bind fun v10 =>
(isO 7 (some a0) h8).bind fun a => b2 (X7_isHand a v10 h8) fun v11 h12 =>
if v11 = 0 then (some ((0, h12))) else ((gR 7 0 (some a0) h12).bind fun v13 =>
(xI 100 v13 (x1 + 1) h12).bind fun v14 =>
(isO 7 (some a0) h12).bind fun a => b2 (X7_canPaint a v6 v14 h12) fun v15 h16 =>
if v15 = 0 then (some ((0, h16))) else (X7_isBoardTold_51 a0 x1 v6 0 h16)))
noncomputable def X7_isImage_49b (a0 : Nat) (x2 : Int32) (h : AH) : Option ((Int32 × AH) ⊕ (Int32 × AH)) :=
(isO 7 (some a0) h).bind fun a => b2 (X7_boardMany a h) fun v1 h2 =>
if x2 < v1 then ((isO 7 (some a0) h2).bind fun a => b2 (X7_isBoardTold a (2 + (14 * x2)) h2) fun v3 h4 =>
if v3 = 0 then (some (.inr ((0, h4)))) else (some (.inl ((x2 + 1), h4)))) else (some (.inr ((1, h2))))
noncomputable def X7_isImage_49 (a0 : Nat) (x2 : Int32) (h : AH) : Option (Int32 × AH) := loopC (fun s : Int32 × AH => X7_isImage_49b a0 s.1 s.2) (x2, h)
noncomputable def X7_isImage (a0 : Nat) (x1 : Int32) (h : AH) : Option (Int32 × AH) :=
(isO 7 (some a0) h).bind fun a => b2 (X7_boardMany a h) fun v5 h6 =>
if x1 = (3 + (14 * v5)) then ((gR 7 0 (some a0) h6).bind fun v7 =>
(xI 100 v7 (x1 - 1) h6).bind fun v8 =>
(gR 7 0 (some a0) h6).bind fun v9 =>
b2 (X7_checked v9 (x1 - 1) h6) fun v10 h11 =>
if v8 = v10 then ((isO 7 (some a0) h11).bind fun a => b2 (X7_twoAt a 0 h11) fun v12 h13 =>
if 999 < v12 then (some ((0, h13))) else (X7_isImage_49 a0 0 h13)) else (some ((0, h11)))) else (some ((0, h6)))
noncomputable def X7_on_97b (a0 : Nat) (x2 : Int32) (x3 : Int32) (h : AH) : Option ((Int32 × AH) ⊕ ((Int32 × AH) ⊕ (Int32 × AH))) :=
if x3 < 6 then ((gR 7 57 (some a0) h).bind fun v1 =>
(isO 7 (some a0) h).bind fun a => b2 (X7_twoAt a ((4 + (14 * x2)) + (2 * x3)) h) fun v2 h3 =>
(sI 100 v1 ((3 + (8 * x2)) + x3) v2 h3).bind fun h4 =>
some (.inl ((x3 + 1), h4))) else (some (.inr (.inl ((x2 + 1), h))))
noncomputable def X7_on_97 (a0 : Nat) (x2 : Int32) (x3 : Int32) (h : AH) : Option ((Int32 × AH) ⊕ (Int32 × AH)) := loopC (fun s : Int32 × AH => X7_on_97b a0 x2 s.1 s.2) (x3, h)
noncomputable def X7_on_142 (a0 : Nat) (h : AH) : Option (Int32 × AH) :=
(gR 7 57 (some a0) h).bind fun v5 =>
(sI 100 v5 33 0 h).bind fun h6 =>
(pI 7 78 (some a0) 0 h6).bind fun h7 =>
some ((1, h7))
noncomputable def X7_on_43b (a0 : Nat) (x2 : Int32) (h : AH) : Option ((Int32 × AH) ⊕ (Int32 × AH)) :=
(isO 7 (some a0) h).bind fun a => b2 (X7_boardMany a h) fun v8 h9 =>
if x2 < v8 then ((gR 7 57 (some a0) h9).bind fun v10 =>
(gR 7 0 (some a0) h9).bind fun v11 =>
(xI 100 v11 (2 + (14 * x2)) h9).bind fun v12 =>
(sI 100 v10 (1 + (8 * x2)) v12 h9).bind fun h13 =>
(gR 7 57 (some a0) h13).bind fun v14 =>
(gR 7 0 (some a0) h13).bind fun v15 =>
(xI 100 v15 (3 + (14 * x2)) h13).bind fun v16 =>
(sI 100 v14 (2 + (8 * x2)) v16 h13).bind fun h17 =>
X7_on_97 a0 x2 0 h17) else ((X7_on_142 a0 h9).bind fun o => some (.inr o))
noncomputable def X7_on_43 (a0 : Nat) (x2 : Int32) (h : AH) : Option (Int32 × AH) := loopC (fun s : Int32 × AH => X7_on_43b a0 s.1 s.2) (x2, h)
noncomputable def X7_on (a0 : Nat) (h : AH) : Option (Int32 × AH) :=
(gI 7 1 (some a0) h).bind fun v18 =>
(pI 7 1 (some a0) 0 h).bind fun h19 =>
(isO 7 (some a0) h19).bind fun a => b2 (X7_isImage a v18 h19) fun v20 h21 =>
if v20 = 0 then ((gR 7 9 (some a0) h21).bind fun v26 =>
(xI 100 v26 5 h21).bind fun v27 =>
(sI 100 v26 5 (v27 + 1) h21).bind fun h28 =>
some ((0, h28))) else ((gR 7 57 (some a0) h21).bind fun v22 =>
(isO 7 (some a0) h21).bind fun a => b2 (X7_twoAt a 0 h21) fun v23 h24 =>
(sI 100 v22 0 v23 h24).bind fun h25 =>
X7_on_43 a0 0 h25)
noncomputable def X7_status (a0 : Nat) (x1 : Int32) (h : AH) : Option (Int32 × AH) :=
b2 (X7_isIn (Int32.toInt64 x1) 0 5 h) fun v1 h2 =>
if v1 = 0 then (some (((-1), h2))) else ((gR 7 9 (some a0) h2).bind fun v3 =>
(xI 100 v3 x1 h2).bind fun v4 =>
some ((v4, h2)))
