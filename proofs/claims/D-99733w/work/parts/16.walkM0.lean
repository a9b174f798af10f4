set_option maxRecDepth 100000
theorem fl_X7_7 : FL RX7 7 7 0 := ⟨(RX7, TX7, 117), cf_7, by decide, q1805⟩
theorem fl_X7_13 : FL RX7 13 7 8 := ⟨(RX7, TX7, 117), cf_7, by decide, q1813⟩
theorem fl_X7_17 : FL RX7 17 7 9 := ⟨(RX7, TX7, 117), cf_7, by decide, q1814⟩
theorem fl_X7_20 : FL RX7 20 7 11 := ⟨(RX7, TX7, 117), cf_7, by decide, q1816⟩
theorem fl_X7_24 : FL RX7 24 7 12 := ⟨(RX7, TX7, 117), cf_7, by decide, q1817⟩
theorem fl_X7_27 : FL RX7 27 7 13 := ⟨(RX7, TX7, 117), cf_7, by decide, q1818⟩
theorem fl_X7_30 : FL RX7 30 7 14 := ⟨(RX7, TX7, 117), cf_7, by decide, q1819⟩
theorem fl_X7_33 : FL RX7 33 7 15 := ⟨(RX7, TX7, 117), cf_7, by decide, q1820⟩
theorem fl_X7_36 : FL RX7 36 7 16 := ⟨(RX7, TX7, 117), cf_7, by decide, q1821⟩
theorem fl_X7_39 : FL RX7 39 7 17 := ⟨(RX7, TX7, 117), cf_7, by decide, q1822⟩
theorem fl_X7_42 : FL RX7 42 7 18 := ⟨(RX7, TX7, 117), cf_7, by decide, q1823⟩
theorem fl_X7_45 : FL RX7 45 7 19 := ⟨(RX7, TX7, 117), cf_7, by decide, q1824⟩
theorem fl_X7_48 : FL RX7 48 7 20 := ⟨(RX7, TX7, 117), cf_7, by decide, q1825⟩
theorem fl_X7_51 : FL RX7 51 7 21 := ⟨(RX7, TX7, 117), cf_7, by decide, q1826⟩
theorem fl_X7_54 : FL RX7 54 7 22 := ⟨(RX7, TX7, 117), cf_7, by decide, q1827⟩
theorem fl_X7_57 : FL RX7 57 7 23 := ⟨(RX7, TX7, 117), cf_7, by decide, q1828⟩
theorem fl_X7_60 : FL RX7 60 7 24 := ⟨(RX7, TX7, 117), cf_7, by decide, q1829⟩
theorem fl_X7_63 : FL RX7 63 7 25 := ⟨(RX7, TX7, 117), cf_7, by decide, q1830⟩
theorem fl_X7_66 : FL RX7 66 7 26 := ⟨(RX7, TX7, 117), cf_7, by decide, q1831⟩
theorem fl_X7_69 : FL RX7 69 7 27 := ⟨(RX7, TX7, 117), cf_7, by decide, q1832⟩
theorem fl_X7_72 : FL RX7 72 7 28 := ⟨(RX7, TX7, 117), cf_7, by decide, q1833⟩
theorem fl_X7_75 : FL RX7 75 7 29 := ⟨(RX7, TX7, 117), cf_7, by decide, q1834⟩
theorem fl_X7_78 : FL RX7 78 7 30 := ⟨(RX7, TX7, 117), cf_7, by decide, q1835⟩
theorem fl_X7_81 : FL RX7 81 7 31 := ⟨(RX7, TX7, 117), cf_7, by decide, q1836⟩
theorem fl_X7_84 : FL RX7 84 7 32 := ⟨(RX7, TX7, 117), cf_7, by decide, q1837⟩
theorem fl_X7_87 : FL RX7 87 7 33 := ⟨(RX7, TX7, 117), cf_7, by decide, q1838⟩
theorem fl_X7_90 : FL RX7 90 7 34 := ⟨(RX7, TX7, 117), cf_7, by decide, q1839⟩
theorem fl_X7_93 : FL RX7 93 7 35 := ⟨(RX7, TX7, 117), cf_7, by decide, q1840⟩
theorem fl_X7_96 : FL RX7 96 7 36 := ⟨(RX7, TX7, 117), cf_7, by decide, q1841⟩
theorem fl_X7_99 : FL RX7 99 7 37 := ⟨(RX7, TX7, 117), cf_7, by decide, q1842⟩
theorem fl_X7_102 : FL RX7 102 7 38 := ⟨(RX7, TX7, 117), cf_7, by decide, q1843⟩
theorem fl_X7_105 : FL RX7 105 7 41 := ⟨(RX7, TX7, 117), cf_7, by decide, q1846⟩
theorem fl_X7_108 : FL RX7 108 7 42 := ⟨(RX7, TX7, 117), cf_7, by decide, q1847⟩
theorem fl_X7_111 : FL RX7 111 7 43 := ⟨(RX7, TX7, 117), cf_7, by decide, q1848⟩
theorem fl_X7_114 : FL RX7 114 7 46 := ⟨(RX7, TX7, 117), cf_7, by decide, q1851⟩
theorem fl_X7_117 : FL RX7 117 7 49 := ⟨(RX7, TX7, 117), cf_7, by decide, q1854⟩
theorem fl_X7_120 : FL RX7 120 7 50 := ⟨(RX7, TX7, 117), cf_7, by decide, q1855⟩
theorem fl_X7_123 : FL RX7 123 7 51 := ⟨(RX7, TX7, 117), cf_7, by decide, q1856⟩
theorem fl_X7_126 : FL RX7 126 7 52 := ⟨(RX7, TX7, 117), cf_7, by decide, q1857⟩
theorem fl_X7_129 : FL RX7 129 7 53 := ⟨(RX7, TX7, 117), cf_7, by decide, q1858⟩
theorem fl_X7_132 : FL RX7 132 7 57 := ⟨(RX7, TX7, 117), cf_7, by decide, q1862⟩
theorem fl_X7_135 : FL RX7 135 7 58 := ⟨(RX7, TX7, 117), cf_7, by decide, q1863⟩
theorem fl_X7_138 : FL RX7 138 7 68 := ⟨(RX7, TX7, 117), cf_7, by decide, q1873⟩
theorem fl_X7_141 : FL RX7 141 7 69 := ⟨(RX7, TX7, 117), cf_7, by decide, q1874⟩
theorem fl_X7_144 : FL RX7 144 7 70 := ⟨(RX7, TX7, 117), cf_7, by decide, q1875⟩
theorem fl_X7_147 : FL RX7 147 7 71 := ⟨(RX7, TX7, 117), cf_7, by decide, q1876⟩
theorem fl_X7_150 : FL RX7 150 7 72 := ⟨(RX7, TX7, 117), cf_7, by decide, q1877⟩
theorem fl_X7_153 : FL RX7 153 7 73 := ⟨(RX7, TX7, 117), cf_7, by decide, q1878⟩
theorem fl_X7_156 : FL RX7 156 7 75 := ⟨(RX7, TX7, 117), cf_7, by decide, q1880⟩
theorem fl_X7_159 : FL RX7 159 7 76 := ⟨(RX7, TX7, 117), cf_7, by decide, q1881⟩
theorem fl_X7_162 : FL RX7 162 7 77 := ⟨(RX7, TX7, 117), cf_7, by decide, q1882⟩
theorem fl_X7_165 : FL RX7 165 7 80 := ⟨(RX7, TX7, 117), cf_7, by decide, q1885⟩
theorem fl_X7_169 : FL RX7 169 7 81 := ⟨(RX7, TX7, 117), cf_7, by decide, q1886⟩
theorem fl_X7_172 : FL RX7 172 7 82 := ⟨(RX7, TX7, 117), cf_7, by decide, q1887⟩
theorem fl_X7_175 : FL RX7 175 7 83 := ⟨(RX7, TX7, 117), cf_7, by decide, q1888⟩
theorem fl_X7_178 : FL RX7 178 7 84 := ⟨(RX7, TX7, 117), cf_7, by decide, q1889⟩
theorem fl_X7_181 : FL RX7 181 7 85 := ⟨(RX7, TX7, 117), cf_7, by decide, q1890⟩
theorem fl_X7_184 : FL RX7 184 7 86 := ⟨(RX7, TX7, 117), cf_7, by decide, q1891⟩
theorem fl_X7_187 : FL RX7 187 7 87 := ⟨(RX7, TX7, 117), cf_7, by decide, q1892⟩
theorem fl_X7_190 : FL RX7 190 7 88 := ⟨(RX7, TX7, 117), cf_7, by decide, q1893⟩
theorem fl_X7_193 : FL RX7 193 7 89 := ⟨(RX7, TX7, 117), cf_7, by decide, q1894⟩
theorem fl_X7_196 : FL RX7 196 7 90 := ⟨(RX7, TX7, 117), cf_7, by decide, q1895⟩
theorem fl_X7_199 : FL RX7 199 7 91 := ⟨(RX7, TX7, 117), cf_7, by decide, q1896⟩
theorem fl_X7_202 : FL RX7 202 7 92 := ⟨(RX7, TX7, 117), cf_7, by decide, q1897⟩
theorem fl_X7_205 : FL RX7 205 7 93 := ⟨(RX7, TX7, 117), cf_7, by decide, q1898⟩
theorem fl_X7_208 : FL RX7 208 7 94 := ⟨(RX7, TX7, 117), cf_7, by decide, q1899⟩
theorem fl_X7_211 : FL RX7 211 7 95 := ⟨(RX7, TX7, 117), cf_7, by decide, q1900⟩
theorem fl_X7_214 : FL RX7 214 7 96 := ⟨(RX7, TX7, 117), cf_7, by decide, q1901⟩
theorem fl_X7_217 : FL RX7 217 7 97 := ⟨(RX7, TX7, 117), cf_7, by decide, q1902⟩
theorem fl_X7_220 : FL RX7 220 7 98 := ⟨(RX7, TX7, 117), cf_7, by decide, q1903⟩
theorem fl_X7_223 : FL RX7 223 7 99 := ⟨(RX7, TX7, 117), cf_7, by decide, q1904⟩
theorem fl_X7_226 : FL RX7 226 7 100 := ⟨(RX7, TX7, 117), cf_7, by decide, q1905⟩
theorem fl_X7_229 : FL RX7 229 7 101 := ⟨(RX7, TX7, 117), cf_7, by decide, q1906⟩
theorem fl_X7_232 : FL RX7 232 7 102 := ⟨(RX7, TX7, 117), cf_7, by decide, q1907⟩
theorem fl_X7_235 : FL RX7 235 7 103 := ⟨(RX7, TX7, 117), cf_7, by decide, q1908⟩
theorem fl_X7_238 : FL RX7 238 7 104 := ⟨(RX7, TX7, 117), cf_7, by decide, q1909⟩
theorem fl_X7_241 : FL RX7 241 7 105 := ⟨(RX7, TX7, 117), cf_7, by decide, q1910⟩
theorem fl_X7_244 : FL RX7 244 7 107 := ⟨(RX7, TX7, 117), cf_7, by decide, q1912⟩
theorem fl_X7_247 : FL RX7 247 7 111 := ⟨(RX7, TX7, 117), cf_7, by decide, q1916⟩
theorem fl_X7_251 : FL RX7 251 7 115 := ⟨(RX7, TX7, 117), cf_7, by decide, q1920⟩
theorem fl_X7_254 : FL RX7 254 7 1 := ⟨(RX7, TX7, 117), cf_7, by decide, q1806⟩
theorem fl_X7_263 : FL RX7 263 7 2 := ⟨(RX7, TX7, 117), cf_7, by decide, q1807⟩
theorem fl_X7_266 : FL RX7 266 7 3 := ⟨(RX7, TX7, 117), cf_7, by decide, q1808⟩
theorem fl_X7_402 : FL RX7 402 7 78 := ⟨(RX7, TX7, 117), cf_7, by decide, q1883⟩
theorem fl_X7_395 : FL RX7 395 7 48 := ⟨(RX7, TX7, 117), cf_7, by decide, q1853⟩
theorem fl_X7_362 : FL RX7 362 7 54 := ⟨(RX7, TX7, 117), cf_7, by decide, q1859⟩
theorem fl_X7_341 : FL RX7 341 7 47 := ⟨(RX7, TX7, 117), cf_7, by decide, q1852⟩
theorem fl_X7_335 : FL RX7 335 7 44 := ⟨(RX7, TX7, 117), cf_7, by decide, q1849⟩
theorem fl_X7_392 : FL RX7 392 7 45 := ⟨(RX7, TX7, 117), cf_7, by decide, q1850⟩
theorem fl_X7_257 : FL RX7 257 7 5 := ⟨(RX7, TX7, 117), cf_7, by decide, q1810⟩
theorem fl_X7_260 : FL RX7 260 7 6 := ⟨(RX7, TX7, 117), cf_7, by decide, q1811⟩
theorem fl_X7_277 : FL RX7 277 7 4 := ⟨(RX7, TX7, 117), cf_7, by decide, q1809⟩
theorem fl_X7_304 : FL RX7 304 7 40 := ⟨(RX7, TX7, 117), cf_7, by decide, q1845⟩
theorem fl_X7_311 : FL RX7 311 7 39 := ⟨(RX7, TX7, 117), cf_7, by decide, q1844⟩
theorem fl_X7_297 : FL RX7 297 7 10 := ⟨(RX7, TX7, 117), cf_7, by decide, q1815⟩
theorem fl_X7_344 : FL RX7 344 7 106 := ⟨(RX7, TX7, 117), cf_7, by decide, q1911⟩
theorem fl_X7_347 : FL RX7 347 7 108 := ⟨(RX7, TX7, 117), cf_7, by decide, q1913⟩
theorem fl_X7_353 : FL RX7 353 7 110 := ⟨(RX7, TX7, 117), cf_7, by decide, q1915⟩
theorem fl_X7_350 : FL RX7 350 7 109 := ⟨(RX7, TX7, 117), cf_7, by decide, q1914⟩
theorem fl_X7_314 : FL RX7 314 7 56 := ⟨(RX7, TX7, 117), cf_7, by decide, q1861⟩
theorem fl_X7_365 : FL RX7 365 7 55 := ⟨(RX7, TX7, 117), cf_7, by decide, q1860⟩
theorem fl_X7_386 : FL RX7 386 7 7 := ⟨(RX7, TX7, 117), cf_7, by decide, q1812⟩
theorem fl_X7_435 : FL RX7 435 7 112 := ⟨(RX7, TX7, 117), cf_7, by decide, q1917⟩
theorem fl_X7_449 : FL RX7 449 7 59 := ⟨(RX7, TX7, 117), cf_7, by decide, q1864⟩
theorem fl_X7_452 : FL RX7 452 7 60 := ⟨(RX7, TX7, 117), cf_7, by decide, q1865⟩
theorem fl_X7_455 : FL RX7 455 7 61 := ⟨(RX7, TX7, 117), cf_7, by decide, q1866⟩
theorem fl_X7_471 : FL RX7 471 7 62 := ⟨(RX7, TX7, 117), cf_7, by decide, q1867⟩
theorem fl_X7_468 : FL RX7 468 7 63 := ⟨(RX7, TX7, 117), cf_7, by decide, q1868⟩
theorem fl_X7_474 : FL RX7 474 7 64 := ⟨(RX7, TX7, 117), cf_7, by decide, q1869⟩
theorem fl_X7_480 : FL RX7 480 7 65 := ⟨(RX7, TX7, 117), cf_7, by decide, q1870⟩
theorem fl_X7_505 : FL RX7 505 7 66 := ⟨(RX7, TX7, 117), cf_7, by decide, q1871⟩
theorem fl_X7_493 : FL RX7 493 7 67 := ⟨(RX7, TX7, 117), cf_7, by decide, q1872⟩
theorem fl_X7_577 : FL RX7 577 7 74 := ⟨(RX7, TX7, 117), cf_7, by decide, q1879⟩
theorem fl_X7_596 : FL RX7 596 7 79 := ⟨(RX7, TX7, 117), cf_7, by decide, q1884⟩
theorem fl_X7_702 : FL RX7 702 7 114 := ⟨(RX7, TX7, 117), cf_7, by decide, q1919⟩
theorem fl_X7_699 : FL RX7 699 7 113 := ⟨(RX7, TX7, 117), cf_7, by decide, q1918⟩
theorem fl_X7_715 : FL RX7 715 7 116 := ⟨(RX7, TX7, 117), cf_7, by decide, q1921⟩
theorem cw_X7_init : CW yX7_init cX7_init 1 none 0 := ⟨q1803, q185, ⟨by decide, by decide⟩, by decide +kernel, by decide⟩
theorem W_X7_init {G : GT} {X : CX} {d : Nat} {h0 : AH} {Q : State → Prop} (ok : Ok G X RX7 cX7_init 1 d h0) (hr : (cxm X).sig.returnType = none) (hd : 1 ≤ d) (hnm : (cxm X).name = "<init>") {a0 : Nat} {h : AH} {z : (AH)} (hf : X7_init a0 h = some z) (hk : Q = QM G X h0 none z) {lv : List (Nat × AV)} (hl : lle lv [(0, vr (some a0))]) : V G X 1 h0 Q h 0 lv [] := by
  refine V.sub hl ?_
  unfold X7_init at hf
  refine v_aload_n ok 0 dX7_init_0 rfl rfl ?_
  refine v_objInit ok q1804 q215 q216 (by omega) (Nat.le_of_ble_eq_true rfl) dX7_init_1 hf (fun _ hf => ?_)
  refine v_aload_n ok 0 dX7_init_4 rfl rfl ?_
  refine v_sipush ok 1600 dX7_init_5 rfl ?_
  refine v_newarr ok (t := 100) (atype := .int) (by decide) (by decide) rfl q539 (fun _ _ _ _ e1 e2 => by first | exact congrArg Value.int e1.symm | exact congrArg Value.long e2.symm) (by decide) dX7_init_8 hf (fun v2 h3 hf => ?_)
  refine v_pR ok fl_X7_7 (by first | exact Or.inl ⟨_, rfl⟩ | exact Or.inr ⟨_, rfl⟩) (FN.ini cf_7.1 rfl hnm rfl) dX7_init_10 hf (fun h4 hf => ?_)
  refine v_aload_n ok 0 dX7_init_13 rfl rfl ?_
  refine v_iconst ok (-1) dX7_init_14 rfl ?_
  refine v_pI ok fl_X7_13 ⟨fun _ _ _ => rfl, rfl⟩ (FN.of cf_7.1 rfl) dX7_init_15 hf (fun h5 hf => ?_)
  refine v_aload_n ok 0 dX7_init_18 rfl rfl ?_
  refine v_bipush ok 6 dX7_init_19 rfl ?_
  refine v_newarr ok (t := 100) (atype := .int) (by decide) (by decide) rfl q539 (fun _ _ _ _ e1 e2 => by first | exact congrArg Value.int e1.symm | exact congrArg Value.long e2.symm) (by decide) dX7_init_21 hf (fun v6 h7 hf => ?_)
  refine v_pR ok fl_X7_17 (by first | exact Or.inl ⟨_, rfl⟩ | exact Or.inr ⟨_, rfl⟩) (FN.ini cf_7.1 rfl hnm rfl) dX7_init_23 hf (fun h8 hf => ?_)
  refine v_aload_n ok 0 dX7_init_26 rfl rfl ?_
  refine v_bipush ok 6 dX7_init_27 rfl ?_
  refine v_newarr ok (t := 102) (atype := .char) (by decide) (by decide) rfl q779 (fun _ _ _ _ e1 e2 => by first | exact congrArg Value.int e1.symm | exact congrArg Value.long e2.symm) (by decide) dX7_init_29 hf (fun v9 h10 hf => ?_)
  refine v_dup ok dX7_init_31 rfl ?_
  refine v_iconst ok 0 dX7_init_32 rfl ?_
  refine v_bipush ok 108 dX7_init_33 rfl ?_
  refine v_cast ok rfl dX7_init_35 hf (fun h11 hf => ?_)
  refine v_dup ok dX7_init_36 rfl ?_
  refine v_iconst ok 1 dX7_init_37 rfl ?_
  refine v_bipush ok 101 dX7_init_38 rfl ?_
  refine v_cast ok rfl dX7_init_40 hf (fun h12 hf => ?_)
  refine v_dup ok dX7_init_41 rfl ?_
  refine v_iconst ok 2 dX7_init_42 rfl ?_
  refine v_bipush ok 116 dX7_init_43 rfl ?_
  refine v_cast ok rfl dX7_init_45 hf (fun h13 hf => ?_)
  refine v_dup ok dX7_init_46 rfl ?_
  refine v_iconst ok 3 dX7_init_47 rfl ?_
  refine v_bipush ok 116 dX7_init_48 rfl ?_
  refine v_cast ok rfl dX7_init_50 hf (fun h14 hf => ?_)
  refine v_dup ok dX7_init_51 rfl ?_
  refine v_iconst ok 4 dX7_init_52 rfl ?_
  refine v_bipush ok 101 dX7_init_53 rfl ?_
  refine v_cast ok rfl dX7_init_55 hf (fun h15 hf => ?_)
  refine v_dup ok dX7_init_56 rfl ?_
  refine v_iconst ok 5 dX7_init_57 rfl ?_
  refine v_bipush ok 114 dX7_init_58 rfl ?_
  refine v_cast ok rfl dX7_init_60 hf (fun h16 hf => ?_)
  refine v_pR ok fl_X7_20 (by first | exact Or.inl ⟨_, rfl⟩ | exact Or.inr ⟨_, rfl⟩) (FN.ini cf_7.1 rfl hnm rfl) dX7_init_61 hf (fun h17 hf => ?_)
  refine v_aload_n ok 0 dX7_init_64 rfl rfl ?_
  refine v_iconst ok 4 dX7_init_65 rfl ?_
  refine v_newarr ok (t := 102) (atype := .char) (by decide) (by decide) rfl q779 (fun _ _ _ _ e1 e2 => by first | exact congrArg Value.int e1.symm | exact congrArg Value.long e2.symm) (by decide) dX7_init_66 hf (fun v18 h19 hf => ?_)
  refine v_dup ok dX7_init_68 rfl ?_
  refine v_iconst ok 0 dX7_init_69 rfl ?_
  refine v_bipush ok 104 dX7_init_70 rfl ?_
  refine v_cast ok rfl dX7_init_72 hf (fun h20 hf => ?_)
  refine v_dup ok dX7_init_73 rfl ?_
  refine v_iconst ok 1 dX7_init_74 rfl ?_
  refine v_bipush ok 97 dX7_init_75 rfl ?_
  refine v_cast ok rfl dX7_init_77 hf (fun h21 hf => ?_)
  refine v_dup ok dX7_init_78 rfl ?_
  refine v_iconst ok 2 dX7_init_79 rfl ?_
  refine v_bipush ok 110 dX7_init_80 rfl ?_
  refine v_cast ok rfl dX7_init_82 hf (fun h22 hf => ?_)
  refine v_dup ok dX7_init_83 rfl ?_
  refine v_iconst ok 3 dX7_init_84 rfl ?_
  refine v_bipush ok 100 dX7_init_85 rfl ?_
  refine v_cast ok rfl dX7_init_87 hf (fun h23 hf => ?_)
  refine v_pR ok fl_X7_24 (by first | exact Or.inl ⟨_, rfl⟩ | exact Or.inr ⟨_, rfl⟩) (FN.ini cf_7.1 rfl hnm rfl) dX7_init_88 hf (fun h24 hf => ?_)
  refine v_aload_n ok 0 dX7_init_91 rfl rfl ?_
  refine v_iconst ok 2 dX7_init_92 rfl ?_
  refine v_newarr ok (t := 102) (atype := .char) (by decide) (by decide) rfl q779 (fun _ _ _ _ e1 e2 => by first | exact congrArg Value.int e1.symm | exact congrArg Value.long e2.symm) (by decide) dX7_init_93 hf (fun v25 h26 hf => ?_)
  refine v_dup ok dX7_init_95 rfl ?_
  refine v_iconst ok 0 dX7_init_96 rfl ?_
  refine v_bipush ok 105 dX7_init_97 rfl ?_
  refine v_cast ok rfl dX7_init_99 hf (fun h27 hf => ?_)
  refine v_dup ok dX7_init_100 rfl ?_
  refine v_iconst ok 1 dX7_init_101 rfl ?_
  refine v_bipush ok 115 dX7_init_102 rfl ?_
  refine v_cast ok rfl dX7_init_104 hf (fun h28 hf => ?_)
  refine v_pR ok fl_X7_27 (by first | exact Or.inl ⟨_, rfl⟩ | exact Or.inr ⟨_, rfl⟩) (FN.ini cf_7.1 rfl hnm rfl) dX7_init_105 hf (fun h29 hf => ?_)
  refine v_aload_n ok 0 dX7_init_108 rfl rfl ?_
  refine v_iconst ok 4 dX7_init_109 rfl ?_
  refine v_newarr ok (t := 102) (atype := .char) (by decide) (by decide) rfl q779 (fun _ _ _ _ e1 e2 => by first | exact congrArg Value.int e1.symm | exact congrArg Value.long e2.symm) (by decide) dX7_init_110 hf (fun v30 h31 hf => ?_)
  refine v_dup ok dX7_init_112 rfl ?_
  refine v_iconst ok 0 dX7_init_113 rfl ?_
  refine v_bipush ok 119 dX7_init_114 rfl ?_
  refine v_cast ok rfl dX7_init_116 hf (fun h32 hf => ?_)
  refine v_dup ok dX7_init_117 rfl ?_
  refine v_iconst ok 1 dX7_init_118 rfl ?_
  refine v_bipush ok 111 dX7_init_119 rfl ?_
  refine v_cast ok rfl dX7_init_121 hf (fun h33 hf => ?_)
  refine v_dup ok dX7_init_122 rfl ?_
  refine v_iconst ok 2 dX7_init_123 rfl ?_
  refine v_bipush ok 114 dX7_init_124 rfl ?_
  refine v_cast ok rfl dX7_init_126 hf (fun h34 hf => ?_)
  refine v_dup ok dX7_init_127 rfl ?_
  refine v_iconst ok 3 dX7_init_128 rfl ?_
  refine v_bipush ok 100 dX7_init_129 rfl ?_
  refine v_cast ok rfl dX7_init_131 hf (fun h35 hf => ?_)
  refine v_pR ok fl_X7_30 (by first | exact Or.inl ⟨_, rfl⟩ | exact Or.inr ⟨_, rfl⟩) (FN.ini cf_7.1 rfl hnm rfl) dX7_init_132 hf (fun h36 hf => ?_)
  refine v_aload_n ok 0 dX7_init_135 rfl rfl ?_
  refine v_iconst ok 5 dX7_init_136 rfl ?_
  refine v_newarr ok (t := 102) (atype := .char) (by decide) (by decide) rfl q779 (fun _ _ _ _ e1 e2 => by first | exact congrArg Value.int e1.symm | exact congrArg Value.long e2.symm) (by decide) dX7_init_137 hf (fun v37 h38 hf => ?_)
  refine v_dup ok dX7_init_139 rfl ?_
  refine v_iconst ok 0 dX7_init_140 rfl ?_
  refine v_bipush ok 98 dX7_init_141 rfl ?_
  refine v_cast ok rfl dX7_init_143 hf (fun h39 hf => ?_)
  refine v_dup ok dX7_init_144 rfl ?_
  refine v_iconst ok 1 dX7_init_145 rfl ?_
  refine v_bipush ok 111 dX7_init_146 rfl ?_
  refine v_cast ok rfl dX7_init_148 hf (fun h40 hf => ?_)
  refine v_dup ok dX7_init_149 rfl ?_
  refine v_iconst ok 2 dX7_init_150 rfl ?_
  refine v_bipush ok 97 dX7_init_151 rfl ?_
  refine v_cast ok rfl dX7_init_153 hf (fun h41 hf => ?_)
  refine v_dup ok dX7_init_154 rfl ?_
  refine v_iconst ok 3 dX7_init_155 rfl ?_
  refine v_bipush ok 114 dX7_init_156 rfl ?_
  refine v_cast ok rfl dX7_init_158 hf (fun h42 hf => ?_)
  refine v_dup ok dX7_init_159 rfl ?_
  refine v_iconst ok 4 dX7_init_160 rfl ?_
  refine v_bipush ok 100 dX7_init_161 rfl ?_
  refine v_cast ok rfl dX7_init_163 hf (fun h43 hf => ?_)
  refine v_pR ok fl_X7_33 (by first | exact Or.inl ⟨_, rfl⟩ | exact Or.inr ⟨_, rfl⟩) (FN.ini cf_7.1 rfl hnm rfl) dX7_init_164 hf (fun h44 hf => ?_)
  refine v_aload_n ok 0 dX7_init_167 rfl rfl ?_
  refine v_iconst ok 5 dX7_init_168 rfl ?_
  refine v_newarr ok (t := 102) (atype := .char) (by decide) (by decide) rfl q779 (fun _ _ _ _ e1 e2 => by first | exact congrArg Value.int e1.symm | exact congrArg Value.long e2.symm) (by decide) dX7_init_169 hf (fun v45 h46 hf => ?_)
  refine v_dup ok dX7_init_171 rfl ?_
  refine v_iconst ok 0 dX7_init_172 rfl ?_
  refine v_bipush ok 100 dX7_init_173 rfl ?_
  refine v_cast ok rfl dX7_init_175 hf (fun h47 hf => ?_)
  refine v_dup ok dX7_init_176 rfl ?_
  refine v_iconst ok 1 dX7_init_177 rfl ?_
  refine v_bipush ok 111 dX7_init_178 rfl ?_
  refine v_cast ok rfl dX7_init_180 hf (fun h48 hf => ?_)
  refine v_dup ok dX7_init_181 rfl ?_
  refine v_iconst ok 2 dX7_init_182 rfl ?_
  refine v_bipush ok 117 dX7_init_183 rfl ?_
  refine v_cast ok rfl dX7_init_185 hf (fun h49 hf => ?_)
  refine v_dup ok dX7_init_186 rfl ?_
  refine v_iconst ok 3 dX7_init_187 rfl ?_
  refine v_bipush ok 98 dX7_init_188 rfl ?_
  refine v_cast ok rfl dX7_init_190 hf (fun h50 hf => ?_)
  refine v_dup ok dX7_init_191 rfl ?_
  refine v_iconst ok 4 dX7_init_192 rfl ?_
  refine v_bipush ok 116 dX7_init_193 rfl ?_
  refine v_cast ok rfl dX7_init_195 hf (fun h51 hf => ?_)
  refine v_pR ok fl_X7_36 (by first | exact Or.inl ⟨_, rfl⟩ | exact Or.inr ⟨_, rfl⟩) (FN.ini cf_7.1 rfl hnm rfl) dX7_init_196 hf (fun h52 hf => ?_)
  refine v_aload_n ok 0 dX7_init_199 rfl rfl ?_
  refine v_iconst ok 4 dX7_init_200 rfl ?_
  refine v_newarr ok (t := 102) (atype := .char) (by decide) (by decide) rfl q779 (fun _ _ _ _ e1 e2 => by first | exact congrArg Value.int e1.symm | exact congrArg Value.long e2.symm) (by decide) dX7_init_201 hf (fun v53 h54 hf => ?_)
  refine v_dup ok dX7_init_203 rfl ?_
  refine v_iconst ok 0 dX7_init_204 rfl ?_
  refine v_bipush ok 114 dX7_init_205 rfl ?_
  refine v_cast ok rfl dX7_init_207 hf (fun h55 hf => ?_)
  refine v_dup ok dX7_init_208 rfl ?_
  refine v_iconst ok 1 dX7_init_209 rfl ?_
  refine v_bipush ok 97 dX7_init_210 rfl ?_
  refine v_cast ok rfl dX7_init_212 hf (fun h56 hf => ?_)
  refine v_dup ok dX7_init_213 rfl ?_
  refine v_iconst ok 2 dX7_init_214 rfl ?_
  refine v_bipush ok 105 dX7_init_215 rfl ?_
  refine v_cast ok rfl dX7_init_217 hf (fun h57 hf => ?_)
  refine v_dup ok dX7_init_218 rfl ?_
  refine v_iconst ok 3 dX7_init_219 rfl ?_
  refine v_bipush ok 110 dX7_init_220 rfl ?_
  refine v_cast ok rfl dX7_init_222 hf (fun h58 hf => ?_)
  refine v_pR ok fl_X7_39 (by first | exact Or.inl ⟨_, rfl⟩ | exact Or.inr ⟨_, rfl⟩) (FN.ini cf_7.1 rfl hnm rfl) dX7_init_223 hf (fun h59 hf => ?_)
  refine v_aload_n ok 0 dX7_init_226 rfl rfl ?_
  refine v_iconst ok 5 dX7_init_227 rfl ?_
  refine v_newarr ok (t := 102) (atype := .char) (by decide) (by decide) rfl q779 (fun _ _ _ _ e1 e2 => by first | exact congrArg Value.int e1.symm | exact congrArg Value.long e2.symm) (by decide) dX7_init_228 hf (fun v60 h61 hf => ?_)
  refine v_dup ok dX7_init_230 rfl ?_
  refine v_iconst ok 0 dX7_init_231 rfl ?_
  refine v_bipush ok 98 dX7_init_232 rfl ?_
  refine v_cast ok rfl dX7_init_234 hf (fun h62 hf => ?_)
  refine v_dup ok dX7_init_235 rfl ?_
  refine v_iconst ok 1 dX7_init_236 rfl ?_
  refine v_bipush ok 108 dX7_init_237 rfl ?_
  refine v_cast ok rfl dX7_init_239 hf (fun h63 hf => ?_)
  refine v_dup ok dX7_init_240 rfl ?_
  refine v_iconst ok 2 dX7_init_241 rfl ?_
  refine v_bipush ok 97 dX7_init_242 rfl ?_
  refine v_cast ok rfl dX7_init_244 hf (fun h64 hf => ?_)
  refine v_dup ok dX7_init_245 rfl ?_
  refine v_iconst ok 3 dX7_init_246 rfl ?_
  refine v_bipush ok 110 dX7_init_247 rfl ?_
  refine v_cast ok rfl dX7_init_249 hf (fun h65 hf => ?_)
  refine v_dup ok dX7_init_250 rfl ?_
  refine v_iconst ok 4 dX7_init_251 rfl ?_
  refine v_bipush ok 107 dX7_init_252 rfl ?_
  refine v_cast ok rfl dX7_init_254 hf (fun h66 hf => ?_)
  refine v_pR ok fl_X7_42 (by first | exact Or.inl ⟨_, rfl⟩ | exact Or.inr ⟨_, rfl⟩) (FN.ini cf_7.1 rfl hnm rfl) dX7_init_255 hf (fun h67 hf => ?_)
  refine v_aload_n ok 0 dX7_init_258 rfl rfl ?_
  refine v_iconst ok 4 dX7_init_259 rfl ?_
  refine v_newarr ok (t := 102) (atype := .char) (by decide) (by decide) rfl q779 (fun _ _ _ _ e1 e2 => by first | exact congrArg Value.int e1.symm | exact congrArg Value.long e2.symm) (by decide) dX7_init_260 hf (fun v68 h69 hf => ?_)
  refine v_dup ok dX7_init_262 rfl ?_
  refine v_iconst ok 0 dX7_init_263 rfl ?_
  refine v_bipush ok 104 dX7_init_264 rfl ?_
  refine v_cast ok rfl dX7_init_266 hf (fun h70 hf => ?_)
  refine v_dup ok dX7_init_267 rfl ?_
  refine v_iconst ok 1 dX7_init_268 rfl ?_
  refine v_bipush ok 97 dX7_init_269 rfl ?_
  refine v_cast ok rfl dX7_init_271 hf (fun h71 hf => ?_)
  refine v_dup ok dX7_init_272 rfl ?_
  refine v_iconst ok 2 dX7_init_273 rfl ?_
  refine v_bipush ok 105 dX7_init_274 rfl ?_
  refine v_cast ok rfl dX7_init_276 hf (fun h72 hf => ?_)
  refine v_dup ok dX7_init_277 rfl ?_
  refine v_iconst ok 3 dX7_init_278 rfl ?_
  refine v_bipush ok 108 dX7_init_279 rfl ?_
  refine v_cast ok rfl dX7_init_281 hf (fun h73 hf => ?_)
  refine v_pR ok fl_X7_45 (by first | exact Or.inl ⟨_, rfl⟩ | exact Or.inr ⟨_, rfl⟩) (FN.ini cf_7.1 rfl hnm rfl) dX7_init_282 hf (fun h74 hf => ?_)
  refine v_aload_n ok 0 dX7_init_285 rfl rfl ?_
  refine v_iconst ok 4 dX7_init_286 rfl ?_
  refine v_newarr ok (t := 102) (atype := .char) (by decide) (by decide) rfl q779 (fun _ _ _ _ e1 e2 => by first | exact congrArg Value.int e1.symm | exact congrArg Value.long e2.symm) (by decide) dX7_init_287 hf (fun v75 h76 hf => ?_)
  refine v_dup ok dX7_init_289 rfl ?_
  refine v_iconst ok 0 dX7_init_290 rfl ?_
  refine v_bipush ok 109 dX7_init_291 rfl ?_
  refine v_cast ok rfl dX7_init_293 hf (fun h77 hf => ?_)
  refine v_dup ok dX7_init_294 rfl ?_
  refine v_iconst ok 1 dX7_init_295 rfl ?_
  refine v_bipush ok 111 dX7_init_296 rfl ?_
  refine v_cast ok rfl dX7_init_298 hf (fun h78 hf => ?_)
  refine v_dup ok dX7_init_299 rfl ?_
  refine v_iconst ok 2 dX7_init_300 rfl ?_
  refine v_bipush ok 114 dX7_init_301 rfl ?_
  refine v_cast ok rfl dX7_init_303 hf (fun h79 hf => ?_)
  refine v_dup ok dX7_init_304 rfl ?_
  refine v_iconst ok 3 dX7_init_305 rfl ?_
  refine v_bipush ok 101 dX7_init_306 rfl ?_
  refine v_cast ok rfl dX7_init_308 hf (fun h80 hf => ?_)
  refine v_pR ok fl_X7_48 (by first | exact Or.inl ⟨_, rfl⟩ | exact Or.inr ⟨_, rfl⟩) (FN.ini cf_7.1 rfl hnm rfl) dX7_init_309 hf (fun h81 hf => ?_)
  refine v_aload_n ok 0 dX7_init_312 rfl rfl ?_
  refine v_iconst ok 4 dX7_init_313 rfl ?_
  refine v_newarr ok (t := 102) (atype := .char) (by decide) (by decide) rfl q779 (fun _ _ _ _ e1 e2 => by first | exact congrArg Value.int e1.symm | exact congrArg Value.long e2.symm) (by decide) dX7_init_314 hf (fun v82 h83 hf => ?_)
  refine v_dup ok dX7_init_316 rfl ?_
  refine v_iconst ok 0 dX7_init_317 rfl ?_
  refine v_bipush ok 108 dX7_init_318 rfl ?_
  refine v_cast ok rfl dX7_init_320 hf (fun h84 hf => ?_)
  refine v_dup ok dX7_init_321 rfl ?_
  refine v_iconst ok 1 dX7_init_322 rfl ?_
  refine v_bipush ok 101 dX7_init_323 rfl ?_
  refine v_cast ok rfl dX7_init_325 hf (fun h85 hf => ?_)
  refine v_dup ok dX7_init_326 rfl ?_
  refine v_iconst ok 2 dX7_init_327 rfl ?_
  refine v_bipush ok 115 dX7_init_328 rfl ?_
  refine v_cast ok rfl dX7_init_330 hf (fun h86 hf => ?_)
  refine v_dup ok dX7_init_331 rfl ?_
  refine v_iconst ok 3 dX7_init_332 rfl ?_
  refine v_bipush ok 115 dX7_init_333 rfl ?_
  refine v_cast ok rfl dX7_init_335 hf (fun h87 hf => ?_)
  refine v_pR ok fl_X7_51 (by first | exact Or.inl ⟨_, rfl⟩ | exact Or.inr ⟨_, rfl⟩) (FN.ini cf_7.1 rfl hnm rfl) dX7_init_336 hf (fun h88 hf => ?_)
  refine v_aload_n ok 0 dX7_init_339 rfl rfl ?_
  refine v_iconst ok 3 dX7_init_340 rfl ?_
  refine v_newarr ok (t := 102) (atype := .char) (by decide) (by decide) rfl q779 (fun _ _ _ _ e1 e2 => by first | exact congrArg Value.int e1.symm | exact congrArg Value.long e2.symm) (by decide) dX7_init_341 hf (fun v89 h90 hf => ?_)
  refine v_dup ok dX7_init_343 rfl ?_
  refine v_iconst ok 0 dX7_init_344 rfl ?_
  refine v_bipush ok 105 dX7_init_345 rfl ?_
  refine v_cast ok rfl dX7_init_347 hf (fun h91 hf => ?_)
  refine v_dup ok dX7_init_348 rfl ?_
  refine v_iconst ok 1 dX7_init_349 rfl ?_
  refine v_bipush ok 110 dX7_init_350 rfl ?_
  refine v_cast ok rfl dX7_init_352 hf (fun h92 hf => ?_)
  refine v_dup ok dX7_init_353 rfl ?_
  refine v_iconst ok 2 dX7_init_354 rfl ?_
  refine v_bipush ok 107 dX7_init_355 rfl ?_
  refine v_cast ok rfl dX7_init_357 hf (fun h93 hf => ?_)
  refine v_pR ok fl_X7_54 (by first | exact Or.inl ⟨_, rfl⟩ | exact Or.inr ⟨_, rfl⟩) (FN.ini cf_7.1 rfl hnm rfl) dX7_init_358 hf (fun h94 hf => ?_)
  refine v_aload_n ok 0 dX7_init_361 rfl rfl ?_
  refine v_bipush ok 6 dX7_init_362 rfl ?_
  refine v_newarr ok (t := 102) (atype := .char) (by decide) (by decide) rfl q779 (fun _ _ _ _ e1 e2 => by first | exact congrArg Value.int e1.symm | exact congrArg Value.long e2.symm) (by decide) dX7_init_364 hf (fun v95 h96 hf => ?_)
  refine v_dup ok dX7_init_366 rfl ?_
  refine v_iconst ok 0 dX7_init_367 rfl ?_
  refine v_bipush ok 99 dX7_init_368 rfl ?_
  refine v_cast ok rfl dX7_init_370 hf (fun h97 hf => ?_)
  refine v_dup ok dX7_init_371 rfl ?_
  refine v_iconst ok 1 dX7_init_372 rfl ?_
  refine v_bipush ok 111 dX7_init_373 rfl ?_
  refine v_cast ok rfl dX7_init_375 hf (fun h98 hf => ?_)
  refine v_dup ok dX7_init_376 rfl ?_
  refine v_iconst ok 2 dX7_init_377 rfl ?_
  refine v_bipush ok 108 dX7_init_378 rfl ?_
  refine v_cast ok rfl dX7_init_380 hf (fun h99 hf => ?_)
  refine v_dup ok dX7_init_381 rfl ?_
  refine v_iconst ok 3 dX7_init_382 rfl ?_
  refine v_bipush ok 117 dX7_init_383 rfl ?_
  refine v_cast ok rfl dX7_init_385 hf (fun h100 hf => ?_)
  refine v_dup ok dX7_init_386 rfl ?_
  refine v_iconst ok 4 dX7_init_387 rfl ?_
  refine v_bipush ok 109 dX7_init_388 rfl ?_
  refine v_cast ok rfl dX7_init_390 hf (fun h101 hf => ?_)
  refine v_dup ok dX7_init_391 rfl ?_
  refine v_iconst ok 5 dX7_init_392 rfl ?_
  refine v_bipush ok 110 dX7_init_393 rfl ?_
  refine v_cast ok rfl dX7_init_395 hf (fun h102 hf => ?_)
  refine v_pR ok fl_X7_57 (by first | exact Or.inl ⟨_, rfl⟩ | exact Or.inr ⟨_, rfl⟩) (FN.ini cf_7.1 rfl hnm rfl) dX7_init_396 hf (fun h103 hf => ?_)
  refine v_aload_n ok 0 dX7_init_399 rfl rfl ?_
  refine v_iconst ok 3 dX7_init_400 rfl ?_
  refine v_newarr ok (t := 102) (atype := .char) (by decide) (by decide) rfl q779 (fun _ _ _ _ e1 e2 => by first | exact congrArg Value.int e1.symm | exact congrArg Value.long e2.symm) (by decide) dX7_init_401 hf (fun v104 h105 hf => ?_)
  refine v_dup ok dX7_init_403 rfl ?_
  refine v_iconst ok 0 dX7_init_404 rfl ?_
  refine v_bipush ok 114 dX7_init_405 rfl ?_
  refine v_cast ok rfl dX7_init_407 hf (fun h106 hf => ?_)
  refine v_dup ok dX7_init_408 rfl ?_
  refine v_iconst ok 1 dX7_init_409 rfl ?_
  refine v_bipush ok 111 dX7_init_410 rfl ?_
  refine v_cast ok rfl dX7_init_412 hf (fun h107 hf => ?_)
  refine v_dup ok dX7_init_413 rfl ?_
  refine v_iconst ok 2 dX7_init_414 rfl ?_
  refine v_bipush ok 119 dX7_init_415 rfl ?_
  refine v_cast ok rfl dX7_init_417 hf (fun h108 hf => ?_)
  refine v_pR ok fl_X7_60 (by first | exact Or.inl ⟨_, rfl⟩ | exact Or.inr ⟨_, rfl⟩) (FN.ini cf_7.1 rfl hnm rfl) dX7_init_418 hf (fun h109 hf => ?_)
  refine v_aload_n ok 0 dX7_init_421 rfl rfl ?_
  refine v_iconst ok 5 dX7_init_422 rfl ?_
  refine v_newarr ok (t := 102) (atype := .char) (by decide) (by decide) rfl q779 (fun _ _ _ _ e1 e2 => by first | exact congrArg Value.int e1.symm | exact congrArg Value.long e2.symm) (by decide) dX7_init_423 hf (fun v110 h111 hf => ?_)
  refine v_dup ok dX7_init_425 rfl ?_
  refine v_iconst ok 0 dX7_init_426 rfl ?_
  refine v_bipush ok 112 dX7_init_427 rfl ?_
  refine v_cast ok rfl dX7_init_429 hf (fun h112 hf => ?_)
  refine v_dup ok dX7_init_430 rfl ?_
  refine v_iconst ok 1 dX7_init_431 rfl ?_
  refine v_bipush ok 108 dX7_init_432 rfl ?_
  refine v_cast ok rfl dX7_init_434 hf (fun h113 hf => ?_)
  refine v_dup ok dX7_init_435 rfl ?_
  refine v_iconst ok 2 dX7_init_436 rfl ?_
  refine v_bipush ok 97 dX7_init_437 rfl ?_
  refine v_cast ok rfl dX7_init_439 hf (fun h114 hf => ?_)
  refine v_dup ok dX7_init_440 rfl ?_
  refine v_iconst ok 3 dX7_init_441 rfl ?_
  refine v_bipush ok 99 dX7_init_442 rfl ?_
  refine v_cast ok rfl dX7_init_444 hf (fun h115 hf => ?_)
  refine v_dup ok dX7_init_445 rfl ?_
  refine v_iconst ok 4 dX7_init_446 rfl ?_
  refine v_bipush ok 101 dX7_init_447 rfl ?_
  refine v_cast ok rfl dX7_init_449 hf (fun h116 hf => ?_)
  refine v_pR ok fl_X7_63 (by first | exact Or.inl ⟨_, rfl⟩ | exact Or.inr ⟨_, rfl⟩) (FN.ini cf_7.1 rfl hnm rfl) dX7_init_450 hf (fun h117 hf => ?_)
  refine v_aload_n ok 0 dX7_init_453 rfl rfl ?_
  refine v_iconst ok 4 dX7_init_454 rfl ?_
  refine v_newarr ok (t := 102) (atype := .char) (by decide) (by decide) rfl q779 (fun _ _ _ _ e1 e2 => by first | exact congrArg Value.int e1.symm | exact congrArg Value.long e2.symm) (by decide) dX7_init_455 hf (fun v118 h119 hf => ?_)
  refine v_dup ok dX7_init_457 rfl ?_
  refine v_iconst ok 0 dX7_init_458 rfl ?_
  refine v_bipush ok 110 dX7_init_459 rfl ?_
  refine v_cast ok rfl dX7_init_461 hf (fun h120 hf => ?_)
  refine v_dup ok dX7_init_462 rfl ?_
  refine v_iconst ok 1 dX7_init_463 rfl ?_
  refine v_bipush ok 101 dX7_init_464 rfl ?_
  refine v_cast ok rfl dX7_init_466 hf (fun h121 hf => ?_)
  refine v_dup ok dX7_init_467 rfl ?_
  refine v_iconst ok 2 dX7_init_468 rfl ?_
  refine v_bipush ok 97 dX7_init_469 rfl ?_
  refine v_cast ok rfl dX7_init_471 hf (fun h122 hf => ?_)
  refine v_dup ok dX7_init_472 rfl ?_
  refine v_iconst ok 3 dX7_init_473 rfl ?_
  refine v_bipush ok 114 dX7_init_474 rfl ?_
  refine v_cast ok rfl dX7_init_476 hf (fun h123 hf => ?_)
  refine v_pR ok fl_X7_66 (by first | exact Or.inl ⟨_, rfl⟩ | exact Or.inr ⟨_, rfl⟩) (FN.ini cf_7.1 rfl hnm rfl) dX7_init_477 hf (fun h124 hf => ?_)
  refine v_aload_n ok 0 dX7_init_480 rfl rfl ?_
  refine v_iconst ok 4 dX7_init_481 rfl ?_
  refine v_newarr ok (t := 102) (atype := .char) (by decide) (by decide) rfl q779 (fun _ _ _ _ e1 e2 => by first | exact congrArg Value.int e1.symm | exact congrArg Value.long e2.symm) (by decide) dX7_init_482 hf (fun v125 h126 hf => ?_)
  refine v_dup ok dX7_init_484 rfl ?_
  refine v_iconst ok 0 dX7_init_485 rfl ?_
  refine v_bipush ok 121 dX7_init_486 rfl ?_
  refine v_cast ok rfl dX7_init_488 hf (fun h127 hf => ?_)
  refine v_dup ok dX7_init_489 rfl ?_
  refine v_iconst ok 1 dX7_init_490 rfl ?_
  refine v_bipush ok 101 dX7_init_491 rfl ?_
  refine v_cast ok rfl dX7_init_493 hf (fun h128 hf => ?_)
  refine v_dup ok dX7_init_494 rfl ?_
  refine v_iconst ok 2 dX7_init_495 rfl ?_
  refine v_bipush ok 97 dX7_init_496 rfl ?_
  refine v_cast ok rfl dX7_init_498 hf (fun h129 hf => ?_)
  refine v_dup ok dX7_init_499 rfl ?_
  refine v_iconst ok 3 dX7_init_500 rfl ?_
  refine v_bipush ok 114 dX7_init_501 rfl ?_
  refine v_cast ok rfl dX7_init_503 hf (fun h130 hf => ?_)
  refine v_pR ok fl_X7_69 (by first | exact Or.inl ⟨_, rfl⟩ | exact Or.inr ⟨_, rfl⟩) (FN.ini cf_7.1 rfl hnm rfl) dX7_init_504 hf (fun h131 hf => ?_)
  refine v_aload_n ok 0 dX7_init_507 rfl rfl ?_
  refine v_bipush ok 6 dX7_init_508 rfl ?_
  refine v_newarr ok (t := 102) (atype := .char) (by decide) (by decide) rfl q779 (fun _ _ _ _ e1 e2 => by first | exact congrArg Value.int e1.symm | exact congrArg Value.long e2.symm) (by decide) dX7_init_510 hf (fun v132 h133 hf => ?_)
  refine v_dup ok dX7_init_512 rfl ?_
  refine v_iconst ok 0 dX7_init_513 rfl ?_
  refine v_bipush ok 110 dX7_init_514 rfl ?_
  refine v_cast ok rfl dX7_init_516 hf (fun h134 hf => ?_)
  refine v_dup ok dX7_init_517 rfl ?_
  refine v_iconst ok 1 dX7_init_518 rfl ?_
  refine v_bipush ok 117 dX7_init_519 rfl ?_
  refine v_cast ok rfl dX7_init_521 hf (fun h135 hf => ?_)
  refine v_dup ok dX7_init_522 rfl ?_
  refine v_iconst ok 2 dX7_init_523 rfl ?_
  refine v_bipush ok 109 dX7_init_524 rfl ?_
  refine v_cast ok rfl dX7_init_526 hf (fun h136 hf => ?_)
  refine v_dup ok dX7_init_527 rfl ?_
  refine v_iconst ok 3 dX7_init_528 rfl ?_
  refine v_bipush ok 98 dX7_init_529 rfl ?_
  refine v_cast ok rfl dX7_init_531 hf (fun h137 hf => ?_)
  refine v_dup ok dX7_init_532 rfl ?_
  refine v_iconst ok 4 dX7_init_533 rfl ?_
  refine v_bipush ok 101 dX7_init_534 rfl ?_
  refine v_cast ok rfl dX7_init_536 hf (fun h138 hf => ?_)
  refine v_dup ok dX7_init_537 rfl ?_
  refine v_iconst ok 5 dX7_init_538 rfl ?_
  refine v_bipush ok 114 dX7_init_539 rfl ?_
  refine v_cast ok rfl dX7_init_541 hf (fun h139 hf => ?_)
  refine v_pR ok fl_X7_72 (by first | exact Or.inl ⟨_, rfl⟩ | exact Or.inr ⟨_, rfl⟩) (FN.ini cf_7.1 rfl hnm rfl) dX7_init_542 hf (fun h140 hf => ?_)
  refine v_aload_n ok 0 dX7_init_545 rfl rfl ?_
  refine v_iconst ok 4 dX7_init_546 rfl ?_
  refine v_newarr ok (t := 102) (atype := .char) (by decide) (by decide) rfl q779 (fun _ _ _ _ e1 e2 => by first | exact congrArg Value.int e1.symm | exact congrArg Value.long e2.symm) (by decide) dX7_init_547 hf (fun v141 h142 hf => ?_)
  refine v_dup ok dX7_init_549 rfl ?_
  refine v_iconst ok 0 dX7_init_550 rfl ?_
  refine v_bipush ok 108 dX7_init_551 rfl ?_
  refine v_cast ok rfl dX7_init_553 hf (fun h143 hf => ?_)
  refine v_dup ok dX7_init_554 rfl ?_
  refine v_iconst ok 1 dX7_init_555 rfl ?_
  refine v_bipush ok 111 dX7_init_556 rfl ?_
  refine v_cast ok rfl dX7_init_558 hf (fun h144 hf => ?_)
  refine v_dup ok dX7_init_559 rfl ?_
  refine v_iconst ok 2 dX7_init_560 rfl ?_
  refine v_bipush ok 110 dX7_init_561 rfl ?_
  refine v_cast ok rfl dX7_init_563 hf (fun h145 hf => ?_)
  refine v_dup ok dX7_init_564 rfl ?_
  refine v_iconst ok 3 dX7_init_565 rfl ?_
  refine v_bipush ok 103 dX7_init_566 rfl ?_
  refine v_cast ok rfl dX7_init_568 hf (fun h146 hf => ?_)
  refine v_pR ok fl_X7_75 (by first | exact Or.inl ⟨_, rfl⟩ | exact Or.inr ⟨_, rfl⟩) (FN.ini cf_7.1 rfl hnm rfl) dX7_init_569 hf (fun h147 hf => ?_)
  refine v_aload_n ok 0 dX7_init_572 rfl rfl ?_
  refine v_iconst ok 4 dX7_init_573 rfl ?_
  refine v_newarr ok (t := 102) (atype := .char) (by decide) (by decide) rfl q779 (fun _ _ _ _ e1 e2 => by first | exact congrArg Value.int e1.symm | exact congrArg Value.long e2.symm) (by decide) dX7_init_574 hf (fun v148 h149 hf => ?_)
  refine v_dup ok dX7_init_576 rfl ?_
  refine v_iconst ok 0 dX7_init_577 rfl ?_
  refine v_bipush ok 108 dX7_init_578 rfl ?_
  refine v_cast ok rfl dX7_init_580 hf (fun h150 hf => ?_)
  refine v_dup ok dX7_init_581 rfl ?_
  refine v_iconst ok 1 dX7_init_582 rfl ?_
  refine v_bipush ok 105 dX7_init_583 rfl ?_
  refine v_cast ok rfl dX7_init_585 hf (fun h151 hf => ?_)
  refine v_dup ok dX7_init_586 rfl ?_
  refine v_iconst ok 2 dX7_init_587 rfl ?_
  refine v_bipush ok 110 dX7_init_588 rfl ?_
  refine v_cast ok rfl dX7_init_590 hf (fun h152 hf => ?_)
  refine v_dup ok dX7_init_591 rfl ?_
  refine v_iconst ok 3 dX7_init_592 rfl ?_
  refine v_bipush ok 101 dX7_init_593 rfl ?_
  refine v_cast ok rfl dX7_init_595 hf (fun h153 hf => ?_)
  refine v_pR ok fl_X7_78 (by first | exact Or.inl ⟨_, rfl⟩ | exact Or.inr ⟨_, rfl⟩) (FN.ini cf_7.1 rfl hnm rfl) dX7_init_596 hf (fun h154 hf => ?_)
  refine v_aload_n ok 0 dX7_init_599 rfl rfl ?_
  refine v_iconst ok 2 dX7_init_600 rfl ?_
  refine v_newarr ok (t := 102) (atype := .char) (by decide) (by decide) rfl q779 (fun _ _ _ _ e1 e2 => by first | exact congrArg Value.int e1.symm | exact congrArg Value.long e2.symm) (by decide) dX7_init_601 hf (fun v155 h156 hf => ?_)
  refine v_dup ok dX7_init_603 rfl ?_
  refine v_iconst ok 0 dX7_init_604 rfl ?_
  refine v_bipush ok 97 dX7_init_605 rfl ?_
  refine v_cast ok rfl dX7_init_607 hf (fun h157 hf => ?_)
  refine v_dup ok dX7_init_608 rfl ?_
  refine v_iconst ok 1 dX7_init_609 rfl ?_
  refine v_bipush ok 116 dX7_init_610 rfl ?_
  refine v_cast ok rfl dX7_init_612 hf (fun h158 hf => ?_)
  refine v_pR ok fl_X7_81 (by first | exact Or.inl ⟨_, rfl⟩ | exact Or.inr ⟨_, rfl⟩) (FN.ini cf_7.1 rfl hnm rfl) dX7_init_613 hf (fun h159 hf => ?_)
  refine v_aload_n ok 0 dX7_init_616 rfl rfl ?_
  refine v_iconst ok 2 dX7_init_617 rfl ?_
  refine v_newarr ok (t := 102) (atype := .char) (by decide) (by decide) rfl q779 (fun _ _ _ _ e1 e2 => by first | exact congrArg Value.int e1.symm | exact congrArg Value.long e2.symm) (by decide) dX7_init_618 hf (fun v160 h161 hf => ?_)
  refine v_dup ok dX7_init_620 rfl ?_
  refine v_iconst ok 0 dX7_init_621 rfl ?_
  refine v_bipush ok 111 dX7_init_622 rfl ?_
  refine v_cast ok rfl dX7_init_624 hf (fun h162 hf => ?_)
  refine v_dup ok dX7_init_625 rfl ?_
  refine v_iconst ok 1 dX7_init_626 rfl ?_
  refine v_bipush ok 114 dX7_init_627 rfl ?_
  refine v_cast ok rfl dX7_init_629 hf (fun h163 hf => ?_)
  refine v_pR ok fl_X7_84 (by first | exact Or.inl ⟨_, rfl⟩ | exact Or.inr ⟨_, rfl⟩) (FN.ini cf_7.1 rfl hnm rfl) dX7_init_630 hf (fun h164 hf => ?_)
  refine v_aload_n ok 0 dX7_init_633 rfl rfl ?_
  refine v_iconst ok 3 dX7_init_634 rfl ?_
  refine v_newarr ok (t := 102) (atype := .char) (by decide) (by decide) rfl q779 (fun _ _ _ _ e1 e2 => by first | exact congrArg Value.int e1.symm | exact congrArg Value.long e2.symm) (by decide) dX7_init_635 hf (fun v165 h166 hf => ?_)
  refine v_dup ok dX7_init_637 rfl ?_
  refine v_iconst ok 0 dX7_init_638 rfl ?_
  refine v_bipush ok 97 dX7_init_639 rfl ?_
  refine v_cast ok rfl dX7_init_641 hf (fun h167 hf => ?_)
  refine v_dup ok dX7_init_642 rfl ?_
  refine v_iconst ok 1 dX7_init_643 rfl ?_
  refine v_bipush ok 110 dX7_init_644 rfl ?_
  refine v_cast ok rfl dX7_init_646 hf (fun h168 hf => ?_)
  refine v_dup ok dX7_init_647 rfl ?_
  refine v_iconst ok 2 dX7_init_648 rfl ?_
  refine v_bipush ok 100 dX7_init_649 rfl ?_
  refine v_cast ok rfl dX7_init_651 hf (fun h169 hf => ?_)
  refine v_pR ok fl_X7_87 (by first | exact Or.inl ⟨_, rfl⟩ | exact Or.inr ⟨_, rfl⟩) (FN.ini cf_7.1 rfl hnm rfl) dX7_init_652 hf (fun h170 hf => ?_)
  refine v_aload_n ok 0 dX7_init_655 rfl rfl ?_
  refine v_iconst ok 3 dX7_init_656 rfl ?_
  refine v_newarr ok (t := 102) (atype := .char) (by decide) (by decide) rfl q779 (fun _ _ _ _ e1 e2 => by first | exact congrArg Value.int e1.symm | exact congrArg Value.long e2.symm) (by decide) dX7_init_657 hf (fun v171 h172 hf => ?_)
  refine v_dup ok dX7_init_659 rfl ?_
  refine v_iconst ok 0 dX7_init_660 rfl ?_
  refine v_bipush ok 110 dX7_init_661 rfl ?_
  refine v_cast ok rfl dX7_init_663 hf (fun h173 hf => ?_)
  refine v_dup ok dX7_init_664 rfl ?_
  refine v_iconst ok 1 dX7_init_665 rfl ?_
  refine v_bipush ok 111 dX7_init_666 rfl ?_
  refine v_cast ok rfl dX7_init_668 hf (fun h174 hf => ?_)
  refine v_dup ok dX7_init_669 rfl ?_
  refine v_iconst ok 2 dX7_init_670 rfl ?_
  refine v_bipush ok 116 dX7_init_671 rfl ?_
  refine v_cast ok rfl dX7_init_673 hf (fun h175 hf => ?_)
  refine v_pR ok fl_X7_90 (by first | exact Or.inl ⟨_, rfl⟩ | exact Or.inr ⟨_, rfl⟩) (FN.ini cf_7.1 rfl hnm rfl) dX7_init_674 hf (fun h176 hf => ?_)
  refine v_aload_n ok 0 dX7_init_677 rfl rfl ?_
  refine v_iconst ok 3 dX7_init_678 rfl ?_
  refine v_newarr ok (t := 102) (atype := .char) (by decide) (by decide) rfl q779 (fun _ _ _ _ e1 e2 => by first | exact congrArg Value.int e1.symm | exact congrArg Value.long e2.symm) (by decide) dX7_init_679 hf (fun v177 h178 hf => ?_)
  refine v_dup ok dX7_init_681 rfl ?_
  refine v_iconst ok 0 dX7_init_682 rfl ?_
  refine v_bipush ok 97 dX7_init_683 rfl ?_
  refine v_cast ok rfl dX7_init_685 hf (fun h179 hf => ?_)
  refine v_dup ok dX7_init_686 rfl ?_
  refine v_iconst ok 1 dX7_init_687 rfl ?_
  refine v_bipush ok 108 dX7_init_688 rfl ?_
  refine v_cast ok rfl dX7_init_690 hf (fun h180 hf => ?_)
  refine v_dup ok dX7_init_691 rfl ?_
  refine v_iconst ok 2 dX7_init_692 rfl ?_
  refine v_bipush ok 108 dX7_init_693 rfl ?_
  refine v_cast ok rfl dX7_init_695 hf (fun h181 hf => ?_)
  refine v_pR ok fl_X7_93 (by first | exact Or.inl ⟨_, rfl⟩ | exact Or.inr ⟨_, rfl⟩) (FN.ini cf_7.1 rfl hnm rfl) dX7_init_696 hf (fun h182 hf => ?_)
  refine v_aload_n ok 0 dX7_init_699 rfl rfl ?_
  refine v_iconst ok 3 dX7_init_700 rfl ?_
  refine v_newarr ok (t := 102) (atype := .char) (by decide) (by decide) rfl q779 (fun _ _ _ _ e1 e2 => by first | exact congrArg Value.int e1.symm | exact congrArg Value.long e2.symm) (by decide) dX7_init_701 hf (fun v183 h184 hf => ?_)
  refine v_dup ok dX7_init_703 rfl ?_
  refine v_iconst ok 0 dX7_init_704 rfl ?_
  refine v_bipush ok 109 dX7_init_705 rfl ?_
  refine v_cast ok rfl dX7_init_707 hf (fun h185 hf => ?_)
  refine v_dup ok dX7_init_708 rfl ?_
  refine v_iconst ok 1 dX7_init_709 rfl ?_
  refine v_bipush ok 105 dX7_init_710 rfl ?_
  refine v_cast ok rfl dX7_init_712 hf (fun h186 hf => ?_)
  refine v_dup ok dX7_init_713 rfl ?_
  refine v_iconst ok 2 dX7_init_714 rfl ?_
  refine v_bipush ok 110 dX7_init_715 rfl ?_
  refine v_cast ok rfl dX7_init_717 hf (fun h187 hf => ?_)
  refine v_pR ok fl_X7_96 (by first | exact Or.inl ⟨_, rfl⟩ | exact Or.inr ⟨_, rfl⟩) (FN.ini cf_7.1 rfl hnm rfl) dX7_init_718 hf (fun h188 hf => ?_)
  refine v_aload_n ok 0 dX7_init_721 rfl rfl ?_
  refine v_iconst ok 3 dX7_init_722 rfl ?_
  refine v_newarr ok (t := 102) (atype := .char) (by decide) (by decide) rfl q779 (fun _ _ _ _ e1 e2 => by first | exact congrArg Value.int e1.symm | exact congrArg Value.long e2.symm) (by decide) dX7_init_723 hf (fun v189 h190 hf => ?_)
  refine v_dup ok dX7_init_725 rfl ?_
  refine v_iconst ok 0 dX7_init_726 rfl ?_
  refine v_bipush ok 109 dX7_init_727 rfl ?_
  refine v_cast ok rfl dX7_init_729 hf (fun h191 hf => ?_)
  refine v_dup ok dX7_init_730 rfl ?_
  refine v_iconst ok 1 dX7_init_731 rfl ?_
  refine v_bipush ok 97 dX7_init_732 rfl ?_
  refine v_cast ok rfl dX7_init_734 hf (fun h192 hf => ?_)
  refine v_dup ok dX7_init_735 rfl ?_
  refine v_iconst ok 2 dX7_init_736 rfl ?_
  refine v_bipush ok 120 dX7_init_737 rfl ?_
  refine v_cast ok rfl dX7_init_739 hf (fun h193 hf => ?_)
  refine v_pR ok fl_X7_99 (by first | exact Or.inl ⟨_, rfl⟩ | exact Or.inr ⟨_, rfl⟩) (FN.ini cf_7.1 rfl hnm rfl) dX7_init_740 hf (fun h194 hf => ?_)
  refine v_aload_n ok 0 dX7_init_743 rfl rfl ?_
  refine v_bipush ok 7 dX7_init_744 rfl ?_
  refine v_newarr ok (t := 102) (atype := .char) (by decide) (by decide) rfl q779 (fun _ _ _ _ e1 e2 => by first | exact congrArg Value.int e1.symm | exact congrArg Value.long e2.symm) (by decide) dX7_init_746 hf (fun v195 h196 hf => ?_)
  refine v_dup ok dX7_init_748 rfl ?_
  refine v_iconst ok 0 dX7_init_749 rfl ?_
  refine v_bipush ok 102 dX7_init_750 rfl ?_
  refine v_cast ok rfl dX7_init_752 hf (fun h197 hf => ?_)
  refine v_dup ok dX7_init_753 rfl ?_
  refine v_iconst ok 1 dX7_init_754 rfl ?_
  refine v_bipush ok 111 dX7_init_755 rfl ?_
  refine v_cast ok rfl dX7_init_757 hf (fun h198 hf => ?_)
  refine v_dup ok dX7_init_758 rfl ?_
  refine v_iconst ok 2 dX7_init_759 rfl ?_
  refine v_bipush ok 114 dX7_init_760 rfl ?_
  refine v_cast ok rfl dX7_init_762 hf (fun h199 hf => ?_)
  refine v_dup ok dX7_init_763 rfl ?_
  refine v_iconst ok 3 dX7_init_764 rfl ?_
  refine v_bipush ok 103 dX7_init_765 rfl ?_
  refine v_cast ok rfl dX7_init_767 hf (fun h200 hf => ?_)
  refine v_dup ok dX7_init_768 rfl ?_
  refine v_iconst ok 4 dX7_init_769 rfl ?_
  refine v_bipush ok 105 dX7_init_770 rfl ?_
  refine v_cast ok rfl dX7_init_772 hf (fun h201 hf => ?_)
  refine v_dup ok dX7_init_773 rfl ?_
  refine v_iconst ok 5 dX7_init_774 rfl ?_
  refine v_bipush ok 118 dX7_init_775 rfl ?_
  refine v_cast ok rfl dX7_init_777 hf (fun h202 hf => ?_)
  refine v_dup ok dX7_init_778 rfl ?_
  refine v_bipush ok 6 dX7_init_779 rfl ?_
  refine v_bipush ok 101 dX7_init_781 rfl ?_
  refine v_cast ok rfl dX7_init_783 hf (fun h203 hf => ?_)
  refine v_pR ok fl_X7_102 (by first | exact Or.inl ⟨_, rfl⟩ | exact Or.inr ⟨_, rfl⟩) (FN.ini cf_7.1 rfl hnm rfl) dX7_init_784 hf (fun h204 hf => ?_)
  refine v_aload_n ok 0 dX7_init_787 rfl rfl ?_
  refine v_bipush ok 6 dX7_init_788 rfl ?_
  refine v_newarr ok (t := 100) (atype := .int) (by decide) (by decide) rfl q539 (fun _ _ _ _ e1 e2 => by first | exact congrArg Value.int e1.symm | exact congrArg Value.long e2.symm) (by decide) dX7_init_790 hf (fun v205 h206 hf => ?_)
  refine v_pR ok fl_X7_105 (by first | exact Or.inl ⟨_, rfl⟩ | exact Or.inr ⟨_, rfl⟩) (FN.ini cf_7.1 rfl hnm rfl) dX7_init_792 hf (fun h207 hf => ?_)
  refine v_aload_n ok 0 dX7_init_795 rfl rfl ?_
  refine v_iconst ok 4 dX7_init_796 rfl ?_
  refine v_newarr ok (t := 100) (atype := .int) (by decide) (by decide) rfl q539 (fun _ _ _ _ e1 e2 => by first | exact congrArg Value.int e1.symm | exact congrArg Value.long e2.symm) (by decide) dX7_init_797 hf (fun v208 h209 hf => ?_)
  refine v_pR ok fl_X7_108 (by first | exact Or.inl ⟨_, rfl⟩ | exact Or.inr ⟨_, rfl⟩) (FN.ini cf_7.1 rfl hnm rfl) dX7_init_799 hf (fun h210 hf => ?_)
  refine v_aload_n ok 0 dX7_init_802 rfl rfl ?_
  refine v_bipush ok 96 dX7_init_803 rfl ?_
  refine v_newarr ok (t := 100) (atype := .int) (by decide) (by decide) rfl q539 (fun _ _ _ _ e1 e2 => by first | exact congrArg Value.int e1.symm | exact congrArg Value.long e2.symm) (by decide) dX7_init_805 hf (fun v211 h212 hf => ?_)
  refine v_pR ok fl_X7_111 (by first | exact Or.inl ⟨_, rfl⟩ | exact Or.inr ⟨_, rfl⟩) (FN.ini cf_7.1 rfl hnm rfl) dX7_init_807 hf (fun h213 hf => ?_)
  refine v_aload_n ok 0 dX7_init_810 rfl rfl ?_
  refine v_bipush ok 112 dX7_init_811 rfl ?_
  refine v_newarr ok (t := 100) (atype := .int) (by decide) (by decide) rfl q539 (fun _ _ _ _ e1 e2 => by first | exact congrArg Value.int e1.symm | exact congrArg Value.long e2.symm) (by decide) dX7_init_813 hf (fun v214 h215 hf => ?_)
  refine v_pR ok fl_X7_114 (by first | exact Or.inl ⟨_, rfl⟩ | exact Or.inr ⟨_, rfl⟩) (FN.ini cf_7.1 rfl hnm rfl) dX7_init_815 hf (fun h216 hf => ?_)
  refine v_aload_n ok 0 dX7_init_818 rfl rfl ?_
  refine v_bipush ok 8 dX7_init_819 rfl ?_
  refine v_newarr ok (t := 100) (atype := .int) (by decide) (by decide) rfl q539 (fun _ _ _ _ e1 e2 => by first | exact congrArg Value.int e1.symm | exact congrArg Value.long e2.symm) (by decide) dX7_init_821 hf (fun v217 h218 hf => ?_)
  refine v_pR ok fl_X7_117 (by first | exact Or.inl ⟨_, rfl⟩ | exact Or.inr ⟨_, rfl⟩) (FN.ini cf_7.1 rfl hnm rfl) dX7_init_823 hf (fun h219 hf => ?_)
  refine v_aload_n ok 0 dX7_init_826 rfl rfl ?_
  refine v_bipush ok 6 dX7_init_827 rfl ?_
  refine v_newarr ok (t := 100) (atype := .int) (by decide) (by decide) rfl q539 (fun _ _ _ _ e1 e2 => by first | exact congrArg Value.int e1.symm | exact congrArg Value.long e2.symm) (by decide) dX7_init_829 hf (fun v220 h221 hf => ?_)
  refine v_pR ok fl_X7_120 (by first | exact Or.inl ⟨_, rfl⟩ | exact Or.inr ⟨_, rfl⟩) (FN.ini cf_7.1 rfl hnm rfl) dX7_init_831 hf (fun h222 hf => ?_)
  refine v_aload_n ok 0 dX7_init_834 rfl rfl ?_
  refine v_iconst ok 4 dX7_init_835 rfl ?_
  refine v_newarr ok (t := 100) (atype := .int) (by decide) (by decide) rfl q539 (fun _ _ _ _ e1 e2 => by first | exact congrArg Value.int e1.symm | exact congrArg Value.long e2.symm) (by decide) dX7_init_836 hf (fun v223 h224 hf => ?_)
  refine v_dup ok dX7_init_838 rfl ?_
  refine v_iconst ok 0 dX7_init_839 rfl ?_
  refine v_iconst ok (-1) dX7_init_840 rfl ?_
  refine v_iast ok rfl dX7_init_841 hf (fun h225 hf => ?_)
  refine v_dup ok dX7_init_842 rfl ?_
  refine v_iconst ok 1 dX7_init_843 rfl ?_
  refine v_iconst ok (-1) dX7_init_844 rfl ?_
  refine v_iast ok rfl dX7_init_845 hf (fun h226 hf => ?_)
  refine v_dup ok dX7_init_846 rfl ?_
  refine v_iconst ok 2 dX7_init_847 rfl ?_
  refine v_iconst ok (-1) dX7_init_848 rfl ?_
  refine v_iast ok rfl dX7_init_849 hf (fun h227 hf => ?_)
  refine v_dup ok dX7_init_850 rfl ?_
  refine v_iconst ok 3 dX7_init_851 rfl ?_
  refine v_iconst ok (-1) dX7_init_852 rfl ?_
  refine v_iast ok rfl dX7_init_853 hf (fun h228 hf => ?_)
  refine v_pR ok fl_X7_123 (by first | exact Or.inl ⟨_, rfl⟩ | exact Or.inr ⟨_, rfl⟩) (FN.ini cf_7.1 rfl hnm rfl) dX7_init_854 hf (fun h229 hf => ?_)
  refine v_aload_n ok 0 dX7_init_857 rfl rfl ?_
  refine v_iconst ok 4 dX7_init_858 rfl ?_
  refine v_newarr ok (t := 100) (atype := .int) (by decide) (by decide) rfl q539 (fun _ _ _ _ e1 e2 => by first | exact congrArg Value.int e1.symm | exact congrArg Value.long e2.symm) (by decide) dX7_init_859 hf (fun v230 h231 hf => ?_)
  refine v_pR ok fl_X7_126 (by first | exact Or.inl ⟨_, rfl⟩ | exact Or.inr ⟨_, rfl⟩) (FN.ini cf_7.1 rfl hnm rfl) dX7_init_861 hf (fun h232 hf => ?_)
  refine v_aload_n ok 0 dX7_init_864 rfl rfl ?_
  refine v_sipush ok 3200 dX7_init_865 rfl ?_
  refine v_newarr ok (t := 100) (atype := .int) (by decide) (by decide) rfl q539 (fun _ _ _ _ e1 e2 => by first | exact congrArg Value.int e1.symm | exact congrArg Value.long e2.symm) (by decide) dX7_init_868 hf (fun v233 h234 hf => ?_)
  refine v_pR ok fl_X7_129 (by first | exact Or.inl ⟨_, rfl⟩ | exact Or.inr ⟨_, rfl⟩) (FN.ini cf_7.1 rfl hnm rfl) dX7_init_870 hf (fun h235 hf => ?_)
  refine v_aload_n ok 0 dX7_init_873 rfl rfl ?_
  refine v_sipush ok 154 dX7_init_874 rfl ?_
  refine v_newarr ok (t := 100) (atype := .int) (by decide) (by decide) rfl q539 (fun _ _ _ _ e1 e2 => by first | exact congrArg Value.int e1.symm | exact congrArg Value.long e2.symm) (by decide) dX7_init_877 hf (fun v236 h237 hf => ?_)
  refine v_pR ok fl_X7_132 (by first | exact Or.inl ⟨_, rfl⟩ | exact Or.inr ⟨_, rfl⟩) (FN.ini cf_7.1 rfl hnm rfl) dX7_init_879 hf (fun h238 hf => ?_)
  refine v_aload_n ok 0 dX7_init_882 rfl rfl ?_
  refine v_bipush ok 33 dX7_init_883 rfl ?_
  refine v_newarr ok (t := 100) (atype := .int) (by decide) (by decide) rfl q539 (fun _ _ _ _ e1 e2 => by first | exact congrArg Value.int e1.symm | exact congrArg Value.long e2.symm) (by decide) dX7_init_885 hf (fun v239 h240 hf => ?_)
  refine v_pR ok fl_X7_135 (by first | exact Or.inl ⟨_, rfl⟩ | exact Or.inr ⟨_, rfl⟩) (FN.ini cf_7.1 rfl hnm rfl) dX7_init_887 hf (fun h241 hf => ?_)
  refine v_aload_n ok 0 dX7_init_890 rfl rfl ?_
  refine v_bipush ok 24 dX7_init_891 rfl ?_
  refine v_newarr ok (t := 100) (atype := .int) (by decide) (by decide) rfl q539 (fun _ _ _ _ e1 e2 => by first | exact congrArg Value.int e1.symm | exact congrArg Value.long e2.symm) (by decide) dX7_init_893 hf (fun v242 h243 hf => ?_)
  refine v_pR ok fl_X7_138 (by first | exact Or.inl ⟨_, rfl⟩ | exact Or.inr ⟨_, rfl⟩) (FN.ini cf_7.1 rfl hnm rfl) dX7_init_895 hf (fun h244 hf => ?_)
  refine v_aload_n ok 0 dX7_init_898 rfl rfl ?_
  refine v_bipush ok 6 dX7_init_899 rfl ?_
  refine v_newarr ok (t := 100) (atype := .int) (by decide) (by decide) rfl q539 (fun _ _ _ _ e1 e2 => by first | exact congrArg Value.int e1.symm | exact congrArg Value.long e2.symm) (by decide) dX7_init_901 hf (fun v245 h246 hf => ?_)
  refine v_pR ok fl_X7_141 (by first | exact Or.inl ⟨_, rfl⟩ | exact Or.inr ⟨_, rfl⟩) (FN.ini cf_7.1 rfl hnm rfl) dX7_init_903 hf (fun h247 hf => ?_)
  refine v_aload_n ok 0 dX7_init_906 rfl rfl ?_
  refine v_bipush ok 49 dX7_init_907 rfl ?_
  refine v_newarr ok (t := 100) (atype := .int) (by decide) (by decide) rfl q539 (fun _ _ _ _ e1 e2 => by first | exact congrArg Value.int e1.symm | exact congrArg Value.long e2.symm) (by decide) dX7_init_909 hf (fun v248 h249 hf => ?_)
  refine v_pR ok fl_X7_144 (by first | exact Or.inl ⟨_, rfl⟩ | exact Or.inr ⟨_, rfl⟩) (FN.ini cf_7.1 rfl hnm rfl) dX7_init_911 hf (fun h250 hf => ?_)
  refine v_aload_n ok 0 dX7_init_914 rfl rfl ?_
  refine v_bipush ok 49 dX7_init_915 rfl ?_
  refine v_newarr ok (t := 100) (atype := .int) (by decide) (by decide) rfl q539 (fun _ _ _ _ e1 e2 => by first | exact congrArg Value.int e1.symm | exact congrArg Value.long e2.symm) (by decide) dX7_init_917 hf (fun v251 h252 hf => ?_)
  refine v_pR ok fl_X7_147 (by first | exact Or.inl ⟨_, rfl⟩ | exact Or.inr ⟨_, rfl⟩) (FN.ini cf_7.1 rfl hnm rfl) dX7_init_919 hf (fun h253 hf => ?_)
  refine v_aload_n ok 0 dX7_init_922 rfl rfl ?_
  refine v_bipush ok 49 dX7_init_923 rfl ?_
  refine v_newarr ok (t := 100) (atype := .int) (by decide) (by decide) rfl q539 (fun _ _ _ _ e1 e2 => by first | exact congrArg Value.int e1.symm | exact congrArg Value.long e2.symm) (by decide) dX7_init_925 hf (fun v254 h255 hf => ?_)
  refine v_pR ok fl_X7_150 (by first | exact Or.inl ⟨_, rfl⟩ | exact Or.inr ⟨_, rfl⟩) (FN.ini cf_7.1 rfl hnm rfl) dX7_init_927 hf (fun h256 hf => ?_)
  refine v_aload_n ok 0 dX7_init_930 rfl rfl ?_
  refine v_bipush ok 64 dX7_init_931 rfl ?_
  refine v_newarr ok (t := 100) (atype := .int) (by decide) (by decide) rfl q539 (fun _ _ _ _ e1 e2 => by first | exact congrArg Value.int e1.symm | exact congrArg Value.long e2.symm) (by decide) dX7_init_933 hf (fun v257 h258 hf => ?_)
  refine v_pR ok fl_X7_153 (by first | exact Or.inl ⟨_, rfl⟩ | exact Or.inr ⟨_, rfl⟩) (FN.ini cf_7.1 rfl hnm rfl) dX7_init_935 hf (fun h259 hf => ?_)
  refine v_aload_n ok 0 dX7_init_938 rfl rfl ?_
  refine v_bipush ok 12 dX7_init_939 rfl ?_
  refine v_newarr ok (t := 100) (atype := .int) (by decide) (by decide) rfl q539 (fun _ _ _ _ e1 e2 => by first | exact congrArg Value.int e1.symm | exact congrArg Value.long e2.symm) (by decide) dX7_init_941 hf (fun v260 h261 hf => ?_)
  refine v_pR ok fl_X7_156 (by first | exact Or.inl ⟨_, rfl⟩ | exact Or.inr ⟨_, rfl⟩) (FN.ini cf_7.1 rfl hnm rfl) dX7_init_943 hf (fun h262 hf => ?_)
  refine v_aload_n ok 0 dX7_init_946 rfl rfl ?_
  refine v_bipush ok 12 dX7_init_947 rfl ?_
  refine v_newarr ok (t := 100) (atype := .int) (by decide) (by decide) rfl q539 (fun _ _ _ _ e1 e2 => by first | exact congrArg Value.int e1.symm | exact congrArg Value.long e2.symm) (by decide) dX7_init_949 hf (fun v263 h264 hf => ?_)
  refine v_pR ok fl_X7_159 (by first | exact Or.inl ⟨_, rfl⟩ | exact Or.inr ⟨_, rfl⟩) (FN.ini cf_7.1 rfl hnm rfl) dX7_init_951 hf (fun h265 hf => ?_)
  refine v_aload_n ok 0 dX7_init_954 rfl rfl ?_
  refine v_sipush ok 3080 dX7_init_955 rfl ?_
  refine v_newarr ok (t := 100) (atype := .int) (by decide) (by decide) rfl q539 (fun _ _ _ _ e1 e2 => by first | exact congrArg Value.int e1.symm | exact congrArg Value.long e2.symm) (by decide) dX7_init_958 hf (fun v266 h267 hf => ?_)
  refine v_pR ok fl_X7_162 (by first | exact Or.inl ⟨_, rfl⟩ | exact Or.inr ⟨_, rfl⟩) (FN.ini cf_7.1 rfl hnm rfl) dX7_init_960 hf (fun h268 hf => ?_)
  refine v_aload_n ok 0 dX7_init_963 rfl rfl ?_
  refine v_lconst ok 1 dX7_init_964 rfl ?_
  refine v_pL ok fl_X7_165 rfl (FN.of cf_7.1 rfl) dX7_init_965 hf (fun h269 hf => ?_)
  refine v_aload_n ok 0 dX7_init_968 rfl rfl ?_
  refine v_iconst ok 5 dX7_init_969 rfl ?_
  refine v_newarr ok (t := 102) (atype := .char) (by decide) (by decide) rfl q779 (fun _ _ _ _ e1 e2 => by first | exact congrArg Value.int e1.symm | exact congrArg Value.long e2.symm) (by decide) dX7_init_970 hf (fun v270 h271 hf => ?_)
  refine v_dup ok dX7_init_972 rfl ?_
  refine v_iconst ok 0 dX7_init_973 rfl ?_
  refine v_bipush ok 102 dX7_init_974 rfl ?_
  refine v_cast ok rfl dX7_init_976 hf (fun h272 hf => ?_)
  refine v_dup ok dX7_init_977 rfl ?_
  refine v_iconst ok 1 dX7_init_978 rfl ?_
  refine v_bipush ok 105 dX7_init_979 rfl ?_
  refine v_cast ok rfl dX7_init_981 hf (fun h273 hf => ?_)
  refine v_dup ok dX7_init_982 rfl ?_
  refine v_iconst ok 2 dX7_init_983 rfl ?_
  refine v_bipush ok 114 dX7_init_984 rfl ?_
  refine v_cast ok rfl dX7_init_986 hf (fun h274 hf => ?_)
  refine v_dup ok dX7_init_987 rfl ?_
  refine v_iconst ok 3 dX7_init_988 rfl ?_
  refine v_bipush ok 115 dX7_init_989 rfl ?_
  refine v_cast ok rfl dX7_init_991 hf (fun h275 hf => ?_)
  refine v_dup ok dX7_init_992 rfl ?_
  refine v_iconst ok 4 dX7_init_993 rfl ?_
  refine v_bipush ok 116 dX7_init_994 rfl ?_
  refine v_cast ok rfl dX7_init_996 hf (fun h276 hf => ?_)
  refine v_pR ok fl_X7_169 (by first | exact Or.inl ⟨_, rfl⟩ | exact Or.inr ⟨_, rfl⟩) (FN.ini cf_7.1 rfl hnm rfl) dX7_init_997 hf (fun h277 hf => ?_)
  refine v_aload_n ok 0 dX7_init_1000 rfl rfl ?_
  refine v_iconst ok 4 dX7_init_1001 rfl ?_
  refine v_newarr ok (t := 102) (atype := .char) (by decide) (by decide) rfl q779 (fun _ _ _ _ e1 e2 => by first | exact congrArg Value.int e1.symm | exact congrArg Value.long e2.symm) (by decide) dX7_init_1002 hf (fun v278 h279 hf => ?_)
  refine v_dup ok dX7_init_1004 rfl ?_
  refine v_iconst ok 0 dX7_init_1005 rfl ?_
  refine v_bipush ok 108 dX7_init_1006 rfl ?_
  refine v_cast ok rfl dX7_init_1008 hf (fun h280 hf => ?_)
  refine v_dup ok dX7_init_1009 rfl ?_
  refine v_iconst ok 1 dX7_init_1010 rfl ?_
  refine v_bipush ok 97 dX7_init_1011 rfl ?_
  refine v_cast ok rfl dX7_init_1013 hf (fun h281 hf => ?_)
  refine v_dup ok dX7_init_1014 rfl ?_
  refine v_iconst ok 2 dX7_init_1015 rfl ?_
  refine v_bipush ok 115 dX7_init_1016 rfl ?_
  refine v_cast ok rfl dX7_init_1018 hf (fun h282 hf => ?_)
  refine v_dup ok dX7_init_1019 rfl ?_
  refine v_iconst ok 3 dX7_init_1020 rfl ?_
  refine v_bipush ok 116 dX7_init_1021 rfl ?_
  refine v_cast ok rfl dX7_init_1023 hf (fun h283 hf => ?_)
  refine v_pR ok fl_X7_172 (by first | exact Or.inl ⟨_, rfl⟩ | exact Or.inr ⟨_, rfl⟩) (FN.ini cf_7.1 rfl hnm rfl) dX7_init_1024 hf (fun h284 hf => ?_)
  refine v_aload_n ok 0 dX7_init_1027 rfl rfl ?_
  refine v_iconst ok 5 dX7_init_1028 rfl ?_
  refine v_newarr ok (t := 102) (atype := .char) (by decide) (by decide) rfl q779 (fun _ _ _ _ e1 e2 => by first | exact congrArg Value.int e1.symm | exact congrArg Value.long e2.symm) (by decide) dX7_init_1029 hf (fun v285 h286 hf => ?_)
  refine v_dup ok dX7_init_1031 rfl ?_
  refine v_iconst ok 0 dX7_init_1032 rfl ?_
  refine v_bipush ok 111 dX7_init_1033 rfl ?_
  refine v_cast ok rfl dX7_init_1035 hf (fun h287 hf => ?_)
  refine v_dup ok dX7_init_1036 rfl ?_
  refine v_iconst ok 1 dX7_init_1037 rfl ?_
  refine v_bipush ok 102 dX7_init_1038 rfl ?_
  refine v_cast ok rfl dX7_init_1040 hf (fun h288 hf => ?_)
  refine v_dup ok dX7_init_1041 rfl ?_
  refine v_iconst ok 2 dX7_init_1042 rfl ?_
  refine v_bipush ok 116 dX7_init_1043 rfl ?_
  refine v_cast ok rfl dX7_init_1045 hf (fun h289 hf => ?_)
  refine v_dup ok dX7_init_1046 rfl ?_
  refine v_iconst ok 3 dX7_init_1047 rfl ?_
  refine v_bipush ok 101 dX7_init_1048 rfl ?_
  refine v_cast ok rfl dX7_init_1050 hf (fun h290 hf => ?_)
  refine v_dup ok dX7_init_1051 rfl ?_
  refine v_iconst ok 4 dX7_init_1052 rfl ?_
  refine v_bipush ok 110 dX7_init_1053 rfl ?_
  refine v_cast ok rfl dX7_init_1055 hf (fun h291 hf => ?_)
  refine v_pR ok fl_X7_175 (by first | exact Or.inl ⟨_, rfl⟩ | exact Or.inr ⟨_, rfl⟩) (FN.ini cf_7.1 rfl hnm rfl) dX7_init_1056 hf (fun h292 hf => ?_)
  refine v_aload_n ok 0 dX7_init_1059 rfl rfl ?_
  refine v_iconst ok 5 dX7_init_1060 rfl ?_
  refine v_newarr ok (t := 102) (atype := .char) (by decide) (by decide) rfl q779 (fun _ _ _ _ e1 e2 => by first | exact congrArg Value.int e1.symm | exact congrArg Value.long e2.symm) (by decide) dX7_init_1061 hf (fun v293 h294 hf => ?_)
  refine v_dup ok dX7_init_1063 rfl ?_
  refine v_iconst ok 0 dX7_init_1064 rfl ?_
  refine v_bipush ok 116 dX7_init_1065 rfl ?_
  refine v_cast ok rfl dX7_init_1067 hf (fun h295 hf => ?_)
  refine v_dup ok dX7_init_1068 rfl ?_
  refine v_iconst ok 1 dX7_init_1069 rfl ?_
  refine v_bipush ok 111 dX7_init_1070 rfl ?_
  refine v_cast ok rfl dX7_init_1072 hf (fun h296 hf => ?_)
  refine v_dup ok dX7_init_1073 rfl ?_
  refine v_iconst ok 2 dX7_init_1074 rfl ?_
  refine v_bipush ok 116 dX7_init_1075 rfl ?_
  refine v_cast ok rfl dX7_init_1077 hf (fun h297 hf => ?_)
  refine v_dup ok dX7_init_1078 rfl ?_
  refine v_iconst ok 3 dX7_init_1079 rfl ?_
  refine v_bipush ok 97 dX7_init_1080 rfl ?_
  refine v_cast ok rfl dX7_init_1082 hf (fun h298 hf => ?_)
  refine v_dup ok dX7_init_1083 rfl ?_
  refine v_iconst ok 4 dX7_init_1084 rfl ?_
  refine v_bipush ok 108 dX7_init_1085 rfl ?_
  refine v_cast ok rfl dX7_init_1087 hf (fun h299 hf => ?_)
  refine v_pR ok fl_X7_178 (by first | exact Or.inl ⟨_, rfl⟩ | exact Or.inr ⟨_, rfl⟩) (FN.ini cf_7.1 rfl hnm rfl) dX7_init_1088 hf (fun h300 hf => ?_)
  refine v_aload_n ok 0 dX7_init_1091 rfl rfl ?_
  refine v_iconst ok 4 dX7_init_1092 rfl ?_
  refine v_newarr ok (t := 102) (atype := .char) (by decide) (by decide) rfl q779 (fun _ _ _ _ e1 e2 => by first | exact congrArg Value.int e1.symm | exact congrArg Value.long e2.symm) (by decide) dX7_init_1093 hf (fun v301 h302 hf => ?_)
  refine v_dup ok dX7_init_1095 rfl ?_
  refine v_iconst ok 0 dX7_init_1096 rfl ?_
  refine v_bipush ok 109 dX7_init_1097 rfl ?_
  refine v_cast ok rfl dX7_init_1099 hf (fun h303 hf => ?_)
  refine v_dup ok dX7_init_1100 rfl ?_
  refine v_iconst ok 1 dX7_init_1101 rfl ?_
  refine v_bipush ok 111 dX7_init_1102 rfl ?_
  refine v_cast ok rfl dX7_init_1104 hf (fun h304 hf => ?_)
  refine v_dup ok dX7_init_1105 rfl ?_
  refine v_iconst ok 2 dX7_init_1106 rfl ?_
  refine v_bipush ok 115 dX7_init_1107 rfl ?_
  refine v_cast ok rfl dX7_init_1109 hf (fun h305 hf => ?_)
  refine v_dup ok dX7_init_1110 rfl ?_
  refine v_iconst ok 3 dX7_init_1111 rfl ?_
  refine v_bipush ok 116 dX7_init_1112 rfl ?_
  refine v_cast ok rfl dX7_init_1114 hf (fun h306 hf => ?_)
  refine v_pR ok fl_X7_181 (by first | exact Or.inl ⟨_, rfl⟩ | exact Or.inr ⟨_, rfl⟩) (FN.ini cf_7.1 rfl hnm rfl) dX7_init_1115 hf (fun h307 hf => ?_)
  refine v_aload_n ok 0 dX7_init_1118 rfl rfl ?_
  refine v_iconst ok 5 dX7_init_1119 rfl ?_
  refine v_newarr ok (t := 102) (atype := .char) (by decide) (by decide) rfl q779 (fun _ _ _ _ e1 e2 => by first | exact congrArg Value.int e1.symm | exact congrArg Value.long e2.symm) (by decide) dX7_init_1120 hf (fun v308 h309 hf => ?_)
  refine v_dup ok dX7_init_1122 rfl ?_
  refine v_iconst ok 0 dX7_init_1123 rfl ?_
  refine v_bipush ok 108 dX7_init_1124 rfl ?_
  refine v_cast ok rfl dX7_init_1126 hf (fun h310 hf => ?_)
  refine v_dup ok dX7_init_1127 rfl ?_
  refine v_iconst ok 1 dX7_init_1128 rfl ?_
  refine v_bipush ok 101 dX7_init_1129 rfl ?_
  refine v_cast ok rfl dX7_init_1131 hf (fun h311 hf => ?_)
  refine v_dup ok dX7_init_1132 rfl ?_
  refine v_iconst ok 2 dX7_init_1133 rfl ?_
  refine v_bipush ok 97 dX7_init_1134 rfl ?_
  refine v_cast ok rfl dX7_init_1136 hf (fun h312 hf => ?_)
  refine v_dup ok dX7_init_1137 rfl ?_
  refine v_iconst ok 3 dX7_init_1138 rfl ?_
  refine v_bipush ok 115 dX7_init_1139 rfl ?_
  refine v_cast ok rfl dX7_init_1141 hf (fun h313 hf => ?_)
  refine v_dup ok dX7_init_1142 rfl ?_
  refine v_iconst ok 4 dX7_init_1143 rfl ?_
  refine v_bipush ok 116 dX7_init_1144 rfl ?_
  refine v_cast ok rfl dX7_init_1146 hf (fun h314 hf => ?_)
  refine v_pR ok fl_X7_184 (by first | exact Or.inl ⟨_, rfl⟩ | exact Or.inr ⟨_, rfl⟩) (FN.ini cf_7.1 rfl hnm rfl) dX7_init_1147 hf (fun h315 hf => ?_)
  refine v_aload_n ok 0 dX7_init_1150 rfl rfl ?_
  refine v_iconst ok 3 dX7_init_1151 rfl ?_
  refine v_newarr ok (t := 102) (atype := .char) (by decide) (by decide) rfl q779 (fun _ _ _ _ e1 e2 => by first | exact congrArg Value.int e1.symm | exact congrArg Value.long e2.symm) (by decide) dX7_init_1152 hf (fun v316 h317 hf => ?_)
  refine v_dup ok dX7_init_1154 rfl ?_
  refine v_iconst ok 0 dX7_init_1155 rfl ?_
  refine v_bipush ok 110 dX7_init_1156 rfl ?_
  refine v_cast ok rfl dX7_init_1158 hf (fun h318 hf => ?_)
  refine v_dup ok dX7_init_1159 rfl ?_
  refine v_iconst ok 1 dX7_init_1160 rfl ?_
  refine v_bipush ok 111 dX7_init_1161 rfl ?_
  refine v_cast ok rfl dX7_init_1163 hf (fun h319 hf => ?_)
  refine v_dup ok dX7_init_1164 rfl ?_
  refine v_iconst ok 2 dX7_init_1165 rfl ?_
  refine v_bipush ok 116 dX7_init_1166 rfl ?_
  refine v_cast ok rfl dX7_init_1168 hf (fun h320 hf => ?_)
  refine v_pR ok fl_X7_187 (by first | exact Or.inl ⟨_, rfl⟩ | exact Or.inr ⟨_, rfl⟩) (FN.ini cf_7.1 rfl hnm rfl) dX7_init_1169 hf (fun h321 hf => ?_)
  refine v_aload_n ok 0 dX7_init_1172 rfl rfl ?_
  refine v_iconst ok 3 dX7_init_1173 rfl ?_
  refine v_newarr ok (t := 102) (atype := .char) (by decide) (by decide) rfl q779 (fun _ _ _ _ e1 e2 => by first | exact congrArg Value.int e1.symm | exact congrArg Value.long e2.symm) (by decide) dX7_init_1174 hf (fun v322 h323 hf => ?_)
  refine v_dup ok dX7_init_1176 rfl ?_
  refine v_iconst ok 0 dX7_init_1177 rfl ?_
  refine v_bipush ok 97 dX7_init_1178 rfl ?_
  refine v_cast ok rfl dX7_init_1180 hf (fun h324 hf => ?_)
  refine v_dup ok dX7_init_1181 rfl ?_
  refine v_iconst ok 1 dX7_init_1182 rfl ?_
  refine v_bipush ok 110 dX7_init_1183 rfl ?_
  refine v_cast ok rfl dX7_init_1185 hf (fun h325 hf => ?_)
  refine v_dup ok dX7_init_1186 rfl ?_
  refine v_iconst ok 2 dX7_init_1187 rfl ?_
  refine v_bipush ok 100 dX7_init_1188 rfl ?_
  refine v_cast ok rfl dX7_init_1190 hf (fun h326 hf => ?_)
  refine v_pR ok fl_X7_190 (by first | exact Or.inl ⟨_, rfl⟩ | exact Or.inr ⟨_, rfl⟩) (FN.ini cf_7.1 rfl hnm rfl) dX7_init_1191 hf (fun h327 hf => ?_)
  refine v_aload_n ok 0 dX7_init_1194 rfl rfl ?_
  refine v_iconst ok 2 dX7_init_1195 rfl ?_
  refine v_newarr ok (t := 102) (atype := .char) (by decide) (by decide) rfl q779 (fun _ _ _ _ e1 e2 => by first | exact congrArg Value.int e1.symm | exact congrArg Value.long e2.symm) (by decide) dX7_init_1196 hf (fun v328 h329 hf => ?_)
  refine v_dup ok dX7_init_1198 rfl ?_
  refine v_iconst ok 0 dX7_init_1199 rfl ?_
  refine v_bipush ok 111 dX7_init_1200 rfl ?_
  refine v_cast ok rfl dX7_init_1202 hf (fun h330 hf => ?_)
  refine v_dup ok dX7_init_1203 rfl ?_
  refine v_iconst ok 1 dX7_init_1204 rfl ?_
  refine v_bipush ok 114 dX7_init_1205 rfl ?_
  refine v_cast ok rfl dX7_init_1207 hf (fun h331 hf => ?_)
  refine v_pR ok fl_X7_193 (by first | exact Or.inl ⟨_, rfl⟩ | exact Or.inr ⟨_, rfl⟩) (FN.ini cf_7.1 rfl hnm rfl) dX7_init_1208 hf (fun h332 hf => ?_)
  refine v_aload_n ok 0 dX7_init_1211 rfl rfl ?_
  refine v_iconst ok 3 dX7_init_1212 rfl ?_
  refine v_newarr ok (t := 102) (atype := .char) (by decide) (by decide) rfl q779 (fun _ _ _ _ e1 e2 => by first | exact congrArg Value.int e1.symm | exact congrArg Value.long e2.symm) (by decide) dX7_init_1213 hf (fun v333 h334 hf => ?_)
  refine v_dup ok dX7_init_1215 rfl ?_
  refine v_iconst ok 0 dX7_init_1216 rfl ?_
  refine v_bipush ok 97 dX7_init_1217 rfl ?_
  refine v_cast ok rfl dX7_init_1219 hf (fun h335 hf => ?_)
  refine v_dup ok dX7_init_1220 rfl ?_
  refine v_iconst ok 1 dX7_init_1221 rfl ?_
  refine v_bipush ok 108 dX7_init_1222 rfl ?_
  refine v_cast ok rfl dX7_init_1224 hf (fun h336 hf => ?_)
  refine v_dup ok dX7_init_1225 rfl ?_
  refine v_iconst ok 2 dX7_init_1226 rfl ?_
  refine v_bipush ok 108 dX7_init_1227 rfl ?_
  refine v_cast ok rfl dX7_init_1229 hf (fun h337 hf => ?_)
  refine v_pR ok fl_X7_196 (by first | exact Or.inl ⟨_, rfl⟩ | exact Or.inr ⟨_, rfl⟩) (FN.ini cf_7.1 rfl hnm rfl) dX7_init_1230 hf (fun h338 hf => ?_)
  refine v_aload_n ok 0 dX7_init_1233 rfl rfl ?_
  refine v_iconst ok 3 dX7_init_1234 rfl ?_
  refine v_newarr ok (t := 102) (atype := .char) (by decide) (by decide) rfl q779 (fun _ _ _ _ e1 e2 => by first | exact congrArg Value.int e1.symm | exact congrArg Value.long e2.symm) (by decide) dX7_init_1235 hf (fun v339 h340 hf => ?_)
  refine v_dup ok dX7_init_1237 rfl ?_
  refine v_iconst ok 0 dX7_init_1238 rfl ?_
  refine v_bipush ok 109 dX7_init_1239 rfl ?_
  refine v_cast ok rfl dX7_init_1241 hf (fun h341 hf => ?_)
  refine v_dup ok dX7_init_1242 rfl ?_
  refine v_iconst ok 1 dX7_init_1243 rfl ?_
  refine v_bipush ok 105 dX7_init_1244 rfl ?_
  refine v_cast ok rfl dX7_init_1246 hf (fun h342 hf => ?_)
  refine v_dup ok dX7_init_1247 rfl ?_
  refine v_iconst ok 2 dX7_init_1248 rfl ?_
  refine v_bipush ok 110 dX7_init_1249 rfl ?_
  refine v_cast ok rfl dX7_init_1251 hf (fun h343 hf => ?_)
  refine v_pR ok fl_X7_199 (by first | exact Or.inl ⟨_, rfl⟩ | exact Or.inr ⟨_, rfl⟩) (FN.ini cf_7.1 rfl hnm rfl) dX7_init_1252 hf (fun h344 hf => ?_)
  refine v_aload_n ok 0 dX7_init_1255 rfl rfl ?_
  refine v_iconst ok 3 dX7_init_1256 rfl ?_
  refine v_newarr ok (t := 102) (atype := .char) (by decide) (by decide) rfl q779 (fun _ _ _ _ e1 e2 => by first | exact congrArg Value.int e1.symm | exact congrArg Value.long e2.symm) (by decide) dX7_init_1257 hf (fun v345 h346 hf => ?_)
  refine v_dup ok dX7_init_1259 rfl ?_
  refine v_iconst ok 0 dX7_init_1260 rfl ?_
  refine v_bipush ok 109 dX7_init_1261 rfl ?_
  refine v_cast ok rfl dX7_init_1263 hf (fun h347 hf => ?_)
  refine v_dup ok dX7_init_1264 rfl ?_
  refine v_iconst ok 1 dX7_init_1265 rfl ?_
  refine v_bipush ok 97 dX7_init_1266 rfl ?_
  refine v_cast ok rfl dX7_init_1268 hf (fun h348 hf => ?_)
  refine v_dup ok dX7_init_1269 rfl ?_
  refine v_iconst ok 2 dX7_init_1270 rfl ?_
  refine v_bipush ok 120 dX7_init_1271 rfl ?_
  refine v_cast ok rfl dX7_init_1273 hf (fun h349 hf => ?_)
  refine v_pR ok fl_X7_202 (by first | exact Or.inl ⟨_, rfl⟩ | exact Or.inr ⟨_, rfl⟩) (FN.ini cf_7.1 rfl hnm rfl) dX7_init_1274 hf (fun h350 hf => ?_)
  refine v_aload_n ok 0 dX7_init_1277 rfl rfl ?_
  refine v_iconst ok 4 dX7_init_1278 rfl ?_
  refine v_newarr ok (t := 102) (atype := .char) (by decide) (by decide) rfl q779 (fun _ _ _ _ e1 e2 => by first | exact congrArg Value.int e1.symm | exact congrArg Value.long e2.symm) (by decide) dX7_init_1279 hf (fun v351 h352 hf => ?_)
  refine v_dup ok dX7_init_1281 rfl ?_
  refine v_iconst ok 0 dX7_init_1282 rfl ?_
  refine v_bipush ok 109 dX7_init_1283 rfl ?_
  refine v_cast ok rfl dX7_init_1285 hf (fun h353 hf => ?_)
  refine v_dup ok dX7_init_1286 rfl ?_
  refine v_iconst ok 1 dX7_init_1287 rfl ?_
  refine v_bipush ok 111 dX7_init_1288 rfl ?_
  refine v_cast ok rfl dX7_init_1290 hf (fun h354 hf => ?_)
  refine v_dup ok dX7_init_1291 rfl ?_
  refine v_iconst ok 2 dX7_init_1292 rfl ?_
  refine v_bipush ok 114 dX7_init_1293 rfl ?_
  refine v_cast ok rfl dX7_init_1295 hf (fun h355 hf => ?_)
  refine v_dup ok dX7_init_1296 rfl ?_
  refine v_iconst ok 3 dX7_init_1297 rfl ?_
  refine v_bipush ok 101 dX7_init_1298 rfl ?_
  refine v_cast ok rfl dX7_init_1300 hf (fun h356 hf => ?_)
  refine v_pR ok fl_X7_205 (by first | exact Or.inl ⟨_, rfl⟩ | exact Or.inr ⟨_, rfl⟩) (FN.ini cf_7.1 rfl hnm rfl) dX7_init_1301 hf (fun h357 hf => ?_)
  refine v_aload_n ok 0 dX7_init_1304 rfl rfl ?_
  refine v_iconst ok 4 dX7_init_1305 rfl ?_
  refine v_newarr ok (t := 102) (atype := .char) (by decide) (by decide) rfl q779 (fun _ _ _ _ e1 e2 => by first | exact congrArg Value.int e1.symm | exact congrArg Value.long e2.symm) (by decide) dX7_init_1306 hf (fun v358 h359 hf => ?_)
  refine v_dup ok dX7_init_1308 rfl ?_
  refine v_iconst ok 0 dX7_init_1309 rfl ?_
  refine v_bipush ok 108 dX7_init_1310 rfl ?_
  refine v_cast ok rfl dX7_init_1312 hf (fun h360 hf => ?_)
  refine v_dup ok dX7_init_1313 rfl ?_
  refine v_iconst ok 1 dX7_init_1314 rfl ?_
  refine v_bipush ok 101 dX7_init_1315 rfl ?_
  refine v_cast ok rfl dX7_init_1317 hf (fun h361 hf => ?_)
  refine v_dup ok dX7_init_1318 rfl ?_
  refine v_iconst ok 2 dX7_init_1319 rfl ?_
  refine v_bipush ok 115 dX7_init_1320 rfl ?_
  refine v_cast ok rfl dX7_init_1322 hf (fun h362 hf => ?_)
  refine v_dup ok dX7_init_1323 rfl ?_
  refine v_iconst ok 3 dX7_init_1324 rfl ?_
  refine v_bipush ok 115 dX7_init_1325 rfl ?_
  refine v_cast ok rfl dX7_init_1327 hf (fun h363 hf => ?_)
  refine v_pR ok fl_X7_208 (by first | exact Or.inl ⟨_, rfl⟩ | exact Or.inr ⟨_, rfl⟩) (FN.ini cf_7.1 rfl hnm rfl) dX7_init_1328 hf (fun h364 hf => ?_)
  refine v_aload_n ok 0 dX7_init_1331 rfl rfl ?_
  refine v_iconst ok 3 dX7_init_1332 rfl ?_
  refine v_newarr ok (t := 102) (atype := .char) (by decide) (by decide) rfl q779 (fun _ _ _ _ e1 e2 => by first | exact congrArg Value.int e1.symm | exact congrArg Value.long e2.symm) (by decide) dX7_init_1333 hf (fun v365 h366 hf => ?_)
  refine v_dup ok dX7_init_1335 rfl ?_
  refine v_iconst ok 0 dX7_init_1336 rfl ?_
  refine v_bipush ok 105 dX7_init_1337 rfl ?_
  refine v_cast ok rfl dX7_init_1339 hf (fun h367 hf => ?_)
  refine v_dup ok dX7_init_1340 rfl ?_
  refine v_iconst ok 1 dX7_init_1341 rfl ?_
  refine v_bipush ok 110 dX7_init_1342 rfl ?_
  refine v_cast ok rfl dX7_init_1344 hf (fun h368 hf => ?_)
  refine v_dup ok dX7_init_1345 rfl ?_
  refine v_iconst ok 2 dX7_init_1346 rfl ?_
  refine v_bipush ok 107 dX7_init_1347 rfl ?_
  refine v_cast ok rfl dX7_init_1349 hf (fun h369 hf => ?_)
  refine v_pR ok fl_X7_211 (by first | exact Or.inl ⟨_, rfl⟩ | exact Or.inr ⟨_, rfl⟩) (FN.ini cf_7.1 rfl hnm rfl) dX7_init_1350 hf (fun h370 hf => ?_)
  refine v_aload_n ok 0 dX7_init_1353 rfl rfl ?_
  refine v_bipush ok 6 dX7_init_1354 rfl ?_
  refine v_newarr ok (t := 102) (atype := .char) (by decide) (by decide) rfl q779 (fun _ _ _ _ e1 e2 => by first | exact congrArg Value.int e1.symm | exact congrArg Value.long e2.symm) (by decide) dX7_init_1356 hf (fun v371 h372 hf => ?_)
  refine v_dup ok dX7_init_1358 rfl ?_
  refine v_iconst ok 0 dX7_init_1359 rfl ?_
  refine v_bipush ok 99 dX7_init_1360 rfl ?_
  refine v_cast ok rfl dX7_init_1362 hf (fun h373 hf => ?_)
  refine v_dup ok dX7_init_1363 rfl ?_
  refine v_iconst ok 1 dX7_init_1364 rfl ?_
  refine v_bipush ok 111 dX7_init_1365 rfl ?_
  refine v_cast ok rfl dX7_init_1367 hf (fun h374 hf => ?_)
  refine v_dup ok dX7_init_1368 rfl ?_
  refine v_iconst ok 2 dX7_init_1369 rfl ?_
  refine v_bipush ok 108 dX7_init_1370 rfl ?_
  refine v_cast ok rfl dX7_init_1372 hf (fun h375 hf => ?_)
  refine v_dup ok dX7_init_1373 rfl ?_
  refine v_iconst ok 3 dX7_init_1374 rfl ?_
  refine v_bipush ok 117 dX7_init_1375 rfl ?_
  refine v_cast ok rfl dX7_init_1377 hf (fun h376 hf => ?_)
  refine v_dup ok dX7_init_1378 rfl ?_
  refine v_iconst ok 4 dX7_init_1379 rfl ?_
  refine v_bipush ok 109 dX7_init_1380 rfl ?_
  refine v_cast ok rfl dX7_init_1382 hf (fun h377 hf => ?_)
  refine v_dup ok dX7_init_1383 rfl ?_
  refine v_iconst ok 5 dX7_init_1384 rfl ?_
  refine v_bipush ok 110 dX7_init_1385 rfl ?_
  refine v_cast ok rfl dX7_init_1387 hf (fun h378 hf => ?_)
  refine v_pR ok fl_X7_214 (by first | exact Or.inl ⟨_, rfl⟩ | exact Or.inr ⟨_, rfl⟩) (FN.ini cf_7.1 rfl hnm rfl) dX7_init_1388 hf (fun h379 hf => ?_)
  refine v_aload_n ok 0 dX7_init_1391 rfl rfl ?_
  refine v_iconst ok 3 dX7_init_1392 rfl ?_
  refine v_newarr ok (t := 102) (atype := .char) (by decide) (by decide) rfl q779 (fun _ _ _ _ e1 e2 => by first | exact congrArg Value.int e1.symm | exact congrArg Value.long e2.symm) (by decide) dX7_init_1393 hf (fun v380 h381 hf => ?_)
  refine v_dup ok dX7_init_1395 rfl ?_
  refine v_iconst ok 0 dX7_init_1396 rfl ?_
  refine v_bipush ok 114 dX7_init_1397 rfl ?_
  refine v_cast ok rfl dX7_init_1399 hf (fun h382 hf => ?_)
  refine v_dup ok dX7_init_1400 rfl ?_
  refine v_iconst ok 1 dX7_init_1401 rfl ?_
  refine v_bipush ok 111 dX7_init_1402 rfl ?_
  refine v_cast ok rfl dX7_init_1404 hf (fun h383 hf => ?_)
  refine v_dup ok dX7_init_1405 rfl ?_
  refine v_iconst ok 2 dX7_init_1406 rfl ?_
  refine v_bipush ok 119 dX7_init_1407 rfl ?_
  refine v_cast ok rfl dX7_init_1409 hf (fun h384 hf => ?_)
  refine v_pR ok fl_X7_217 (by first | exact Or.inl ⟨_, rfl⟩ | exact Or.inr ⟨_, rfl⟩) (FN.ini cf_7.1 rfl hnm rfl) dX7_init_1410 hf (fun h385 hf => ?_)
  refine v_aload_n ok 0 dX7_init_1413 rfl rfl ?_
  refine v_iconst ok 5 dX7_init_1414 rfl ?_
  refine v_newarr ok (t := 102) (atype := .char) (by decide) (by decide) rfl q779 (fun _ _ _ _ e1 e2 => by first | exact congrArg Value.int e1.symm | exact congrArg Value.long e2.symm) (by decide) dX7_init_1415 hf (fun v386 h387 hf => ?_)
  refine v_dup ok dX7_init_1417 rfl ?_
  refine v_iconst ok 0 dX7_init_1418 rfl ?_
  refine v_bipush ok 112 dX7_init_1419 rfl ?_
  refine v_cast ok rfl dX7_init_1421 hf (fun h388 hf => ?_)
  refine v_dup ok dX7_init_1422 rfl ?_
  refine v_iconst ok 1 dX7_init_1423 rfl ?_
  refine v_bipush ok 108 dX7_init_1424 rfl ?_
  refine v_cast ok rfl dX7_init_1426 hf (fun h389 hf => ?_)
  refine v_dup ok dX7_init_1427 rfl ?_
  refine v_iconst ok 2 dX7_init_1428 rfl ?_
  refine v_bipush ok 97 dX7_init_1429 rfl ?_
  refine v_cast ok rfl dX7_init_1431 hf (fun h390 hf => ?_)
  refine v_dup ok dX7_init_1432 rfl ?_
  refine v_iconst ok 3 dX7_init_1433 rfl ?_
  refine v_bipush ok 99 dX7_init_1434 rfl ?_
  refine v_cast ok rfl dX7_init_1436 hf (fun h391 hf => ?_)
  refine v_dup ok dX7_init_1437 rfl ?_
  refine v_iconst ok 4 dX7_init_1438 rfl ?_
  refine v_bipush ok 101 dX7_init_1439 rfl ?_
  refine v_cast ok rfl dX7_init_1441 hf (fun h392 hf => ?_)
  refine v_pR ok fl_X7_220 (by first | exact Or.inl ⟨_, rfl⟩ | exact Or.inr ⟨_, rfl⟩) (FN.ini cf_7.1 rfl hnm rfl) dX7_init_1442 hf (fun h393 hf => ?_)
  refine v_aload_n ok 0 dX7_init_1445 rfl rfl ?_
  refine v_iconst ok 4 dX7_init_1446 rfl ?_
  refine v_newarr ok (t := 102) (atype := .char) (by decide) (by decide) rfl q779 (fun _ _ _ _ e1 e2 => by first | exact congrArg Value.int e1.symm | exact congrArg Value.long e2.symm) (by decide) dX7_init_1447 hf (fun v394 h395 hf => ?_)
  refine v_dup ok dX7_init_1449 rfl ?_
  refine v_iconst ok 0 dX7_init_1450 rfl ?_
  refine v_bipush ok 110 dX7_init_1451 rfl ?_
  refine v_cast ok rfl dX7_init_1453 hf (fun h396 hf => ?_)
  refine v_dup ok dX7_init_1454 rfl ?_
  refine v_iconst ok 1 dX7_init_1455 rfl ?_
  refine v_bipush ok 101 dX7_init_1456 rfl ?_
  refine v_cast ok rfl dX7_init_1458 hf (fun h397 hf => ?_)
  refine v_dup ok dX7_init_1459 rfl ?_
  refine v_iconst ok 2 dX7_init_1460 rfl ?_
  refine v_bipush ok 97 dX7_init_1461 rfl ?_
  refine v_cast ok rfl dX7_init_1463 hf (fun h398 hf => ?_)
  refine v_dup ok dX7_init_1464 rfl ?_
  refine v_iconst ok 3 dX7_init_1465 rfl ?_
  refine v_bipush ok 114 dX7_init_1466 rfl ?_
  refine v_cast ok rfl dX7_init_1468 hf (fun h399 hf => ?_)
  refine v_pR ok fl_X7_223 (by first | exact Or.inl ⟨_, rfl⟩ | exact Or.inr ⟨_, rfl⟩) (FN.ini cf_7.1 rfl hnm rfl) dX7_init_1469 hf (fun h400 hf => ?_)
  refine v_aload_n ok 0 dX7_init_1472 rfl rfl ?_
  refine v_iconst ok 4 dX7_init_1473 rfl ?_
  refine v_newarr ok (t := 102) (atype := .char) (by decide) (by decide) rfl q779 (fun _ _ _ _ e1 e2 => by first | exact congrArg Value.int e1.symm | exact congrArg Value.long e2.symm) (by decide) dX7_init_1474 hf (fun v401 h402 hf => ?_)
  refine v_dup ok dX7_init_1476 rfl ?_
  refine v_iconst ok 0 dX7_init_1477 rfl ?_
  refine v_bipush ok 121 dX7_init_1478 rfl ?_
  refine v_cast ok rfl dX7_init_1480 hf (fun h403 hf => ?_)
  refine v_dup ok dX7_init_1481 rfl ?_
  refine v_iconst ok 1 dX7_init_1482 rfl ?_
  refine v_bipush ok 101 dX7_init_1483 rfl ?_
  refine v_cast ok rfl dX7_init_1485 hf (fun h404 hf => ?_)
  refine v_dup ok dX7_init_1486 rfl ?_
  refine v_iconst ok 2 dX7_init_1487 rfl ?_
  refine v_bipush ok 97 dX7_init_1488 rfl ?_
  refine v_cast ok rfl dX7_init_1490 hf (fun h405 hf => ?_)
  refine v_dup ok dX7_init_1491 rfl ?_
  refine v_iconst ok 3 dX7_init_1492 rfl ?_
  refine v_bipush ok 114 dX7_init_1493 rfl ?_
  refine v_cast ok rfl dX7_init_1495 hf (fun h406 hf => ?_)
  refine v_pR ok fl_X7_226 (by first | exact Or.inl ⟨_, rfl⟩ | exact Or.inr ⟨_, rfl⟩) (FN.ini cf_7.1 rfl hnm rfl) dX7_init_1496 hf (fun h407 hf => ?_)
  refine v_aload_n ok 0 dX7_init_1499 rfl rfl ?_
  refine v_bipush ok 6 dX7_init_1500 rfl ?_
  refine v_newarr ok (t := 102) (atype := .char) (by decide) (by decide) rfl q779 (fun _ _ _ _ e1 e2 => by first | exact congrArg Value.int e1.symm | exact congrArg Value.long e2.symm) (by decide) dX7_init_1502 hf (fun v408 h409 hf => ?_)
  refine v_dup ok dX7_init_1504 rfl ?_
  refine v_iconst ok 0 dX7_init_1505 rfl ?_
  refine v_bipush ok 110 dX7_init_1506 rfl ?_
  refine v_cast ok rfl dX7_init_1508 hf (fun h410 hf => ?_)
  refine v_dup ok dX7_init_1509 rfl ?_
  refine v_iconst ok 1 dX7_init_1510 rfl ?_
  refine v_bipush ok 117 dX7_init_1511 rfl ?_
  refine v_cast ok rfl dX7_init_1513 hf (fun h411 hf => ?_)
  refine v_dup ok dX7_init_1514 rfl ?_
  refine v_iconst ok 2 dX7_init_1515 rfl ?_
  refine v_bipush ok 109 dX7_init_1516 rfl ?_
  refine v_cast ok rfl dX7_init_1518 hf (fun h412 hf => ?_)
  refine v_dup ok dX7_init_1519 rfl ?_
  refine v_iconst ok 3 dX7_init_1520 rfl ?_
  refine v_bipush ok 98 dX7_init_1521 rfl ?_
  refine v_cast ok rfl dX7_init_1523 hf (fun h413 hf => ?_)
  refine v_dup ok dX7_init_1524 rfl ?_
  refine v_iconst ok 4 dX7_init_1525 rfl ?_
  refine v_bipush ok 101 dX7_init_1526 rfl ?_
  refine v_cast ok rfl dX7_init_1528 hf (fun h414 hf => ?_)
  refine v_dup ok dX7_init_1529 rfl ?_
  refine v_iconst ok 5 dX7_init_1530 rfl ?_
  refine v_bipush ok 114 dX7_init_1531 rfl ?_
  refine v_cast ok rfl dX7_init_1533 hf (fun h415 hf => ?_)
  refine v_pR ok fl_X7_229 (by first | exact Or.inl ⟨_, rfl⟩ | exact Or.inr ⟨_, rfl⟩) (FN.ini cf_7.1 rfl hnm rfl) dX7_init_1534 hf (fun h416 hf => ?_)
  refine v_aload_n ok 0 dX7_init_1537 rfl rfl ?_
  refine v_iconst ok 4 dX7_init_1538 rfl ?_
  refine v_newarr ok (t := 102) (atype := .char) (by decide) (by decide) rfl q779 (fun _ _ _ _ e1 e2 => by first | exact congrArg Value.int e1.symm | exact congrArg Value.long e2.symm) (by decide) dX7_init_1539 hf (fun v417 h418 hf => ?_)
  refine v_dup ok dX7_init_1541 rfl ?_
  refine v_iconst ok 0 dX7_init_1542 rfl ?_
  refine v_bipush ok 108 dX7_init_1543 rfl ?_
  refine v_cast ok rfl dX7_init_1545 hf (fun h419 hf => ?_)
  refine v_dup ok dX7_init_1546 rfl ?_
  refine v_iconst ok 1 dX7_init_1547 rfl ?_
  refine v_bipush ok 111 dX7_init_1548 rfl ?_
  refine v_cast ok rfl dX7_init_1550 hf (fun h420 hf => ?_)
  refine v_dup ok dX7_init_1551 rfl ?_
  refine v_iconst ok 2 dX7_init_1552 rfl ?_
  refine v_bipush ok 110 dX7_init_1553 rfl ?_
  refine v_cast ok rfl dX7_init_1555 hf (fun h421 hf => ?_)
  refine v_dup ok dX7_init_1556 rfl ?_
  refine v_iconst ok 3 dX7_init_1557 rfl ?_
  refine v_bipush ok 103 dX7_init_1558 rfl ?_
  refine v_cast ok rfl dX7_init_1560 hf (fun h422 hf => ?_)
  refine v_pR ok fl_X7_232 (by first | exact Or.inl ⟨_, rfl⟩ | exact Or.inr ⟨_, rfl⟩) (FN.ini cf_7.1 rfl hnm rfl) dX7_init_1561 hf (fun h423 hf => ?_)
  refine v_aload_n ok 0 dX7_init_1564 rfl rfl ?_
  refine v_iconst ok 4 dX7_init_1565 rfl ?_
  refine v_newarr ok (t := 102) (atype := .char) (by decide) (by decide) rfl q779 (fun _ _ _ _ e1 e2 => by first | exact congrArg Value.int e1.symm | exact congrArg Value.long e2.symm) (by decide) dX7_init_1566 hf (fun v424 h425 hf => ?_)
  refine v_dup ok dX7_init_1568 rfl ?_
  refine v_iconst ok 0 dX7_init_1569 rfl ?_
  refine v_bipush ok 108 dX7_init_1570 rfl ?_
  refine v_cast ok rfl dX7_init_1572 hf (fun h426 hf => ?_)
  refine v_dup ok dX7_init_1573 rfl ?_
  refine v_iconst ok 1 dX7_init_1574 rfl ?_
  refine v_bipush ok 105 dX7_init_1575 rfl ?_
  refine v_cast ok rfl dX7_init_1577 hf (fun h427 hf => ?_)
  refine v_dup ok dX7_init_1578 rfl ?_
  refine v_iconst ok 2 dX7_init_1579 rfl ?_
  refine v_bipush ok 110 dX7_init_1580 rfl ?_
  refine v_cast ok rfl dX7_init_1582 hf (fun h428 hf => ?_)
  refine v_dup ok dX7_init_1583 rfl ?_
  refine v_iconst ok 3 dX7_init_1584 rfl ?_
  refine v_bipush ok 101 dX7_init_1585 rfl ?_
  refine v_cast ok rfl dX7_init_1587 hf (fun h429 hf => ?_)
  refine v_pR ok fl_X7_235 (by first | exact Or.inl ⟨_, rfl⟩ | exact Or.inr ⟨_, rfl⟩) (FN.ini cf_7.1 rfl hnm rfl) dX7_init_1588 hf (fun h430 hf => ?_)
  refine v_aload_n ok 0 dX7_init_1591 rfl rfl ?_
  refine v_iconst ok 2 dX7_init_1592 rfl ?_
  refine v_newarr ok (t := 102) (atype := .char) (by decide) (by decide) rfl q779 (fun _ _ _ _ e1 e2 => by first | exact congrArg Value.int e1.symm | exact congrArg Value.long e2.symm) (by decide) dX7_init_1593 hf (fun v431 h432 hf => ?_)
  refine v_dup ok dX7_init_1595 rfl ?_
  refine v_iconst ok 0 dX7_init_1596 rfl ?_
  refine v_bipush ok 97 dX7_init_1597 rfl ?_
  refine v_cast ok rfl dX7_init_1599 hf (fun h433 hf => ?_)
  refine v_dup ok dX7_init_1600 rfl ?_
  refine v_iconst ok 1 dX7_init_1601 rfl ?_
  refine v_bipush ok 116 dX7_init_1602 rfl ?_
  refine v_cast ok rfl dX7_init_1604 hf (fun h434 hf => ?_)
  refine v_pR ok fl_X7_238 (by first | exact Or.inl ⟨_, rfl⟩ | exact Or.inr ⟨_, rfl⟩) (FN.ini cf_7.1 rfl hnm rfl) dX7_init_1605 hf (fun h435 hf => ?_)
  refine v_aload_n ok 0 dX7_init_1608 rfl rfl ?_
  refine v_sipush ok 1700 dX7_init_1609 rfl ?_
  refine v_newarr ok (t := 100) (atype := .int) (by decide) (by decide) rfl q539 (fun _ _ _ _ e1 e2 => by first | exact congrArg Value.int e1.symm | exact congrArg Value.long e2.symm) (by decide) dX7_init_1612 hf (fun v436 h437 hf => ?_)
  refine v_pR ok fl_X7_241 (by first | exact Or.inl ⟨_, rfl⟩ | exact Or.inr ⟨_, rfl⟩) (FN.ini cf_7.1 rfl hnm rfl) dX7_init_1614 hf (fun h438 hf => ?_)
  refine v_aload_n ok 0 dX7_init_1617 rfl rfl ?_
  refine v_sipush ok 1700 dX7_init_1618 rfl ?_
  refine v_newarr ok (t := 100) (atype := .int) (by decide) (by decide) rfl q539 (fun _ _ _ _ e1 e2 => by first | exact congrArg Value.int e1.symm | exact congrArg Value.long e2.symm) (by decide) dX7_init_1621 hf (fun v439 h440 hf => ?_)
  refine v_pR ok fl_X7_244 (by first | exact Or.inl ⟨_, rfl⟩ | exact Or.inr ⟨_, rfl⟩) (FN.ini cf_7.1 rfl hnm rfl) dX7_init_1623 hf (fun h441 hf => ?_)
  refine v_aload_n ok 0 dX7_init_1626 rfl rfl ?_
  refine v_sipush ok 1700 dX7_init_1627 rfl ?_
  refine v_newarr ok (t := 103) (atype := .long) (by decide) (by decide) rfl q491 (fun _ _ _ _ e1 e2 => by first | exact congrArg Value.int e1.symm | exact congrArg Value.long e2.symm) (by decide) dX7_init_1630 hf (fun v442 h443 hf => ?_)
  refine v_pR ok fl_X7_247 (by first | exact Or.inl ⟨_, rfl⟩ | exact Or.inr ⟨_, rfl⟩) (FN.ini cf_7.1 rfl hnm rfl) dX7_init_1632 hf (fun h444 hf => ?_)
  refine v_aload_n ok 0 dX7_init_1635 rfl rfl ?_
  refine v_bipush ok 59 dX7_init_1636 rfl ?_
  refine v_newarr ok (t := 100) (atype := .int) (by decide) (by decide) rfl q539 (fun _ _ _ _ e1 e2 => by first | exact congrArg Value.int e1.symm | exact congrArg Value.long e2.symm) (by decide) dX7_init_1638 hf (fun v445 h446 hf => ?_)
  refine v_pR ok fl_X7_251 (by first | exact Or.inl ⟨_, rfl⟩ | exact Or.inr ⟨_, rfl⟩) (FN.ini cf_7.1 rfl hnm rfl) dX7_init_1640 hf (fun h447 hf => ?_)
  exact v_vret ok hr (by cases hf; exact hk) dX7_init_1643
theorem M_X7_init {G : GT} {l : Launch} (hG : Glob G) {d : Nat} (hd : 1 ≤ d) {a0 : Nat} {h : AH} {h' : AH} (hf : X7_init a0 h = some h') : MM G l yX7_init cX7_init 1 none d [vr (some a0)] h none h' := by
  refine mm_of hG (plainFor_of_name (by decide)) (Nat.le_of_ble_eq_true rfl) (fun X hX ok hr hnm => ?_)
  subst hX
  exact W_X7_init ok hr hd hnm hf rfl ⟨rfl, trivial⟩
theorem cw_X7_feed : CW yX7_feed cX7_feed 8 (Option.some Jvm.ClassFile.FieldType.int) 5 := ⟨q2160, q185, ⟨by decide, by decide⟩, by decide +kernel, by decide⟩
def pkX7_feed_28 (G : GT) (X : CX) (h0 : AH) (Q : State → Prop) (a0 : Nat) (x1 : Int32) (x2 : Int32) (x3 : Int32) (x4 : Int32) (x5 : Int32) (o : ((Int32 × AH) ⊕ (Int32 × AH))) : Prop := match o with
  | .inl s => ∀ lv : List (Nat × AV), lle lv [(0, vr (some a0)), (1, vi x1), (2, vi x2), (3, vi x3), (4, vi x4), (5, vi x5), (6, vi s.1)] → V G X 8 h0 Q s.2 28 lv []
  | .inr z => Q = QM G X h0 (some (vi z.1)) z.2
theorem W_X7_feed_81 {G : GT} {X : CX} {d : Nat} {h0 : AH} {Q : State → Prop} (ok : Ok G X RX7 cX7_feed 8 d h0) (hr : (cxm X).sig.returnType = (Option.some Jvm.ClassFile.FieldType.int)) (hd : 1 ≤ d) {a0 : Nat} {x1 : Int32} {x2 : Int32} {x3 : Int32} {x4 : Int32} {x5 : Int32} {x6 : Int32} {s0 : Int32} {h : AH} {z : ((Int32 × AH) ⊕ (Int32 × AH))} (hf : X7_feed_81 a0 x1 x2 x3 x4 x5 x6 s0 h = some z) (hk : pkX7_feed_28 G X h0 Q a0 x1 x2 x3 x4 x5 z) {lv : List (Nat × AV)} (hl : lle lv [(0, vr (some a0)), (1, vi x1), (2, vi x2), (3, vi x3), (4, vi x4), (5, vi x5), (6, vi x6)]) : V G X 8 h0 Q h 81 lv [vi s0] := by
  refine V.sub hl ?_
  unfold X7_feed_81 at hf
  refine v_istore ok dX7_feed_81 (by decide) ?_
  refine v_aload_n ok 0 dX7_feed_83 rfl rfl ?_
  refine v_gR ok fl_X7_7 (by first | exact Or.inl ⟨_, rfl⟩ | exact Or.inr ⟨_, rfl⟩) dX7_feed_84 hf (fun v1 hf => ?_)
  refine v_aload_n ok 0 dX7_feed_87 rfl rfl ?_
  refine v_gI ok fl_X7_254 (fun _ _ _ => rfl) dX7_feed_88 hf (fun v2 hf => ?_)
  refine v_iload ok dX7_feed_91 rfl ?_
  refine v_bipush ok 8 dX7_feed_93 rfl ?_
  refine v_iconst ok 3 dX7_feed_95 rfl ?_
  refine v_iload ok dX7_feed_96 rfl ?_
  refine v_iconst ok 4 dX7_feed_98 rfl ?_
  refine v_irem ok dX7_feed_99 hf (fun hf => ?_)
  refine v_isub ok dX7_feed_100 ?_
  refine v_imul ok dX7_feed_101 ?_
  refine v_ishr ok dX7_feed_102 ?_
  refine v_sipush ok 255 dX7_feed_103 rfl ?_
  refine v_iand ok dX7_feed_106 ?_
  refine v_iast ok rfl dX7_feed_107 hf (fun h3 hf => ?_)
  refine v_aload_n ok 0 dX7_feed_108 rfl rfl ?_
  refine v_dup ok dX7_feed_109 rfl ?_
  refine v_gI ok fl_X7_254 (fun _ _ _ => rfl) dX7_feed_110 hf (fun v4 hf => ?_)
  refine v_iconst ok 1 dX7_feed_113 rfl ?_
  refine v_iadd ok dX7_feed_114 ?_
  refine v_pI ok fl_X7_254 ⟨fun _ _ _ => rfl, rfl⟩ (FN.of cf_7.1 rfl) dX7_feed_115 hf (fun h5 hf => ?_)
  refine v_iinc ok x6 (x6 + 1) dX7_feed_118 rfl rfl (by decide) ?_
  refine v_goto ok 28 dX7_feed_121 rfl ?_
  cases hf; exact hk _ ⟨rfl, rfl, rfl, rfl, rfl, rfl, rfl, trivial⟩
theorem W_X7_feed_124 {G : GT} {X : CX} {d : Nat} {h0 : AH} {Q : State → Prop} (ok : Ok G X RX7 cX7_feed 8 d h0) (hr : (cxm X).sig.returnType = (Option.some Jvm.ClassFile.FieldType.int)) (hd : 1 ≤ d) {a0 : Nat} {h : AH} {z : (Int32 × AH)} (hf : X7_feed_124 a0 h = some z) (hk : Q = QM G X h0 (some (vi z.1)) z.2) {lv : List (Nat × AV)} (hl : lle lv [(0, vr (some a0))]) : V G X 8 h0 Q h 124 lv [] := by
  refine V.sub hl ?_
  unfold X7_feed_124 at hf
  refine v_aload_n ok 0 dX7_feed_124 rfl rfl ?_
  refine v_gI ok fl_X7_254 (fun _ _ _ => rfl) dX7_feed_125 hf (fun v6 hf => ?_)
  exact v_iret ok hr (by cases hf; exact hk) dX7_feed_128
theorem W_X7_feed_28b {G : GT} {X : CX} {d : Nat} {h0 : AH} {Q : State → Prop} (ok : Ok G X RX7 cX7_feed 8 d h0) (hr : (cxm X).sig.returnType = (Option.some Jvm.ClassFile.FieldType.int)) (hd : 1 ≤ d) {a0 : Nat} {x1 : Int32} {x2 : Int32} {x3 : Int32} {x4 : Int32} {x5 : Int32} {x6 : Int32} {h : AH} {z : ((Int32 × AH) ⊕ (Int32 × AH))} (hf : X7_feed_28b  a0 x1 x2 x3 x4 x5 x6 h = some z) (hk : pkX7_feed_28 G X h0 Q a0 x1 x2 x3 x4 x5 z) {lv : List (Nat × AV)} (hl : lle lv [(0, vr (some a0)), (1, vi x1), (2, vi x2), (3, vi x3), (4, vi x4), (5, vi x5), (6, vi x6)]) : V G X 8 h0 Q h 28 lv [] := by
  refine V.sub hl ?_
  unfold X7_feed_28b at hf
  refine v_iload ok dX7_feed_28 rfl ?_
  refine v_bipush ok 20 dX7_feed_30 rfl ?_
  refine v_icmp_ge ok 124 dX7_feed_32 rfl hf (fun hf => ?_) (fun hf => ?_)
  ·
    obtain ⟨o, ho, hz⟩ := ob hf
    cases hz; exact W_X7_feed_124 ok hr hd ho hk ⟨rfl, trivial⟩
  ·
    refine v_iload ok dX7_feed_35 rfl ?_
    refine v_iconst ok 4 dX7_feed_37 rfl ?_
    refine v_icmp_ge ok 45 dX7_feed_38 rfl hf (fun hf => ?_) (fun hf => ?_)
    ·
      refine v_iload ok dX7_feed_45 rfl ?_
      refine v_bipush ok 8 dX7_feed_47 rfl ?_
      refine v_icmp_ge ok 56 dX7_feed_49 rfl hf (fun hf => ?_) (fun hf => ?_)
      ·
        refine v_iload ok dX7_feed_56 rfl ?_
        refine v_bipush ok 12 dX7_feed_58 rfl ?_
        refine v_icmp_ge ok 67 dX7_feed_60 rfl hf (fun hf => ?_) (fun hf => ?_)
        ·
          refine v_iload ok dX7_feed_67 rfl ?_
          refine v_bipush ok 16 dX7_feed_69 rfl ?_
          refine v_icmp_ge ok 79 dX7_feed_71 rfl hf (fun hf => ?_) (fun hf => ?_)
          ·
            refine v_iload ok dX7_feed_79 rfl ?_
            exact W_X7_feed_81 ok hr hd hf hk ⟨rfl, rfl, rfl, rfl, rfl, rfl, rfl, trivial⟩
          ·
            refine v_iload ok dX7_feed_74 rfl ?_
            refine v_goto ok 81 dX7_feed_76 rfl ?_
            exact W_X7_feed_81 ok hr hd hf hk ⟨rfl, rfl, rfl, rfl, rfl, rfl, rfl, trivial⟩
        ·
          refine v_iload_n ok 3 dX7_feed_63 rfl rfl ?_
          refine v_goto ok 81 dX7_feed_64 rfl ?_
          exact W_X7_feed_81 ok hr hd hf hk ⟨rfl, rfl, rfl, rfl, rfl, rfl, rfl, trivial⟩
      ·
        refine v_iload_n ok 2 dX7_feed_52 rfl rfl ?_
        refine v_goto ok 81 dX7_feed_53 rfl ?_
        exact W_X7_feed_81 ok hr hd hf hk ⟨rfl, rfl, rfl, rfl, rfl, rfl, rfl, trivial⟩
    ·
      refine v_iload_n ok 1 dX7_feed_41 rfl rfl ?_
      refine v_goto ok 81 dX7_feed_42 rfl ?_
      exact W_X7_feed_81 ok hr hd hf hk ⟨rfl, rfl, rfl, rfl, rfl, rfl, rfl, trivial⟩
theorem W_X7_feed_28 {G : GT} {X : CX} {d : Nat} {h0 : AH} {Q : State → Prop} (ok : Ok G X RX7 cX7_feed 8 d h0) (hr : (cxm X).sig.returnType = (Option.some Jvm.ClassFile.FieldType.int)) (hd : 1 ≤ d) {a0 : Nat} {x1 : Int32} {x2 : Int32} {x3 : Int32} {x4 : Int32} {x5 : Int32} {x6 : Int32} {h : AH} {z : (Int32 × AH)} (hf : X7_feed_28  a0 x1 x2 x3 x4 x5 x6 h = some z) (hk : Q = QM G X h0 (some (vi z.1)) z.2) {lv : List (Nat × AV)} (hl : lle lv [(0, vr (some a0)), (1, vi x1), (2, vi x2), (3, vi x3), (4, vi x4), (5, vi x5), (6, vi x6)]) : V G X 8 h0 Q h 28 lv [] := by
  unfold X7_feed_28 at hf
  exact loopC_walk (Wh := fun s : Int32 × AH => ∀ lv : List (Nat × AV), lle lv [(0, vr (some a0)), (1, vi x1), (2, vi x2), (3, vi x3), (4, vi x4), (5, vi x5), (6, vi s.1)] → V G X 8 h0 Q s.2 28 lv []) (PK := fun z => Q = QM G X h0 (some (vi z.1)) z.2) (fun s o hf hk lv hl => W_X7_feed_28b ok hr hd hf (by cases o <;> exact hk) hl) _ z hf hk lv hl
theorem W_X7_feed {G : GT} {X : CX} {d : Nat} {h0 : AH} {Q : State → Prop} (ok : Ok G X RX7 cX7_feed 8 d h0) (hr : (cxm X).sig.returnType = (Option.some Jvm.ClassFile.FieldType.int)) (hd : 1 ≤ d) {a0 : Nat} {x1 : Int32} {x2 : Int32} {x3 : Int32} {x4 : Int32} {x5 : Int32} {h : AH} {z : (Int32 × AH)} (hf : X7_feed a0 x1 x2 x3 x4 x5 h = some z) (hk : Q = QM G X h0 (some (vi z.1)) z.2) {lv : List (Nat × AV)} (hl : lle lv [(0, vr (some a0)), (1, vi x1), (2, vi x2), (3, vi x3), (4, vi x4), (5, vi x5)]) : V G X 8 h0 Q h 0 lv [] := by
  refine V.sub hl ?_
  unfold X7_feed at hf
  refine v_aload_n ok 0 dX7_feed_0 rfl rfl ?_
  refine v_gI ok fl_X7_254 (fun _ _ _ => rfl) dX7_feed_1 hf (fun v7 hf => ?_)
  refine v_bipush ok 20 dX7_feed_4 rfl ?_
  refine v_iadd ok dX7_feed_6 ?_
  refine v_sipush ok 1600 dX7_feed_7 rfl ?_
  refine v_icmp_le ok 25 dX7_feed_10 rfl hf (fun hf => ?_) (fun hf => ?_)
  ·
    refine v_iconst ok 0 dX7_feed_25 rfl ?_
    refine v_istore ok dX7_feed_26 (by decide) ?_
    exact W_X7_feed_28 ok hr hd hf hk ⟨rfl, rfl, rfl, rfl, rfl, rfl, rfl, trivial⟩
  ·
    refine v_aload_n ok 0 dX7_feed_13 rfl rfl ?_
    refine v_gR ok fl_X7_17 (by first | exact Or.inl ⟨_, rfl⟩ | exact Or.inr ⟨_, rfl⟩) dX7_feed_14 hf (fun v8 hf => ?_)
    refine v_iconst ok 0 dX7_feed_17 rfl ?_
    refine v_dup2 ok dX7_feed_18 rfl rfl ?_
    refine v_iald ok rfl dX7_feed_19 hf (fun v9 hf => ?_)
    refine v_iconst ok 1 dX7_feed_20 rfl ?_
    refine v_iadd ok dX7_feed_21 ?_
    refine v_iast ok rfl dX7_feed_22 hf (fun h10 hf => ?_)
    refine v_iconst ok (-1) dX7_feed_23 rfl ?_
    exact v_iret ok hr (by cases hf; exact hk) dX7_feed_24
theorem M_X7_feed {G : GT} {l : Launch} (hG : Glob G) {d : Nat} (hd : 1 ≤ d) {a0 : Nat} {x1 : Int32} {x2 : Int32} {x3 : Int32} {x4 : Int32} {x5 : Int32} {h : AH} {v : Int32} {h' : AH} (hf : X7_feed a0 x1 x2 x3 x4 x5 h = some (v, h')) : MM G l yX7_feed cX7_feed 8 (Option.some Jvm.ClassFile.FieldType.int) d [vr (some a0), vi x1, vi x2, vi x3, vi x4, vi x5] h (some (vi v)) h' := by
  refine mm_of hG (plainFor_of_name (by decide)) (Nat.le_of_ble_eq_true rfl) (fun X hX ok hr hnm => ?_)
  subst hX
  exact W_X7_feed ok hr hd hf rfl ⟨rfl, rfl, rfl, rfl, rfl, rfl, trivial⟩
theorem cw_X7_end : CW yX7_end cX7_end 2 (Option.some Jvm.ClassFile.FieldType.boolean) 1 := ⟨q2164, q185, ⟨by decide, by decide⟩, by decide +kernel, by decide⟩
theorem W_X7_end_12 {G : GT} {X : CX} {d : Nat} {h0 : AH} {Q : State → Prop} (ok : Ok G X RX7 cX7_end 2 d h0) (hr : (cxm X).sig.returnType = (Option.some Jvm.ClassFile.FieldType.boolean)) (hd : 1 ≤ d) {a0 : Nat} {h : AH} {z : (Int32 × AH)} (hf : X7_end_12 a0 h = some z) (hk : Q = QM G X h0 (some (vi z.1)) z.2) {lv : List (Nat × AV)} (hl : lle lv [(0, vr (some a0))]) : V G X 2 h0 Q h 12 lv [] := by
  refine V.sub hl ?_
  unfold X7_end_12 at hf
  refine v_aload_n ok 0 dX7_end_12 rfl rfl ?_
  refine v_gR ok fl_X7_17 (by first | exact Or.inl ⟨_, rfl⟩ | exact Or.inr ⟨_, rfl⟩) dX7_end_13 hf (fun v1 hf => ?_)
  refine v_iconst ok 0 dX7_end_16 rfl ?_
  refine v_dup2 ok dX7_end_17 rfl rfl ?_
  refine v_iald ok rfl dX7_end_18 hf (fun v2 hf => ?_)
  refine v_iconst ok 1 dX7_end_19 rfl ?_
  refine v_iadd ok dX7_end_20 ?_
  refine v_iast ok rfl dX7_end_21 hf (fun h3 hf => ?_)
  refine v_iconst ok 0 dX7_end_22 rfl ?_
  exact v_zretL ok hr (by decide) (by decide) (by cases hf; exact hk) dX7_end_23
theorem W_X7_end {G : GT} {X : CX} {d : Nat} {h0 : AH} {Q : State → Prop} (ok : Ok G X RX7 cX7_end 2 d h0) (hr : (cxm X).sig.returnType = (Option.some Jvm.ClassFile.FieldType.boolean)) (hd : 1 ≤ d) {a0 : Nat} {x1 : Int32} {h : AH} {z : (Int32 × AH)} (hf : X7_end a0 x1 h = some z) (hk : Q = QM G X h0 (some (vi z.1)) z.2) {lv : List (Nat × AV)} (hl : lle lv [(0, vr (some a0)), (1, vi x1)]) : V G X 2 h0 Q h 0 lv [] := by
  refine V.sub hl ?_
  unfold X7_end at hf
  refine v_iload_n ok 1 dX7_end_0 rfl rfl ?_
  refine v_if_lt ok 12 dX7_end_1 rfl hf (fun hf => ?_) (fun hf => ?_)
  ·
    exact W_X7_end_12 ok hr hd hf hk ⟨rfl, trivial⟩
  ·
    refine v_iload_n ok 1 dX7_end_4 rfl rfl ?_
    refine v_aload_n ok 0 dX7_end_5 rfl rfl ?_
    refine v_gI ok fl_X7_254 (fun _ _ _ => rfl) dX7_end_6 hf (fun v4 hf => ?_)
    refine v_icmp_le ok 24 dX7_end_9 rfl hf (fun hf => ?_) (fun hf => ?_)
    ·
      refine v_aload_n ok 0 dX7_end_24 rfl rfl ?_
      refine v_iload_n ok 1 dX7_end_25 rfl rfl ?_
      refine v_pI ok fl_X7_254 ⟨fun _ _ _ => rfl, rfl⟩ (FN.of cf_7.1 rfl) dX7_end_26 hf (fun h5 hf => ?_)
      refine v_iconst ok 1 dX7_end_29 rfl ?_
      exact v_zretL ok hr (by decide) (by decide) (by cases hf; exact hk) dX7_end_30
    ·
      exact W_X7_end_12 ok hr hd hf hk ⟨rfl, trivial⟩
theorem M_X7_end {G : GT} {l : Launch} (hG : Glob G) {d : Nat} (hd : 1 ≤ d) {a0 : Nat} {x1 : Int32} {h : AH} {v : Int32} {h' : AH} (hf : X7_end a0 x1 h = some (v, h')) : MM G l yX7_end cX7_end 2 (Option.some Jvm.ClassFile.FieldType.boolean) d [vr (some a0), vi x1] h (some (vi v)) h' := by
  refine mm_of hG (plainFor_of_name (by decide)) (Nat.le_of_ble_eq_true rfl) (fun X hX ok hr hnm => ?_)
  subst hX
  exact W_X7_end ok hr hd hf rfl ⟨rfl, rfl, trivial⟩
theorem cw_X7_look : CW yX7_look cX7_look 1 (Option.some Jvm.ClassFile.FieldType.int) 0 := ⟨q2172, q185, ⟨by decide, by decide⟩, by decide +kernel, by decide⟩
def pkX7_look_0 (G : GT) (X : CX) (h0 : AH) (Q : State → Prop) (a0 : Nat) (o : ((AH) ⊕ (Int32 × AH))) : Prop := match o with
  | .inl s => ∀ lv : List (Nat × AV), lle lv [(0, vr (some a0))] → V G X 1 h0 Q s 0 lv []
  | .inr z => Q = QM G X h0 (some (vi z.1)) z.2
theorem W_X7_look_39 {G : GT} {X : CX} {d : Nat} {h0 : AH} {Q : State → Prop} (ok : Ok G X RX7 cX7_look 1 d h0) (hr : (cxm X).sig.returnType = (Option.some Jvm.ClassFile.FieldType.int)) (hd : 1 ≤ d) {a0 : Nat} {h : AH} {z : ((AH) ⊕ (Int32 × AH))} (hf : X7_look_39 a0 h = some z) (hk : pkX7_look_0 G X h0 Q a0 z) {lv : List (Nat × AV)} (hl : lle lv [(0, vr (some a0))]) : V G X 1 h0 Q h 39 lv [] := by
  refine V.sub hl ?_
  unfold X7_look_39 at hf
  refine v_aload_n ok 0 dX7_look_39 rfl rfl ?_
  refine v_dup ok dX7_look_40 rfl ?_
  refine v_gI ok fl_X7_263 (fun _ _ _ => rfl) dX7_look_41 hf (fun v1 hf => ?_)
  refine v_iconst ok 1 dX7_look_44 rfl ?_
  refine v_iadd ok dX7_look_45 ?_
  refine v_pI ok fl_X7_263 ⟨fun _ _ _ => rfl, rfl⟩ (FN.of cf_7.1 rfl) dX7_look_46 hf (fun h2 hf => ?_)
  refine v_goto ok 0 dX7_look_49 rfl ?_
  cases hf; exact hk _ ⟨rfl, trivial⟩
theorem W_X7_look_52 {G : GT} {X : CX} {d : Nat} {h0 : AH} {Q : State → Prop} (ok : Ok G X RX7 cX7_look 1 d h0) (hr : (cxm X).sig.returnType = (Option.some Jvm.ClassFile.FieldType.int)) (hd : 1 ≤ d) {a0 : Nat} {h : AH} {z : (Int32 × AH)} (hf : X7_look_52 a0 h = some z) (hk : Q = QM G X h0 (some (vi z.1)) z.2) {lv : List (Nat × AV)} (hl : lle lv [(0, vr (some a0))]) : V G X 1 h0 Q h 52 lv [] := by
  refine V.sub hl ?_
  unfold X7_look_52 at hf
  refine v_aload_n ok 0 dX7_look_52 rfl rfl ?_
  refine v_gI ok fl_X7_263 (fun _ _ _ => rfl) dX7_look_53 hf (fun v3 hf => ?_)
  refine v_aload_n ok 0 dX7_look_56 rfl rfl ?_
  refine v_gI ok fl_X7_266 (fun _ _ _ => rfl) dX7_look_57 hf (fun v4 hf => ?_)
  refine v_icmp_ge ok 75 dX7_look_60 rfl hf (fun hf => ?_) (fun hf => ?_)
  ·
    refine v_iconst ok (-1) dX7_look_75 rfl ?_
    exact v_iret ok hr (by cases hf; exact hk) dX7_look_76
  ·
    refine v_aload_n ok 0 dX7_look_63 rfl rfl ?_
    refine v_gR ok fl_X7_7 (by first | exact Or.inl ⟨_, rfl⟩ | exact Or.inr ⟨_, rfl⟩) dX7_look_64 hf (fun v5 hf => ?_)
    refine v_aload_n ok 0 dX7_look_67 rfl rfl ?_
    refine v_gI ok fl_X7_263 (fun _ _ _ => rfl) dX7_look_68 hf (fun v6 hf => ?_)
    refine v_iald ok rfl dX7_look_71 hf (fun v7 hf => ?_)
    refine v_goto ok 76 dX7_look_72 rfl ?_
    exact v_iret ok hr (by cases hf; exact hk) dX7_look_76
theorem W_X7_look_0b {G : GT} {X : CX} {d : Nat} {h0 : AH} {Q : State → Prop} (ok : Ok G X RX7 cX7_look 1 d h0) (hr : (cxm X).sig.returnType = (Option.some Jvm.ClassFile.FieldType.int)) (hd : 1 ≤ d) {a0 : Nat} {h : AH} {z : ((AH) ⊕ (Int32 × AH))} (hf : X7_look_0b  a0  h = some z) (hk : pkX7_look_0 G X h0 Q a0 z) {lv : List (Nat × AV)} (hl : lle lv [(0, vr (some a0))]) : V G X 1 h0 Q h 0 lv [] := by
  refine V.sub hl ?_
  unfold X7_look_0b at hf
  refine v_aload_n ok 0 dX7_look_0 rfl rfl ?_
  refine v_gI ok fl_X7_263 (fun _ _ _ => rfl) dX7_look_1 hf (fun v8 hf => ?_)
  refine v_aload_n ok 0 dX7_look_4 rfl rfl ?_
  refine v_gI ok fl_X7_266 (fun _ _ _ => rfl) dX7_look_5 hf (fun v9 hf => ?_)
  refine v_icmp_ge ok 52 dX7_look_8 rfl hf (fun hf => ?_) (fun hf => ?_)
  ·
    obtain ⟨o, ho, hz⟩ := ob hf
    cases hz; exact W_X7_look_52 ok hr hd ho hk ⟨rfl, trivial⟩
  ·
    refine v_aload_n ok 0 dX7_look_11 rfl rfl ?_
    refine v_gR ok fl_X7_7 (by first | exact Or.inl ⟨_, rfl⟩ | exact Or.inr ⟨_, rfl⟩) dX7_look_12 hf (fun v10 hf => ?_)
    refine v_aload_n ok 0 dX7_look_15 rfl rfl ?_
    refine v_gI ok fl_X7_263 (fun _ _ _ => rfl) dX7_look_16 hf (fun v11 hf => ?_)
    refine v_iald ok rfl dX7_look_19 hf (fun v12 hf => ?_)
    refine v_bipush ok 10 dX7_look_20 rfl ?_
    refine v_icmp_eq ok 39 dX7_look_22 rfl hf (fun hf => ?_) (fun hf => ?_)
    ·
      exact W_X7_look_39 ok hr hd hf hk ⟨rfl, trivial⟩
    ·
      refine v_aload_n ok 0 dX7_look_25 rfl rfl ?_
      refine v_gR ok fl_X7_7 (by first | exact Or.inl ⟨_, rfl⟩ | exact Or.inr ⟨_, rfl⟩) dX7_look_26 hf (fun v13 hf => ?_)
      refine v_aload_n ok 0 dX7_look_29 rfl rfl ?_
      refine v_gI ok fl_X7_263 (fun _ _ _ => rfl) dX7_look_30 hf (fun v14 hf => ?_)
      refine v_iald ok rfl dX7_look_33 hf (fun v15 hf => ?_)
      refine v_bipush ok 32 dX7_look_34 rfl ?_
      refine v_icmp_ne ok 52 dX7_look_36 rfl hf (fun hf => ?_) (fun hf => ?_)
      ·
        obtain ⟨o, ho, hz⟩ := ob hf
        cases hz; exact W_X7_look_52 ok hr hd ho hk ⟨rfl, trivial⟩
      ·
        exact W_X7_look_39 ok hr hd hf hk ⟨rfl, trivial⟩
theorem W_X7_look {G : GT} {X : CX} {d : Nat} {h0 : AH} {Q : State → Prop} (ok : Ok G X RX7 cX7_look 1 d h0) (hr : (cxm X).sig.returnType = (Option.some Jvm.ClassFile.FieldType.int)) (hd : 1 ≤ d) {a0 : Nat} {h : AH} {z : (Int32 × AH)} (hf : X7_look  a0 h = some z) (hk : Q = QM G X h0 (some (vi z.1)) z.2) {lv : List (Nat × AV)} (hl : lle lv [(0, vr (some a0))]) : V G X 1 h0 Q h 0 lv [] := by
  unfold X7_look at hf
  exact loopC_walk (Wh := fun s : AH => ∀ lv : List (Nat × AV), lle lv [(0, vr (some a0))] → V G X 1 h0 Q s 0 lv []) (PK := fun z => Q = QM G X h0 (some (vi z.1)) z.2) (fun s o hf hk lv hl => W_X7_look_0b ok hr hd hf (by cases o <;> exact hk) hl) _ z hf hk lv hl
theorem M_X7_look {G : GT} {l : Launch} (hG : Glob G) {d : Nat} (hd : 1 ≤ d) {a0 : Nat} {h : AH} {v : Int32} {h' : AH} (hf : X7_look a0 h = some (v, h')) : MM G l yX7_look cX7_look 1 (Option.some Jvm.ClassFile.FieldType.int) d [vr (some a0)] h (some (vi v)) h' := by
  refine mm_of hG (plainFor_of_name (by decide)) (Nat.le_of_ble_eq_true rfl) (fun X hX ok hr hnm => ?_)
  subst hX
  exact W_X7_look ok hr hd hf rfl ⟨rfl, trivial⟩
theorem cw_X7_glyphOf : CW yX7_glyphOf cX7_glyphOf 3 (Option.some Jvm.ClassFile.FieldType.int) 2 := ⟨q2356, q185, ⟨by decide, by decide⟩, by decide +kernel, by decide⟩
theorem W_X7_glyphOf {G : GT} {X : CX} {d : Nat} {h0 : AH} {Q : State → Prop} (ok : Ok G X RX7 cX7_glyphOf 3 d h0) (hr : (cxm X).sig.returnType = (Option.some Jvm.ClassFile.FieldType.int)) (hd : 1 ≤ d) {a0 : Nat} {x1 : Int32} {x2 : Int32} {h : AH} {z : (Int32 × AH)} (hf : X7_glyphOf a0 x1 x2 h = some z) (hk : Q = QM G X h0 (some (vi z.1)) z.2) {lv : List (Nat × AV)} (hl : lle lv [(0, vr (some a0)), (1, vi x1), (2, vi x2)]) : V G X 3 h0 Q h 0 lv [] := by
  refine V.sub hl ?_
  unfold X7_glyphOf at hf
  refine v_aload_n ok 0 dX7_glyphOf_0 rfl rfl ?_
  refine v_gR ok fl_X7_111 (by first | exact Or.inl ⟨_, rfl⟩ | exact Or.inr ⟨_, rfl⟩) dX7_glyphOf_1 hf (fun v1 hf => ?_)
  refine v_bipush ok 49 dX7_glyphOf_4 rfl ?_
  refine v_bipush ok 24 dX7_glyphOf_6 rfl ?_
  refine v_iload_n ok 1 dX7_glyphOf_8 rfl rfl ?_
  refine v_imul ok dX7_glyphOf_9 ?_
  refine v_iadd ok dX7_glyphOf_10 ?_
  refine v_iconst ok 2 dX7_glyphOf_11 rfl ?_
  refine v_iload_n ok 2 dX7_glyphOf_12 rfl rfl ?_
  refine v_imul ok dX7_glyphOf_13 ?_
  refine v_iadd ok dX7_glyphOf_14 ?_
  refine v_iald ok rfl dX7_glyphOf_15 hf (fun v2 hf => ?_)
  exact v_iret ok hr (by cases hf; exact hk) dX7_glyphOf_16
theorem M_X7_glyphOf {G : GT} {l : Launch} (hG : Glob G) {d : Nat} (hd : 1 ≤ d) {a0 : Nat} {x1 : Int32} {x2 : Int32} {h : AH} {v : Int32} {h' : AH} (hf : X7_glyphOf a0 x1 x2 h = some (v, h')) : MM G l yX7_glyphOf cX7_glyphOf 3 (Option.some Jvm.ClassFile.FieldType.int) d [vr (some a0), vi x1, vi x2] h (some (vi v)) h' := by
  refine mm_of hG (plainFor_of_name (by decide)) (Nat.le_of_ble_eq_true rfl) (fun X hX ok hr hnm => ?_)
  subst hX
  exact W_X7_glyphOf ok hr hd hf rfl ⟨rfl, rfl, rfl, trivial⟩
theorem cw_X7_nameOf : CW yX7_nameOf cX7_nameOf 3 (Option.some Jvm.ClassFile.FieldType.int) 2 := ⟨q2352, q185, ⟨by decide, by decide⟩, by decide +kernel, by decide⟩
theorem W_X7_nameOf {G : GT} {X : CX} {d : Nat} {h0 : AH} {Q : State → Prop} (ok : Ok G X RX7 cX7_nameOf 3 d h0) (hr : (cxm X).sig.returnType = (Option.some Jvm.ClassFile.FieldType.int)) (hd : 1 ≤ d) {a0 : Nat} {x1 : Int32} {x2 : Int32} {h : AH} {z : (Int32 × AH)} (hf : X7_nameOf a0 x1 x2 h = some z) (hk : Q = QM G X h0 (some (vi z.1)) z.2) {lv : List (Nat × AV)} (hl : lle lv [(0, vr (some a0)), (1, vi x1), (2, vi x2)]) : V G X 3 h0 Q h 0 lv [] := by
  refine V.sub hl ?_
  unfold X7_nameOf at hf
  refine v_aload_n ok 0 dX7_nameOf_0 rfl rfl ?_
  refine v_gR ok fl_X7_111 (by first | exact Or.inl ⟨_, rfl⟩ | exact Or.inr ⟨_, rfl⟩) dX7_nameOf_1 hf (fun v1 hf => ?_)
  refine v_bipush ok 48 dX7_nameOf_4 rfl ?_
  refine v_bipush ok 24 dX7_nameOf_6 rfl ?_
  refine v_iload_n ok 1 dX7_nameOf_8 rfl rfl ?_
  refine v_imul ok dX7_nameOf_9 ?_
  refine v_iadd ok dX7_nameOf_10 ?_
  refine v_iconst ok 2 dX7_nameOf_11 rfl ?_
  refine v_iload_n ok 2 dX7_nameOf_12 rfl rfl ?_
  refine v_imul ok dX7_nameOf_13 ?_
  refine v_iadd ok dX7_nameOf_14 ?_
  refine v_iald ok rfl dX7_nameOf_15 hf (fun v2 hf => ?_)
  exact v_iret ok hr (by cases hf; exact hk) dX7_nameOf_16
theorem M_X7_nameOf {G : GT} {l : Launch} (hG : Glob G) {d : Nat} (hd : 1 ≤ d) {a0 : Nat} {x1 : Int32} {x2 : Int32} {h : AH} {v : Int32} {h' : AH} (hf : X7_nameOf a0 x1 x2 h = some (v, h')) : MM G l yX7_nameOf cX7_nameOf 3 (Option.some Jvm.ClassFile.FieldType.int) d [vr (some a0), vi x1, vi x2] h (some (vi v)) h' := by
  refine mm_of hG (plainFor_of_name (by decide)) (Nat.le_of_ble_eq_true rfl) (fun X hX ok hr hnm => ?_)
  subst hX
  exact W_X7_nameOf ok hr hd hf rfl ⟨rfl, rfl, rfl, trivial⟩
theorem cw_X7_letterAt : CW yX7_letterAt cX7_letterAt 4 (Option.some Jvm.ClassFile.FieldType.int) 2 := ⟨q2348, q185, ⟨by decide, by decide⟩, by decide +kernel, by decide⟩
def pkX7_letterAt_2 (G : GT) (X : CX) (h0 : AH) (Q : State → Prop) (a0 : Nat) (x1 : Int32) (x2 : Int32) (o : ((Int32 × AH) ⊕ (Int32 × AH))) : Prop := match o with
  | .inl s => ∀ lv : List (Nat × AV), lle lv [(0, vr (some a0)), (1, vi x1), (2, vi x2), (3, vi s.1)] → V G X 4 h0 Q s.2 2 lv []
  | .inr z => Q = QM G X h0 (some (vi z.1)) z.2
theorem W_X7_letterAt_2b {G : GT} {X : CX} {d : Nat} {h0 : AH} {Q : State → Prop} (ok : Ok G X RX7 cX7_letterAt 4 d h0) (hr : (cxm X).sig.returnType = (Option.some Jvm.ClassFile.FieldType.int)) (hd : 2 ≤ d) {a0 : Nat} {x1 : Int32} {x2 : Int32} {x3 : Int32} {h : AH} {z : ((Int32 × AH) ⊕ (Int32 × AH))} (hf : X7_letterAt_2b  a0 x1 x2 x3 h = some z) (hk : pkX7_letterAt_2 G X h0 Q a0 x1 x2 z) {lv : List (Nat × AV)} (hl : lle lv [(0, vr (some a0)), (1, vi x1), (2, vi x2), (3, vi x3)]) : V G X 4 h0 Q h 2 lv [] := by
  refine V.sub hl ?_
  unfold X7_letterAt_2b at hf
  refine v_iload_n ok 3 dX7_letterAt_2 rfl rfl ?_
  refine v_aload_n ok 0 dX7_letterAt_3 rfl rfl ?_
  refine v_gR ok fl_X7_108 (by first | exact Or.inl ⟨_, rfl⟩ | exact Or.inr ⟨_, rfl⟩) dX7_letterAt_4 hf (fun v1 hf => ?_)
  refine v_iconst ok 2 dX7_letterAt_7 rfl ?_
  refine v_iload_n ok 1 dX7_letterAt_8 rfl rfl ?_
  refine v_iadd ok dX7_letterAt_9 ?_
  refine v_iald ok rfl dX7_letterAt_10 hf (fun v2 hf => ?_)
  refine v_icmp_ge ok 32 dX7_letterAt_11 rfl hf (fun hf => ?_) (fun hf => ?_)
  ·
    refine v_iconst ok (-1) dX7_letterAt_32 rfl ?_
    exact v_iret ok hr (by cases hf; exact hk) dX7_letterAt_33
  ·
    refine v_aload_n ok 0 dX7_letterAt_14 rfl rfl ?_
    refine v_iload_n ok 1 dX7_letterAt_15 rfl rfl ?_
    refine v_iload_n ok 3 dX7_letterAt_16 rfl rfl ?_
    refine v_cVi ok (RX7, TX7, 117) cf_7.1 [vi x1, vi x3] (F := fun a => X7_nameOf a x1 x3 h) (fun a v h1 _ hv => M_X7_nameOf ok.2.2.2.2.2.2.1 (d := 1) (Nat.le_refl _) hv) (by exact Nat.le_trans (by decide) hd) cw_X7_nameOf q2349 q2351 qs112 dX7_letterAt_17 [] rfl (Nat.le_of_ble_eq_true rfl) hf (fun v3 h4 hf => ?_)
    refine v_iload_n ok 2 dX7_letterAt_20 rfl rfl ?_
    refine v_icmp_ne ok 26 dX7_letterAt_21 rfl hf (fun hf => ?_) (fun hf => ?_)
    ·
      refine v_iinc ok x3 (x3 + 1) dX7_letterAt_26 rfl rfl (by decide) ?_
      refine v_goto ok 2 dX7_letterAt_29 rfl ?_
      cases hf; exact hk _ ⟨rfl, rfl, rfl, rfl, trivial⟩
    ·
      refine v_iload_n ok 3 dX7_letterAt_24 rfl rfl ?_
      exact v_iret ok hr (by cases hf; exact hk) dX7_letterAt_25
theorem W_X7_letterAt_2 {G : GT} {X : CX} {d : Nat} {h0 : AH} {Q : State → Prop} (ok : Ok G X RX7 cX7_letterAt 4 d h0) (hr : (cxm X).sig.returnType = (Option.some Jvm.ClassFile.FieldType.int)) (hd : 2 ≤ d) {a0 : Nat} {x1 : Int32} {x2 : Int32} {x3 : Int32} {h : AH} {z : (Int32 × AH)} (hf : X7_letterAt_2  a0 x1 x2 x3 h = some z) (hk : Q = QM G X h0 (some (vi z.1)) z.2) {lv : List (Nat × AV)} (hl : lle lv [(0, vr (some a0)), (1, vi x1), (2, vi x2), (3, vi x3)]) : V G X 4 h0 Q h 2 lv [] := by
  unfold X7_letterAt_2 at hf
  exact loopC_walk (Wh := fun s : Int32 × AH => ∀ lv : List (Nat × AV), lle lv [(0, vr (some a0)), (1, vi x1), (2, vi x2), (3, vi s.1)] → V G X 4 h0 Q s.2 2 lv []) (PK := fun z => Q = QM G X h0 (some (vi z.1)) z.2) (fun s o hf hk lv hl => W_X7_letterAt_2b ok hr hd hf (by cases o <;> exact hk) hl) _ z hf hk lv hl
theorem W_X7_letterAt {G : GT} {X : CX} {d : Nat} {h0 : AH} {Q : State → Prop} (ok : Ok G X RX7 cX7_letterAt 4 d h0) (hr : (cxm X).sig.returnType = (Option.some Jvm.ClassFile.FieldType.int)) (hd : 2 ≤ d) {a0 : Nat} {x1 : Int32} {x2 : Int32} {h : AH} {z : (Int32 × AH)} (hf : X7_letterAt a0 x1 x2 h = some z) (hk : Q = QM G X h0 (some (vi z.1)) z.2) {lv : List (Nat × AV)} (hl : lle lv [(0, vr (some a0)), (1, vi x1), (2, vi x2)]) : V G X 4 h0 Q h 0 lv [] := by
  refine V.sub hl ?_
  unfold X7_letterAt at hf
  refine v_iconst ok 0 dX7_letterAt_0 rfl ?_
  refine v_istore_n ok 3 dX7_letterAt_1 rfl (by decide) ?_
  exact W_X7_letterAt_2 ok hr hd hf hk ⟨rfl, rfl, rfl, rfl, trivial⟩
theorem M_X7_letterAt {G : GT} {l : Launch} (hG : Glob G) {d : Nat} (hd : 2 ≤ d) {a0 : Nat} {x1 : Int32} {x2 : Int32} {h : AH} {v : Int32} {h' : AH} (hf : X7_letterAt a0 x1 x2 h = some (v, h')) : MM G l yX7_letterAt cX7_letterAt 4 (Option.some Jvm.ClassFile.FieldType.int) d [vr (some a0), vi x1, vi x2] h (some (vi v)) h' := by
  refine mm_of hG (plainFor_of_name (by decide)) (Nat.le_of_ble_eq_true rfl) (fun X hX ok hr hnm => ?_)
  subst hX
  exact W_X7_letterAt ok hr hd hf rfl ⟨rfl, rfl, rfl, trivial⟩
theorem cw_X7_letterOf : CW yX7_letterOf cX7_letterOf 3 (Option.some Jvm.ClassFile.FieldType.int) 2 := ⟨q2344, q185, ⟨by decide, by decide⟩, by decide +kernel, by decide⟩
theorem W_X7_letterOf {G : GT} {X : CX} {d : Nat} {h0 : AH} {Q : State → Prop} (ok : Ok G X RX7 cX7_letterOf 3 d h0) (hr : (cxm X).sig.returnType = (Option.some Jvm.ClassFile.FieldType.int)) (hd : 1 ≤ d) {a0 : Nat} {x1 : Int32} {x2 : Int32} {h : AH} {z : (Int32 × AH)} (hf : X7_letterOf a0 x1 x2 h = some z) (hk : Q = QM G X h0 (some (vi z.1)) z.2) {lv : List (Nat × AV)} (hl : lle lv [(0, vr (some a0)), (1, vi x1), (2, vi x2)]) : V G X 3 h0 Q h 0 lv [] := by
  refine V.sub hl ?_
  unfold X7_letterOf at hf
  refine v_aload_n ok 0 dX7_letterOf_0 rfl rfl ?_
  refine v_gR ok fl_X7_114 (by first | exact Or.inl ⟨_, rfl⟩ | exact Or.inr ⟨_, rfl⟩) dX7_letterOf_1 hf (fun v1 hf => ?_)
  refine v_bipush ok 57 dX7_letterOf_4 rfl ?_
  refine v_bipush ok 7 dX7_letterOf_6 rfl ?_
  refine v_iload_n ok 1 dX7_letterOf_8 rfl rfl ?_
  refine v_imul ok dX7_letterOf_9 ?_
  refine v_iadd ok dX7_letterOf_10 ?_
  refine v_iload_n ok 2 dX7_letterOf_11 rfl rfl ?_
  refine v_iadd ok dX7_letterOf_12 ?_
  refine v_iald ok rfl dX7_letterOf_13 hf (fun v2 hf => ?_)
  exact v_iret ok hr (by cases hf; exact hk) dX7_letterOf_14
theorem M_X7_letterOf {G : GT} {l : Launch} (hG : Glob G) {d : Nat} (hd : 1 ≤ d) {a0 : Nat} {x1 : Int32} {x2 : Int32} {h : AH} {v : Int32} {h' : AH} (hf : X7_letterOf a0 x1 x2 h = some (v, h')) : MM G l yX7_letterOf cX7_letterOf 3 (Option.some Jvm.ClassFile.FieldType.int) d [vr (some a0), vi x1, vi x2] h (some (vi v)) h' := by
  refine mm_of hG (plainFor_of_name (by decide)) (Nat.le_of_ble_eq_true rfl) (fun X hX ok hr hnm => ?_)
  subst hX
  exact W_X7_letterOf ok hr hd hf rfl ⟨rfl, rfl, rfl, trivial⟩
theorem cw_X7_longOf : CW yX7_longOf cX7_longOf 2 (Option.some Jvm.ClassFile.FieldType.int) 1 := ⟨q2340, q185, ⟨by decide, by decide⟩, by decide +kernel, by decide⟩
theorem W_X7_longOf {G : GT} {X : CX} {d : Nat} {h0 : AH} {Q : State → Prop} (ok : Ok G X RX7 cX7_longOf 2 d h0) (hr : (cxm X).sig.returnType = (Option.some Jvm.ClassFile.FieldType.int)) (hd : 1 ≤ d) {a0 : Nat} {x1 : Int32} {h : AH} {z : (Int32 × AH)} (hf : X7_longOf a0 x1 h = some z) (hk : Q = QM G X h0 (some (vi z.1)) z.2) {lv : List (Nat × AV)} (hl : lle lv [(0, vr (some a0)), (1, vi x1)]) : V G X 2 h0 Q h 0 lv [] := by
  refine V.sub hl ?_
  unfold X7_longOf at hf
  refine v_aload_n ok 0 dX7_longOf_0 rfl rfl ?_
  refine v_gR ok fl_X7_114 (by first | exact Or.inl ⟨_, rfl⟩ | exact Or.inr ⟨_, rfl⟩) dX7_longOf_1 hf (fun v1 hf => ?_)
  refine v_bipush ok 56 dX7_longOf_4 rfl ?_
  refine v_bipush ok 7 dX7_longOf_6 rfl ?_
  refine v_iload_n ok 1 dX7_longOf_8 rfl rfl ?_
  refine v_imul ok dX7_longOf_9 ?_
  refine v_iadd ok dX7_longOf_10 ?_
  refine v_iald ok rfl dX7_longOf_11 hf (fun v2 hf => ?_)
  exact v_iret ok hr (by cases hf; exact hk) dX7_longOf_12
theorem M_X7_longOf {G : GT} {l : Launch} (hG : Glob G) {d : Nat} (hd : 1 ≤ d) {a0 : Nat} {x1 : Int32} {h : AH} {v : Int32} {h' : AH} (hf : X7_longOf a0 x1 h = some (v, h')) : MM G l yX7_longOf cX7_longOf 2 (Option.some Jvm.ClassFile.FieldType.int) d [vr (some a0), vi x1] h (some (vi v)) h' := by
  refine mm_of hG (plainFor_of_name (by decide)) (Nat.le_of_ble_eq_true rfl) (fun X hX ok hr hnm => ?_)
  subst hX
  exact W_X7_longOf ok hr hd hf rfl ⟨rfl, rfl, trivial⟩
theorem cw_X7_paints : CW yX7_paints cX7_paints 5 none 3 := ⟨q2336, q185, ⟨by decide, by decide⟩, by decide +kernel, by decide⟩
def pkX7_paints_27 (G : GT) (X : CX) (h0 : AH) (Q : State → Prop) (a0 : Nat) (x1 : Int32) (x2 : Int32) (x3 : Int32) (o : ((Int32 × AH) ⊕ (AH))) : Prop := match o with
  | .inl s => ∀ lv : List (Nat × AV), lle lv [(0, vr (some a0)), (1, vi x1), (2, vi x2), (3, vi x3), (4, vi s.1)] → V G X 5 h0 Q s.2 27 lv []
  | .inr z => Q = QM G X h0 none z
theorem W_X7_paints_78 {G : GT} {X : CX} {d : Nat} {h0 : AH} {Q : State → Prop} (ok : Ok G X RX7 cX7_paints 5 d h0) (hr : (cxm X).sig.returnType = none) (hd : 3 ≤ d) {a0 : Nat} {x1 : Int32} {x2 : Int32} {x3 : Int32} {x4 : Int32} {s0 : Option Nat} {s1 : Int32} {s2 : Int32} {h : AH} {z : ((Int32 × AH) ⊕ (AH))} (hf : X7_paints_78 a0 x1 x2 x3 x4 s0 s1 s2 h = some z) (hk : pkX7_paints_27 G X h0 Q a0 x1 x2 x3 z) {lv : List (Nat × AV)} (hl : lle lv [(0, vr (some a0)), (1, vi x1), (2, vi x2), (3, vi x3), (4, vi x4)]) : V G X 5 h0 Q h 78 lv [vi s2, vi s1, vr s0] := by
  refine V.sub hl ?_
  unfold X7_paints_78 at hf
  refine v_iast ok rfl dX7_paints_78 hf (fun h1 hf => ?_)
  refine v_iinc ok x4 (x4 + 1) dX7_paints_79 rfl rfl (by decide) ?_
  refine v_goto ok 27 dX7_paints_82 rfl ?_
  cases hf; exact hk _ ⟨rfl, rfl, rfl, rfl, rfl, trivial⟩
theorem W_X7_paints_27b {G : GT} {X : CX} {d : Nat} {h0 : AH} {Q : State → Prop} (ok : Ok G X RX7 cX7_paints 5 d h0) (hr : (cxm X).sig.returnType = none) (hd : 3 ≤ d) {a0 : Nat} {x1 : Int32} {x2 : Int32} {x3 : Int32} {x4 : Int32} {h : AH} {z : ((Int32 × AH) ⊕ (AH))} (hf : X7_paints_27b  a0 x1 x2 x3 x4 h = some z) (hk : pkX7_paints_27 G X h0 Q a0 x1 x2 x3 z) {lv : List (Nat × AV)} (hl : lle lv [(0, vr (some a0)), (1, vi x1), (2, vi x2), (3, vi x3), (4, vi x4)]) : V G X 5 h0 Q h 27 lv [] := by
  refine V.sub hl ?_
  unfold X7_paints_27b at hf
  refine v_iload ok dX7_paints_27 rfl ?_
  refine v_bipush ok 6 dX7_paints_29 rfl ?_
  refine v_icmp_ge ok 85 dX7_paints_31 rfl hf (fun hf => ?_) (fun hf => ?_)
  ·
    exact v_vret ok hr (by cases hf; exact hk) dX7_paints_85
  ·
    refine v_aload_n ok 0 dX7_paints_34 rfl rfl ?_
    refine v_gR ok fl_X7_132 (by first | exact Or.inl ⟨_, rfl⟩ | exact Or.inr ⟨_, rfl⟩) dX7_paints_35 hf (fun v2 hf => ?_)
    refine v_iconst ok 3 dX7_paints_38 rfl ?_
    refine v_bipush ok 8 dX7_paints_39 rfl ?_
    refine v_iload_n ok 1 dX7_paints_41 rfl rfl ?_
    refine v_imul ok dX7_paints_42 ?_
    refine v_iadd ok dX7_paints_43 ?_
    refine v_iload ok dX7_paints_44 rfl ?_
    refine v_iadd ok dX7_paints_46 ?_
    refine v_iload ok dX7_paints_47 rfl ?_
    refine v_aload_n ok 0 dX7_paints_49 rfl rfl ?_
    refine v_iload_n ok 2 dX7_paints_50 rfl rfl ?_
    refine v_cVi ok (RX7, TX7, 117) cf_7.1 [vi x2] (F := fun a => X7_longOf a x2 h) (fun a v h1 _ hv => M_X7_longOf ok.2.2.2.2.2.2.1 (d := 1) (Nat.le_refl _) hv) (by exact Nat.le_trans (by decide) hd) cw_X7_longOf q2337 q2339 qs109 dX7_paints_51 [vi x4, vi ((3 + (8 * x1)) + x4), vr v2] rfl (Nat.le_of_ble_eq_true rfl) hf (fun v3 h4 hf => ?_)
    refine v_icmp_ge ok 77 dX7_paints_54 rfl hf (fun hf => ?_) (fun hf => ?_)
    ·
      refine v_iconst ok 0 dX7_paints_77 rfl ?_
      exact W_X7_paints_78 ok hr hd hf hk ⟨rfl, rfl, rfl, rfl, rfl, trivial⟩
    ·
      refine v_aload_n ok 0 dX7_paints_57 rfl rfl ?_
      refine v_iload_n ok 3 dX7_paints_58 rfl rfl ?_
      refine v_aload_n ok 0 dX7_paints_59 rfl rfl ?_
      refine v_iload_n ok 3 dX7_paints_60 rfl rfl ?_
      refine v_aload_n ok 0 dX7_paints_61 rfl rfl ?_
      refine v_iload_n ok 2 dX7_paints_62 rfl rfl ?_
      refine v_iload ok dX7_paints_63 rfl ?_
      refine v_cVi ok (RX7, TX7, 117) cf_7.1 [vi x2, vi x4] (F := fun a => X7_letterOf a x2 x4 h4) (fun a v h1 _ hv => M_X7_letterOf ok.2.2.2.2.2.2.1 (d := 1) (Nat.le_refl _) hv) (by exact Nat.le_trans (by decide) hd) cw_X7_letterOf q2341 q2343 qs110 dX7_paints_65 [vi x3, vr (some a0), vi x3, vr (some a0), vi ((3 + (8 * x1)) + x4), vr v2] rfl (Nat.le_of_ble_eq_true rfl) hf (fun v5 h6 hf => ?_)
      refine v_cVi ok (RX7, TX7, 117) cf_7.1 [vi x3, vi v5] (F := fun a => X7_letterAt a x3 v5 h6) (fun a v h1 _ hv => M_X7_letterAt ok.2.2.2.2.2.2.1 (d := 2) (Nat.le_refl _) hv) (by exact Nat.le_trans (by decide) hd) cw_X7_letterAt q2345 q2347 qs111 dX7_paints_68 [vi x3, vr (some a0), vi ((3 + (8 * x1)) + x4), vr v2] rfl (Nat.le_of_ble_eq_true rfl) hf (fun v7 h8 hf => ?_)
      refine v_cVi ok (RX7, TX7, 117) cf_7.1 [vi x3, vi v7] (F := fun a => X7_glyphOf a x3 v7 h8) (fun a v h1 _ hv => M_X7_glyphOf ok.2.2.2.2.2.2.1 (d := 1) (Nat.le_refl _) hv) (by exact Nat.le_trans (by decide) hd) cw_X7_glyphOf q2353 q2355 qs113 dX7_paints_71 [vi ((3 + (8 * x1)) + x4), vr v2] rfl (Nat.le_of_ble_eq_true rfl) hf (fun v9 h10 hf => ?_)
      refine v_goto ok 78 dX7_paints_74 rfl ?_
      exact W_X7_paints_78 ok hr hd hf hk ⟨rfl, rfl, rfl, rfl, rfl, trivial⟩
theorem W_X7_paints_27 {G : GT} {X : CX} {d : Nat} {h0 : AH} {Q : State → Prop} (ok : Ok G X RX7 cX7_paints 5 d h0) (hr : (cxm X).sig.returnType = none) (hd : 3 ≤ d) {a0 : Nat} {x1 : Int32} {x2 : Int32} {x3 : Int32} {x4 : Int32} {h : AH} {z : (AH)} (hf : X7_paints_27  a0 x1 x2 x3 x4 h = some z) (hk : Q = QM G X h0 none z) {lv : List (Nat × AV)} (hl : lle lv [(0, vr (some a0)), (1, vi x1), (2, vi x2), (3, vi x3), (4, vi x4)]) : V G X 5 h0 Q h 27 lv [] := by
  unfold X7_paints_27 at hf
  exact loopC_walk (Wh := fun s : Int32 × AH => ∀ lv : List (Nat × AV), lle lv [(0, vr (some a0)), (1, vi x1), (2, vi x2), (3, vi x3), (4, vi s.1)] → V G X 5 h0 Q s.2 27 lv []) (PK := fun z => Q = QM G X h0 none z) (fun s o hf hk lv hl => W_X7_paints_27b ok hr hd hf (by cases o <;> exact hk) hl) _ z hf hk lv hl
theorem W_X7_paints {G : GT} {X : CX} {d : Nat} {h0 : AH} {Q : State → Prop} (ok : Ok G X RX7 cX7_paints 5 d h0) (hr : (cxm X).sig.returnType = none) (hd : 3 ≤ d) {a0 : Nat} {x1 : Int32} {x2 : Int32} {x3 : Int32} {h : AH} {z : (AH)} (hf : X7_paints a0 x1 x2 x3 h = some z) (hk : Q = QM G X h0 none z) {lv : List (Nat × AV)} (hl : lle lv [(0, vr (some a0)), (1, vi x1), (2, vi x2), (3, vi x3)]) : V G X 5 h0 Q h 0 lv [] := by
  refine V.sub hl ?_
  unfold X7_paints at hf
  refine v_aload_n ok 0 dX7_paints_0 rfl rfl ?_
  refine v_gR ok fl_X7_132 (by first | exact Or.inl ⟨_, rfl⟩ | exact Or.inr ⟨_, rfl⟩) dX7_paints_1 hf (fun v11 hf => ?_)
  refine v_iconst ok 1 dX7_paints_4 rfl ?_
  refine v_bipush ok 8 dX7_paints_5 rfl ?_
  refine v_iload_n ok 1 dX7_paints_7 rfl rfl ?_
  refine v_imul ok dX7_paints_8 ?_
  refine v_iadd ok dX7_paints_9 ?_
  refine v_iload_n ok 2 dX7_paints_10 rfl rfl ?_
  refine v_iast ok rfl dX7_paints_11 hf (fun h12 hf => ?_)
  refine v_aload_n ok 0 dX7_paints_12 rfl rfl ?_
  refine v_gR ok fl_X7_132 (by first | exact Or.inl ⟨_, rfl⟩ | exact Or.inr ⟨_, rfl⟩) dX7_paints_13 hf (fun v13 hf => ?_)
  refine v_iconst ok 2 dX7_paints_16 rfl ?_
  refine v_bipush ok 8 dX7_paints_17 rfl ?_
  refine v_iload_n ok 1 dX7_paints_19 rfl rfl ?_
  refine v_imul ok dX7_paints_20 ?_
  refine v_iadd ok dX7_paints_21 ?_
  refine v_iload_n ok 3 dX7_paints_22 rfl rfl ?_
  refine v_iast ok rfl dX7_paints_23 hf (fun h14 hf => ?_)
  refine v_iconst ok 0 dX7_paints_24 rfl ?_
  refine v_istore ok dX7_paints_25 (by decide) ?_
  exact W_X7_paints_27 ok hr hd hf hk ⟨rfl, rfl, rfl, rfl, rfl, trivial⟩
theorem M_X7_paints {G : GT} {l : Launch} (hG : Glob G) {d : Nat} (hd : 3 ≤ d) {a0 : Nat} {x1 : Int32} {x2 : Int32} {x3 : Int32} {h : AH} {h' : AH} (hf : X7_paints a0 x1 x2 x3 h = some h') : MM G l yX7_paints cX7_paints 5 none d [vr (some a0), vi x1, vi x2, vi x3] h none h' := by
  refine mm_of hG (plainFor_of_name (by decide)) (Nat.le_of_ble_eq_true rfl) (fun X hX ok hr hnm => ?_)
  subst hX
  exact W_X7_paints ok hr hd hf rfl ⟨rfl, rfl, rfl, rfl, trivial⟩
