set_option maxRecDepth 100000
/-! ===== the twin: its cells ===== -/
def twK : List (Nat × Nat × Nat) := [(1349, 7, 0), (1350, 100, 1600), (1351, 100, 6), (1352, 102, 6), (1353, 102, 4), (1354, 102, 2), (1355, 102, 4), (1356, 102, 5), (1357, 102, 5), (1358, 102, 4), (1359, 102, 5), (1360, 102, 4), (1361, 102, 4), (1362, 102, 4), (1363, 102, 3), (1364, 102, 6), (1365, 102, 3), (1366, 102, 5), (1367, 102, 4), (1368, 102, 4), (1369, 102, 6), (1370, 102, 4), (1371, 102, 4), (1372, 102, 2), (1373, 102, 2), (1374, 102, 3), (1375, 102, 3), (1376, 102, 3), (1377, 102, 3), (1378, 102, 3), (1379, 102, 7), (1380, 100, 6), (1381, 100, 4), (1382, 100, 96), (1383, 100, 112), (1384, 100, 8), (1385, 100, 6), (1386, 100, 4), (1387, 100, 4), (1388, 100, 3200), (1389, 100, 154), (1390, 100, 33), (1391, 100, 24), (1392, 100, 6), (1393, 100, 49), (1394, 100, 49), (1395, 100, 49), (1396, 100, 64), (1397, 100, 12), (1398, 100, 12), (1399, 100, 3080), (1400, 102, 5), (1401, 102, 4), (1402, 102, 5), (1403, 102, 5), (1404, 102, 4), (1405, 102, 5), (1406, 102, 3), (1407, 102, 3), (1408, 102, 2), (1409, 102, 3), (1410, 102, 3), (1411, 102, 3), (1412, 102, 4), (1413, 102, 4), (1414, 102, 3), (1415, 102, 6), (1416, 102, 3), (1417, 102, 5), (1418, 102, 4), (1419, 102, 4), (1420, 102, 6), (1421, 102, 4), (1422, 102, 4), (1423, 102, 2), (1424, 100, 1700), (1425, 100, 1700), (1426, 103, 1700), (1427, 100, 59)]
def twR : List (Nat × Nat) := [(0, 1350), (9, 1351), (11, 1352), (12, 1353), (13, 1354), (14, 1355), (15, 1356), (16, 1357), (17, 1358), (18, 1359), (19, 1360), (20, 1361), (21, 1362), (22, 1363), (23, 1364), (24, 1365), (25, 1366), (26, 1367), (27, 1368), (28, 1369), (29, 1370), (30, 1371), (31, 1372), (32, 1373), (33, 1374), (34, 1375), (35, 1376), (36, 1377), (37, 1378), (38, 1379), (41, 1380), (42, 1381), (43, 1382), (46, 1383), (49, 1384), (50, 1385), (51, 1386), (52, 1387), (53, 1388), (57, 1389), (58, 1390), (68, 1391), (69, 1392), (70, 1393), (71, 1394), (72, 1395), (73, 1396), (75, 1397), (76, 1398), (77, 1399), (81, 1400), (82, 1401), (83, 1402), (84, 1403), (85, 1404), (86, 1405), (87, 1406), (88, 1407), (89, 1408), (90, 1409), (91, 1410), (92, 1411), (93, 1412), (94, 1413), (95, 1414), (96, 1415), (97, 1416), (98, 1417), (99, 1418), (100, 1419), (101, 1420), (102, 1421), (103, 1422), (104, 1423), (105, 1424), (107, 1425), (111, 1426), (115, 1427)]
/-- kinds and references of the twin -/
def TKK (K : Nat → Nat × Nat) (R : Nat → Nat → Option Nat) : Prop := (∀ e ∈ twK, K e.1 = e.2) ∧ ∀ e ∈ twR, R 1349 e.1 = some e.2
section Twin
variable {h : AH}
theorem tk0 (H : TKK (hK h) (hR h)) : hK h 1349 = (7, 0) := H.1 (1349, 7, 0) (List.mem_of_getElem? (i := 0) rfl)
theorem nc0 : NC ≤ 1349 := by decide
theorem tgI {k : Nat} (H : TKK (hK h) (hR h)) : gI 7 k (some 1349) h = some (hI h 1349 k) := gI_e (tk0 H)
theorem tpI {k : Nat} {v : Int32} (H : TKK (hK h) (hR h)) : pI 7 k (some 1349) v h = some (wI 1349 k v h) := pI_e (tk0 H) nc0
theorem tpZ {k : Nat} {v : Int32} (H : TKK (hK h) (hR h)) (hv : v = 0 ∨ v = 1) : pZ 7 k (some 1349) v h = some (wI 1349 k v h) := pZ_e (tk0 H) nc0 hv
theorem tgL {k : Nat} (H : TKK (hK h) (hR h)) : gL 7 k (some 1349) h = some (hL h 1349 k) := gL_e (tk0 H)
theorem tpL {k : Nat} {v : Int64} (H : TKK (hK h) (hR h)) : pL 7 k (some 1349) v h = some (wL 1349 k v h) := pL_e (tk0 H) nc0
theorem tisO (H : TKK (hK h) (hR h)) : isO 7 (some 1349) h = some 1349 := isO_e (tk0 H)
theorem tg_0 (H : TKK (hK h) (hR h)) : gR 7 0 (some 1349) h = some (some 1350) := (gR_e (tk0 H)).trans (congrArg some (H.2 (0, 1350) (List.mem_of_getElem? (i := 0) rfl)))
theorem tg_9 (H : TKK (hK h) (hR h)) : gR 7 9 (some 1349) h = some (some 1351) := (gR_e (tk0 H)).trans (congrArg some (H.2 (9, 1351) (List.mem_of_getElem? (i := 1) rfl)))
theorem tg_11 (H : TKK (hK h) (hR h)) : gR 7 11 (some 1349) h = some (some 1352) := (gR_e (tk0 H)).trans (congrArg some (H.2 (11, 1352) (List.mem_of_getElem? (i := 2) rfl)))
theorem tg_12 (H : TKK (hK h) (hR h)) : gR 7 12 (some 1349) h = some (some 1353) := (gR_e (tk0 H)).trans (congrArg some (H.2 (12, 1353) (List.mem_of_getElem? (i := 3) rfl)))
theorem tg_13 (H : TKK (hK h) (hR h)) : gR 7 13 (some 1349) h = some (some 1354) := (gR_e (tk0 H)).trans (congrArg some (H.2 (13, 1354) (List.mem_of_getElem? (i := 4) rfl)))
theorem tg_14 (H : TKK (hK h) (hR h)) : gR 7 14 (some 1349) h = some (some 1355) := (gR_e (tk0 H)).trans (congrArg some (H.2 (14, 1355) (List.mem_of_getElem? (i := 5) rfl)))
theorem tg_15 (H : TKK (hK h) (hR h)) : gR 7 15 (some 1349) h = some (some 1356) := (gR_e (tk0 H)).trans (congrArg some (H.2 (15, 1356) (List.mem_of_getElem? (i := 6) rfl)))
theorem tg_16 (H : TKK (hK h) (hR h)) : gR 7 16 (some 1349) h = some (some 1357) := (gR_e (tk0 H)).trans (congrArg some (H.2 (16, 1357) (List.mem_of_getElem? (i := 7) rfl)))
theorem tg_17 (H : TKK (hK h) (hR h)) : gR 7 17 (some 1349) h = some (some 1358) := (gR_e (tk0 H)).trans (congrArg some (H.2 (17, 1358) (List.mem_of_getElem? (i := 8) rfl)))
theorem tg_18 (H : TKK (hK h) (hR h)) : gR 7 18 (some 1349) h = some (some 1359) := (gR_e (tk0 H)).trans (congrArg some (H.2 (18, 1359) (List.mem_of_getElem? (i := 9) rfl)))
theorem tg_19 (H : TKK (hK h) (hR h)) : gR 7 19 (some 1349) h = some (some 1360) := (gR_e (tk0 H)).trans (congrArg some (H.2 (19, 1360) (List.mem_of_getElem? (i := 10) rfl)))
theorem tg_20 (H : TKK (hK h) (hR h)) : gR 7 20 (some 1349) h = some (some 1361) := (gR_e (tk0 H)).trans (congrArg some (H.2 (20, 1361) (List.mem_of_getElem? (i := 11) rfl)))
theorem tg_21 (H : TKK (hK h) (hR h)) : gR 7 21 (some 1349) h = some (some 1362) := (gR_e (tk0 H)).trans (congrArg some (H.2 (21, 1362) (List.mem_of_getElem? (i := 12) rfl)))
theorem tg_22 (H : TKK (hK h) (hR h)) : gR 7 22 (some 1349) h = some (some 1363) := (gR_e (tk0 H)).trans (congrArg some (H.2 (22, 1363) (List.mem_of_getElem? (i := 13) rfl)))
theorem tg_23 (H : TKK (hK h) (hR h)) : gR 7 23 (some 1349) h = some (some 1364) := (gR_e (tk0 H)).trans (congrArg some (H.2 (23, 1364) (List.mem_of_getElem? (i := 14) rfl)))
theorem tg_24 (H : TKK (hK h) (hR h)) : gR 7 24 (some 1349) h = some (some 1365) := (gR_e (tk0 H)).trans (congrArg some (H.2 (24, 1365) (List.mem_of_getElem? (i := 15) rfl)))
theorem tg_25 (H : TKK (hK h) (hR h)) : gR 7 25 (some 1349) h = some (some 1366) := (gR_e (tk0 H)).trans (congrArg some (H.2 (25, 1366) (List.mem_of_getElem? (i := 16) rfl)))
theorem tg_26 (H : TKK (hK h) (hR h)) : gR 7 26 (some 1349) h = some (some 1367) := (gR_e (tk0 H)).trans (congrArg some (H.2 (26, 1367) (List.mem_of_getElem? (i := 17) rfl)))
theorem tg_27 (H : TKK (hK h) (hR h)) : gR 7 27 (some 1349) h = some (some 1368) := (gR_e (tk0 H)).trans (congrArg some (H.2 (27, 1368) (List.mem_of_getElem? (i := 18) rfl)))
theorem tg_28 (H : TKK (hK h) (hR h)) : gR 7 28 (some 1349) h = some (some 1369) := (gR_e (tk0 H)).trans (congrArg some (H.2 (28, 1369) (List.mem_of_getElem? (i := 19) rfl)))
theorem tg_29 (H : TKK (hK h) (hR h)) : gR 7 29 (some 1349) h = some (some 1370) := (gR_e (tk0 H)).trans (congrArg some (H.2 (29, 1370) (List.mem_of_getElem? (i := 20) rfl)))
theorem tg_30 (H : TKK (hK h) (hR h)) : gR 7 30 (some 1349) h = some (some 1371) := (gR_e (tk0 H)).trans (congrArg some (H.2 (30, 1371) (List.mem_of_getElem? (i := 21) rfl)))
theorem tg_31 (H : TKK (hK h) (hR h)) : gR 7 31 (some 1349) h = some (some 1372) := (gR_e (tk0 H)).trans (congrArg some (H.2 (31, 1372) (List.mem_of_getElem? (i := 22) rfl)))
theorem tg_32 (H : TKK (hK h) (hR h)) : gR 7 32 (some 1349) h = some (some 1373) := (gR_e (tk0 H)).trans (congrArg some (H.2 (32, 1373) (List.mem_of_getElem? (i := 23) rfl)))
theorem tg_33 (H : TKK (hK h) (hR h)) : gR 7 33 (some 1349) h = some (some 1374) := (gR_e (tk0 H)).trans (congrArg some (H.2 (33, 1374) (List.mem_of_getElem? (i := 24) rfl)))
theorem tg_34 (H : TKK (hK h) (hR h)) : gR 7 34 (some 1349) h = some (some 1375) := (gR_e (tk0 H)).trans (congrArg some (H.2 (34, 1375) (List.mem_of_getElem? (i := 25) rfl)))
theorem tg_35 (H : TKK (hK h) (hR h)) : gR 7 35 (some 1349) h = some (some 1376) := (gR_e (tk0 H)).trans (congrArg some (H.2 (35, 1376) (List.mem_of_getElem? (i := 26) rfl)))
theorem tg_36 (H : TKK (hK h) (hR h)) : gR 7 36 (some 1349) h = some (some 1377) := (gR_e (tk0 H)).trans (congrArg some (H.2 (36, 1377) (List.mem_of_getElem? (i := 27) rfl)))
theorem tg_37 (H : TKK (hK h) (hR h)) : gR 7 37 (some 1349) h = some (some 1378) := (gR_e (tk0 H)).trans (congrArg some (H.2 (37, 1378) (List.mem_of_getElem? (i := 28) rfl)))
theorem tg_38 (H : TKK (hK h) (hR h)) : gR 7 38 (some 1349) h = some (some 1379) := (gR_e (tk0 H)).trans (congrArg some (H.2 (38, 1379) (List.mem_of_getElem? (i := 29) rfl)))
theorem tg_41 (H : TKK (hK h) (hR h)) : gR 7 41 (some 1349) h = some (some 1380) := (gR_e (tk0 H)).trans (congrArg some (H.2 (41, 1380) (List.mem_of_getElem? (i := 30) rfl)))
theorem tg_42 (H : TKK (hK h) (hR h)) : gR 7 42 (some 1349) h = some (some 1381) := (gR_e (tk0 H)).trans (congrArg some (H.2 (42, 1381) (List.mem_of_getElem? (i := 31) rfl)))
theorem tg_43 (H : TKK (hK h) (hR h)) : gR 7 43 (some 1349) h = some (some 1382) := (gR_e (tk0 H)).trans (congrArg some (H.2 (43, 1382) (List.mem_of_getElem? (i := 32) rfl)))
theorem tg_46 (H : TKK (hK h) (hR h)) : gR 7 46 (some 1349) h = some (some 1383) := (gR_e (tk0 H)).trans (congrArg some (H.2 (46, 1383) (List.mem_of_getElem? (i := 33) rfl)))
theorem tg_49 (H : TKK (hK h) (hR h)) : gR 7 49 (some 1349) h = some (some 1384) := (gR_e (tk0 H)).trans (congrArg some (H.2 (49, 1384) (List.mem_of_getElem? (i := 34) rfl)))
theorem tg_50 (H : TKK (hK h) (hR h)) : gR 7 50 (some 1349) h = some (some 1385) := (gR_e (tk0 H)).trans (congrArg some (H.2 (50, 1385) (List.mem_of_getElem? (i := 35) rfl)))
theorem tg_51 (H : TKK (hK h) (hR h)) : gR 7 51 (some 1349) h = some (some 1386) := (gR_e (tk0 H)).trans (congrArg some (H.2 (51, 1386) (List.mem_of_getElem? (i := 36) rfl)))
theorem tg_52 (H : TKK (hK h) (hR h)) : gR 7 52 (some 1349) h = some (some 1387) := (gR_e (tk0 H)).trans (congrArg some (H.2 (52, 1387) (List.mem_of_getElem? (i := 37) rfl)))
theorem tg_53 (H : TKK (hK h) (hR h)) : gR 7 53 (some 1349) h = some (some 1388) := (gR_e (tk0 H)).trans (congrArg some (H.2 (53, 1388) (List.mem_of_getElem? (i := 38) rfl)))
theorem tg_57 (H : TKK (hK h) (hR h)) : gR 7 57 (some 1349) h = some (some 1389) := (gR_e (tk0 H)).trans (congrArg some (H.2 (57, 1389) (List.mem_of_getElem? (i := 39) rfl)))
theorem tg_58 (H : TKK (hK h) (hR h)) : gR 7 58 (some 1349) h = some (some 1390) := (gR_e (tk0 H)).trans (congrArg some (H.2 (58, 1390) (List.mem_of_getElem? (i := 40) rfl)))
theorem tg_68 (H : TKK (hK h) (hR h)) : gR 7 68 (some 1349) h = some (some 1391) := (gR_e (tk0 H)).trans (congrArg some (H.2 (68, 1391) (List.mem_of_getElem? (i := 41) rfl)))
theorem tg_69 (H : TKK (hK h) (hR h)) : gR 7 69 (some 1349) h = some (some 1392) := (gR_e (tk0 H)).trans (congrArg some (H.2 (69, 1392) (List.mem_of_getElem? (i := 42) rfl)))
theorem tg_70 (H : TKK (hK h) (hR h)) : gR 7 70 (some 1349) h = some (some 1393) := (gR_e (tk0 H)).trans (congrArg some (H.2 (70, 1393) (List.mem_of_getElem? (i := 43) rfl)))
theorem tg_71 (H : TKK (hK h) (hR h)) : gR 7 71 (some 1349) h = some (some 1394) := (gR_e (tk0 H)).trans (congrArg some (H.2 (71, 1394) (List.mem_of_getElem? (i := 44) rfl)))
theorem tg_72 (H : TKK (hK h) (hR h)) : gR 7 72 (some 1349) h = some (some 1395) := (gR_e (tk0 H)).trans (congrArg some (H.2 (72, 1395) (List.mem_of_getElem? (i := 45) rfl)))
theorem tg_73 (H : TKK (hK h) (hR h)) : gR 7 73 (some 1349) h = some (some 1396) := (gR_e (tk0 H)).trans (congrArg some (H.2 (73, 1396) (List.mem_of_getElem? (i := 46) rfl)))
theorem tg_75 (H : TKK (hK h) (hR h)) : gR 7 75 (some 1349) h = some (some 1397) := (gR_e (tk0 H)).trans (congrArg some (H.2 (75, 1397) (List.mem_of_getElem? (i := 47) rfl)))
theorem tg_76 (H : TKK (hK h) (hR h)) : gR 7 76 (some 1349) h = some (some 1398) := (gR_e (tk0 H)).trans (congrArg some (H.2 (76, 1398) (List.mem_of_getElem? (i := 48) rfl)))
theorem tg_77 (H : TKK (hK h) (hR h)) : gR 7 77 (some 1349) h = some (some 1399) := (gR_e (tk0 H)).trans (congrArg some (H.2 (77, 1399) (List.mem_of_getElem? (i := 49) rfl)))
theorem tg_81 (H : TKK (hK h) (hR h)) : gR 7 81 (some 1349) h = some (some 1400) := (gR_e (tk0 H)).trans (congrArg some (H.2 (81, 1400) (List.mem_of_getElem? (i := 50) rfl)))
theorem tg_82 (H : TKK (hK h) (hR h)) : gR 7 82 (some 1349) h = some (some 1401) := (gR_e (tk0 H)).trans (congrArg some (H.2 (82, 1401) (List.mem_of_getElem? (i := 51) rfl)))
theorem tg_83 (H : TKK (hK h) (hR h)) : gR 7 83 (some 1349) h = some (some 1402) := (gR_e (tk0 H)).trans (congrArg some (H.2 (83, 1402) (List.mem_of_getElem? (i := 52) rfl)))
theorem tg_84 (H : TKK (hK h) (hR h)) : gR 7 84 (some 1349) h = some (some 1403) := (gR_e (tk0 H)).trans (congrArg some (H.2 (84, 1403) (List.mem_of_getElem? (i := 53) rfl)))
theorem tg_85 (H : TKK (hK h) (hR h)) : gR 7 85 (some 1349) h = some (some 1404) := (gR_e (tk0 H)).trans (congrArg some (H.2 (85, 1404) (List.mem_of_getElem? (i := 54) rfl)))
theorem tg_86 (H : TKK (hK h) (hR h)) : gR 7 86 (some 1349) h = some (some 1405) := (gR_e (tk0 H)).trans (congrArg some (H.2 (86, 1405) (List.mem_of_getElem? (i := 55) rfl)))
theorem tg_87 (H : TKK (hK h) (hR h)) : gR 7 87 (some 1349) h = some (some 1406) := (gR_e (tk0 H)).trans (congrArg some (H.2 (87, 1406) (List.mem_of_getElem? (i := 56) rfl)))
theorem tg_88 (H : TKK (hK h) (hR h)) : gR 7 88 (some 1349) h = some (some 1407) := (gR_e (tk0 H)).trans (congrArg some (H.2 (88, 1407) (List.mem_of_getElem? (i := 57) rfl)))
theorem tg_89 (H : TKK (hK h) (hR h)) : gR 7 89 (some 1349) h = some (some 1408) := (gR_e (tk0 H)).trans (congrArg some (H.2 (89, 1408) (List.mem_of_getElem? (i := 58) rfl)))
theorem tg_90 (H : TKK (hK h) (hR h)) : gR 7 90 (some 1349) h = some (some 1409) := (gR_e (tk0 H)).trans (congrArg some (H.2 (90, 1409) (List.mem_of_getElem? (i := 59) rfl)))
theorem tg_91 (H : TKK (hK h) (hR h)) : gR 7 91 (some 1349) h = some (some 1410) := (gR_e (tk0 H)).trans (congrArg some (H.2 (91, 1410) (List.mem_of_getElem? (i := 60) rfl)))
theorem tg_92 (H : TKK (hK h) (hR h)) : gR 7 92 (some 1349) h = some (some 1411) := (gR_e (tk0 H)).trans (congrArg some (H.2 (92, 1411) (List.mem_of_getElem? (i := 61) rfl)))
theorem tg_93 (H : TKK (hK h) (hR h)) : gR 7 93 (some 1349) h = some (some 1412) := (gR_e (tk0 H)).trans (congrArg some (H.2 (93, 1412) (List.mem_of_getElem? (i := 62) rfl)))
theorem tg_94 (H : TKK (hK h) (hR h)) : gR 7 94 (some 1349) h = some (some 1413) := (gR_e (tk0 H)).trans (congrArg some (H.2 (94, 1413) (List.mem_of_getElem? (i := 63) rfl)))
theorem tg_95 (H : TKK (hK h) (hR h)) : gR 7 95 (some 1349) h = some (some 1414) := (gR_e (tk0 H)).trans (congrArg some (H.2 (95, 1414) (List.mem_of_getElem? (i := 64) rfl)))
theorem tg_96 (H : TKK (hK h) (hR h)) : gR 7 96 (some 1349) h = some (some 1415) := (gR_e (tk0 H)).trans (congrArg some (H.2 (96, 1415) (List.mem_of_getElem? (i := 65) rfl)))
theorem tg_97 (H : TKK (hK h) (hR h)) : gR 7 97 (some 1349) h = some (some 1416) := (gR_e (tk0 H)).trans (congrArg some (H.2 (97, 1416) (List.mem_of_getElem? (i := 66) rfl)))
theorem tg_98 (H : TKK (hK h) (hR h)) : gR 7 98 (some 1349) h = some (some 1417) := (gR_e (tk0 H)).trans (congrArg some (H.2 (98, 1417) (List.mem_of_getElem? (i := 67) rfl)))
theorem tg_99 (H : TKK (hK h) (hR h)) : gR 7 99 (some 1349) h = some (some 1418) := (gR_e (tk0 H)).trans (congrArg some (H.2 (99, 1418) (List.mem_of_getElem? (i := 68) rfl)))
theorem tg_100 (H : TKK (hK h) (hR h)) : gR 7 100 (some 1349) h = some (some 1419) := (gR_e (tk0 H)).trans (congrArg some (H.2 (100, 1419) (List.mem_of_getElem? (i := 69) rfl)))
theorem tg_101 (H : TKK (hK h) (hR h)) : gR 7 101 (some 1349) h = some (some 1420) := (gR_e (tk0 H)).trans (congrArg some (H.2 (101, 1420) (List.mem_of_getElem? (i := 70) rfl)))
theorem tg_102 (H : TKK (hK h) (hR h)) : gR 7 102 (some 1349) h = some (some 1421) := (gR_e (tk0 H)).trans (congrArg some (H.2 (102, 1421) (List.mem_of_getElem? (i := 71) rfl)))
theorem tg_103 (H : TKK (hK h) (hR h)) : gR 7 103 (some 1349) h = some (some 1422) := (gR_e (tk0 H)).trans (congrArg some (H.2 (103, 1422) (List.mem_of_getElem? (i := 72) rfl)))
theorem tg_104 (H : TKK (hK h) (hR h)) : gR 7 104 (some 1349) h = some (some 1423) := (gR_e (tk0 H)).trans (congrArg some (H.2 (104, 1423) (List.mem_of_getElem? (i := 73) rfl)))
theorem tg_105 (H : TKK (hK h) (hR h)) : gR 7 105 (some 1349) h = some (some 1424) := (gR_e (tk0 H)).trans (congrArg some (H.2 (105, 1424) (List.mem_of_getElem? (i := 74) rfl)))
theorem tg_107 (H : TKK (hK h) (hR h)) : gR 7 107 (some 1349) h = some (some 1425) := (gR_e (tk0 H)).trans (congrArg some (H.2 (107, 1425) (List.mem_of_getElem? (i := 75) rfl)))
theorem tg_111 (H : TKK (hK h) (hR h)) : gR 7 111 (some 1349) h = some (some 1426) := (gR_e (tk0 H)).trans (congrArg some (H.2 (111, 1426) (List.mem_of_getElem? (i := 76) rfl)))
theorem tg_115 (H : TKK (hK h) (hR h)) : gR 7 115 (some 1349) h = some (some 1427) := (gR_e (tk0 H)).trans (congrArg some (H.2 (115, 1427) (List.mem_of_getElem? (i := 77) rfl)))
theorem tk_1350 (H : TKK (hK h) (hR h)) : hK h 1350 = (100, 1600) := H.1 (1350, 100, 1600) (List.mem_of_getElem? (i := 1) rfl)
theorem tx_1350 {n : Nat} (H : TKK (hK h) (hR h)) (hn : n < 1600) : xI 100 (some 1350) (nI n) h = some (hI h 1350 n) := xI_e (tk_1350 H) hn (by decide)
theorem ts_1350 {n : Nat} {v : Int32} (H : TKK (hK h) (hR h)) (hn : n < 1600) : sI 100 (some 1350) (nI n) v h = some (wI 1350 n v h) := sI_e (tk_1350 H) (by decide) hn (by decide)
theorem txl_1350 {n : Nat} (H : TKK (hK h) (hR h)) (hn : (OfNat.ofNat n : Nat) < 1600) : xI 100 (some 1350) (no_index (OfNat.ofNat n)) h = some (hI h 1350 (OfNat.ofNat n)) := tx_1350 H hn
theorem tsl_1350 {n : Nat} {v : Int32} (H : TKK (hK h) (hR h)) (hn : (OfNat.ofNat n : Nat) < 1600) : sI 100 (some 1350) (no_index (OfNat.ofNat n)) v h = some (wI 1350 (OfNat.ofNat n) v h) := ts_1350 H hn
theorem tk_1351 (H : TKK (hK h) (hR h)) : hK h 1351 = (100, 6) := H.1 (1351, 100, 6) (List.mem_of_getElem? (i := 2) rfl)
theorem tx_1351 {n : Nat} (H : TKK (hK h) (hR h)) (hn : n < 6) : xI 100 (some 1351) (nI n) h = some (hI h 1351 n) := xI_e (tk_1351 H) hn (by decide)
theorem ts_1351 {n : Nat} {v : Int32} (H : TKK (hK h) (hR h)) (hn : n < 6) : sI 100 (some 1351) (nI n) v h = some (wI 1351 n v h) := sI_e (tk_1351 H) (by decide) hn (by decide)
theorem txl_1351 {n : Nat} (H : TKK (hK h) (hR h)) (hn : (OfNat.ofNat n : Nat) < 6) : xI 100 (some 1351) (no_index (OfNat.ofNat n)) h = some (hI h 1351 (OfNat.ofNat n)) := tx_1351 H hn
theorem tsl_1351 {n : Nat} {v : Int32} (H : TKK (hK h) (hR h)) (hn : (OfNat.ofNat n : Nat) < 6) : sI 100 (some 1351) (no_index (OfNat.ofNat n)) v h = some (wI 1351 (OfNat.ofNat n) v h) := ts_1351 H hn
theorem tk_1352 (H : TKK (hK h) (hR h)) : hK h 1352 = (102, 6) := H.1 (1352, 102, 6) (List.mem_of_getElem? (i := 3) rfl)
theorem tx_1352 {n : Nat} (H : TKK (hK h) (hR h)) (hn : n < 6) : xI 102 (some 1352) (nI n) h = some (hI h 1352 n) := xI_e (tk_1352 H) hn (by decide)
theorem ta_1352 (H : TKK (hK h) (hR h)) : aln (some 1352) h = some (nI 6) := aln_e (tk_1352 H) (by decide) (by decide)
theorem tk_1353 (H : TKK (hK h) (hR h)) : hK h 1353 = (102, 4) := H.1 (1353, 102, 4) (List.mem_of_getElem? (i := 4) rfl)
theorem tx_1353 {n : Nat} (H : TKK (hK h) (hR h)) (hn : n < 4) : xI 102 (some 1353) (nI n) h = some (hI h 1353 n) := xI_e (tk_1353 H) hn (by decide)
theorem ta_1353 (H : TKK (hK h) (hR h)) : aln (some 1353) h = some (nI 4) := aln_e (tk_1353 H) (by decide) (by decide)
theorem tk_1354 (H : TKK (hK h) (hR h)) : hK h 1354 = (102, 2) := H.1 (1354, 102, 2) (List.mem_of_getElem? (i := 5) rfl)
theorem tx_1354 {n : Nat} (H : TKK (hK h) (hR h)) (hn : n < 2) : xI 102 (some 1354) (nI n) h = some (hI h 1354 n) := xI_e (tk_1354 H) hn (by decide)
theorem ta_1354 (H : TKK (hK h) (hR h)) : aln (some 1354) h = some (nI 2) := aln_e (tk_1354 H) (by decide) (by decide)
theorem tk_1355 (H : TKK (hK h) (hR h)) : hK h 1355 = (102, 4) := H.1 (1355, 102, 4) (List.mem_of_getElem? (i := 6) rfl)
theorem tx_1355 {n : Nat} (H : TKK (hK h) (hR h)) (hn : n < 4) : xI 102 (some 1355) (nI n) h = some (hI h 1355 n) := xI_e (tk_1355 H) hn (by decide)
theorem ta_1355 (H : TKK (hK h) (hR h)) : aln (some 1355) h = some (nI 4) := aln_e (tk_1355 H) (by decide) (by decide)
theorem tk_1356 (H : TKK (hK h) (hR h)) : hK h 1356 = (102, 5) := H.1 (1356, 102, 5) (List.mem_of_getElem? (i := 7) rfl)
theorem tx_1356 {n : Nat} (H : TKK (hK h) (hR h)) (hn : n < 5) : xI 102 (some 1356) (nI n) h = some (hI h 1356 n) := xI_e (tk_1356 H) hn (by decide)
theorem ta_1356 (H : TKK (hK h) (hR h)) : aln (some 1356) h = some (nI 5) := aln_e (tk_1356 H) (by decide) (by decide)
theorem tk_1357 (H : TKK (hK h) (hR h)) : hK h 1357 = (102, 5) := H.1 (1357, 102, 5) (List.mem_of_getElem? (i := 8) rfl)
theorem tx_1357 {n : Nat} (H : TKK (hK h) (hR h)) (hn : n < 5) : xI 102 (some 1357) (nI n) h = some (hI h 1357 n) := xI_e (tk_1357 H) hn (by decide)
theorem ta_1357 (H : TKK (hK h) (hR h)) : aln (some 1357) h = some (nI 5) := aln_e (tk_1357 H) (by decide) (by decide)
theorem tk_1358 (H : TKK (hK h) (hR h)) : hK h 1358 = (102, 4) := H.1 (1358, 102, 4) (List.mem_of_getElem? (i := 9) rfl)
theorem tx_1358 {n : Nat} (H : TKK (hK h) (hR h)) (hn : n < 4) : xI 102 (some 1358) (nI n) h = some (hI h 1358 n) := xI_e (tk_1358 H) hn (by decide)
theorem ta_1358 (H : TKK (hK h) (hR h)) : aln (some 1358) h = some (nI 4) := aln_e (tk_1358 H) (by decide) (by decide)
theorem tk_1359 (H : TKK (hK h) (hR h)) : hK h 1359 = (102, 5) := H.1 (1359, 102, 5) (List.mem_of_getElem? (i := 10) rfl)
theorem tx_1359 {n : Nat} (H : TKK (hK h) (hR h)) (hn : n < 5) : xI 102 (some 1359) (nI n) h = some (hI h 1359 n) := xI_e (tk_1359 H) hn (by decide)
theorem ta_1359 (H : TKK (hK h) (hR h)) : aln (some 1359) h = some (nI 5) := aln_e (tk_1359 H) (by decide) (by decide)
theorem tk_1360 (H : TKK (hK h) (hR h)) : hK h 1360 = (102, 4) := H.1 (1360, 102, 4) (List.mem_of_getElem? (i := 11) rfl)
theorem tx_1360 {n : Nat} (H : TKK (hK h) (hR h)) (hn : n < 4) : xI 102 (some 1360) (nI n) h = some (hI h 1360 n) := xI_e (tk_1360 H) hn (by decide)
theorem ta_1360 (H : TKK (hK h) (hR h)) : aln (some 1360) h = some (nI 4) := aln_e (tk_1360 H) (by decide) (by decide)
theorem tk_1361 (H : TKK (hK h) (hR h)) : hK h 1361 = (102, 4) := H.1 (1361, 102, 4) (List.mem_of_getElem? (i := 12) rfl)
theorem tx_1361 {n : Nat} (H : TKK (hK h) (hR h)) (hn : n < 4) : xI 102 (some 1361) (nI n) h = some (hI h 1361 n) := xI_e (tk_1361 H) hn (by decide)
theorem ta_1361 (H : TKK (hK h) (hR h)) : aln (some 1361) h = some (nI 4) := aln_e (tk_1361 H) (by decide) (by decide)
theorem tk_1362 (H : TKK (hK h) (hR h)) : hK h 1362 = (102, 4) := H.1 (1362, 102, 4) (List.mem_of_getElem? (i := 13) rfl)
theorem tx_1362 {n : Nat} (H : TKK (hK h) (hR h)) (hn : n < 4) : xI 102 (some 1362) (nI n) h = some (hI h 1362 n) := xI_e (tk_1362 H) hn (by decide)
theorem ta_1362 (H : TKK (hK h) (hR h)) : aln (some 1362) h = some (nI 4) := aln_e (tk_1362 H) (by decide) (by decide)
theorem tk_1363 (H : TKK (hK h) (hR h)) : hK h 1363 = (102, 3) := H.1 (1363, 102, 3) (List.mem_of_getElem? (i := 14) rfl)
theorem tx_1363 {n : Nat} (H : TKK (hK h) (hR h)) (hn : n < 3) : xI 102 (some 1363) (nI n) h = some (hI h 1363 n) := xI_e (tk_1363 H) hn (by decide)
theorem ta_1363 (H : TKK (hK h) (hR h)) : aln (some 1363) h = some (nI 3) := aln_e (tk_1363 H) (by decide) (by decide)
theorem tk_1364 (H : TKK (hK h) (hR h)) : hK h 1364 = (102, 6) := H.1 (1364, 102, 6) (List.mem_of_getElem? (i := 15) rfl)
theorem tx_1364 {n : Nat} (H : TKK (hK h) (hR h)) (hn : n < 6) : xI 102 (some 1364) (nI n) h = some (hI h 1364 n) := xI_e (tk_1364 H) hn (by decide)
theorem ta_1364 (H : TKK (hK h) (hR h)) : aln (some 1364) h = some (nI 6) := aln_e (tk_1364 H) (by decide) (by decide)
theorem tk_1365 (H : TKK (hK h) (hR h)) : hK h 1365 = (102, 3) := H.1 (1365, 102, 3) (List.mem_of_getElem? (i := 16) rfl)
theorem tx_1365 {n : Nat} (H : TKK (hK h) (hR h)) (hn : n < 3) : xI 102 (some 1365) (nI n) h = some (hI h 1365 n) := xI_e (tk_1365 H) hn (by decide)
theorem ta_1365 (H : TKK (hK h) (hR h)) : aln (some 1365) h = some (nI 3) := aln_e (tk_1365 H) (by decide) (by decide)
theorem tk_1366 (H : TKK (hK h) (hR h)) : hK h 1366 = (102, 5) := H.1 (1366, 102, 5) (List.mem_of_getElem? (i := 17) rfl)
theorem tx_1366 {n : Nat} (H : TKK (hK h) (hR h)) (hn : n < 5) : xI 102 (some 1366) (nI n) h = some (hI h 1366 n) := xI_e (tk_1366 H) hn (by decide)
theorem ta_1366 (H : TKK (hK h) (hR h)) : aln (some 1366) h = some (nI 5) := aln_e (tk_1366 H) (by decide) (by decide)
theorem tk_1367 (H : TKK (hK h) (hR h)) : hK h 1367 = (102, 4) := H.1 (1367, 102, 4) (List.mem_of_getElem? (i := 18) rfl)
theorem tx_1367 {n : Nat} (H : TKK (hK h) (hR h)) (hn : n < 4) : xI 102 (some 1367) (nI n) h = some (hI h 1367 n) := xI_e (tk_1367 H) hn (by decide)
theorem ta_1367 (H : TKK (hK h) (hR h)) : aln (some 1367) h = some (nI 4) := aln_e (tk_1367 H) (by decide) (by decide)
theorem tk_1368 (H : TKK (hK h) (hR h)) : hK h 1368 = (102, 4) := H.1 (1368, 102, 4) (List.mem_of_getElem? (i := 19) rfl)
theorem tx_1368 {n : Nat} (H : TKK (hK h) (hR h)) (hn : n < 4) : xI 102 (some 1368) (nI n) h = some (hI h 1368 n) := xI_e (tk_1368 H) hn (by decide)
theorem ta_1368 (H : TKK (hK h) (hR h)) : aln (some 1368) h = some (nI 4) := aln_e (tk_1368 H) (by decide) (by decide)
theorem tk_1369 (H : TKK (hK h) (hR h)) : hK h 1369 = (102, 6) := H.1 (1369, 102, 6) (List.mem_of_getElem? (i := 20) rfl)
theorem tx_1369 {n : Nat} (H : TKK (hK h) (hR h)) (hn : n < 6) : xI 102 (some 1369) (nI n) h = some (hI h 1369 n) := xI_e (tk_1369 H) hn (by decide)
theorem ta_1369 (H : TKK (hK h) (hR h)) : aln (some 1369) h = some (nI 6) := aln_e (tk_1369 H) (by decide) (by decide)
theorem tk_1370 (H : TKK (hK h) (hR h)) : hK h 1370 = (102, 4) := H.1 (1370, 102, 4) (List.mem_of_getElem? (i := 21) rfl)
theorem tx_1370 {n : Nat} (H : TKK (hK h) (hR h)) (hn : n < 4) : xI 102 (some 1370) (nI n) h = some (hI h 1370 n) := xI_e (tk_1370 H) hn (by decide)
theorem ta_1370 (H : TKK (hK h) (hR h)) : aln (some 1370) h = some (nI 4) := aln_e (tk_1370 H) (by decide) (by decide)
theorem tk_1371 (H : TKK (hK h) (hR h)) : hK h 1371 = (102, 4) := H.1 (1371, 102, 4) (List.mem_of_getElem? (i := 22) rfl)
theorem tx_1371 {n : Nat} (H : TKK (hK h) (hR h)) (hn : n < 4) : xI 102 (some 1371) (nI n) h = some (hI h 1371 n) := xI_e (tk_1371 H) hn (by decide)
theorem ta_1371 (H : TKK (hK h) (hR h)) : aln (some 1371) h = some (nI 4) := aln_e (tk_1371 H) (by decide) (by decide)
theorem tk_1372 (H : TKK (hK h) (hR h)) : hK h 1372 = (102, 2) := H.1 (1372, 102, 2) (List.mem_of_getElem? (i := 23) rfl)
theorem tx_1372 {n : Nat} (H : TKK (hK h) (hR h)) (hn : n < 2) : xI 102 (some 1372) (nI n) h = some (hI h 1372 n) := xI_e (tk_1372 H) hn (by decide)
theorem ta_1372 (H : TKK (hK h) (hR h)) : aln (some 1372) h = some (nI 2) := aln_e (tk_1372 H) (by decide) (by decide)
theorem tk_1373 (H : TKK (hK h) (hR h)) : hK h 1373 = (102, 2) := H.1 (1373, 102, 2) (List.mem_of_getElem? (i := 24) rfl)
theorem tx_1373 {n : Nat} (H : TKK (hK h) (hR h)) (hn : n < 2) : xI 102 (some 1373) (nI n) h = some (hI h 1373 n) := xI_e (tk_1373 H) hn (by decide)
theorem ta_1373 (H : TKK (hK h) (hR h)) : aln (some 1373) h = some (nI 2) := aln_e (tk_1373 H) (by decide) (by decide)
theorem tk_1374 (H : TKK (hK h) (hR h)) : hK h 1374 = (102, 3) := H.1 (1374, 102, 3) (List.mem_of_getElem? (i := 25) rfl)
theorem tx_1374 {n : Nat} (H : TKK (hK h) (hR h)) (hn : n < 3) : xI 102 (some 1374) (nI n) h = some (hI h 1374 n) := xI_e (tk_1374 H) hn (by decide)
theorem ta_1374 (H : TKK (hK h) (hR h)) : aln (some 1374) h = some (nI 3) := aln_e (tk_1374 H) (by decide) (by decide)
theorem tk_1375 (H : TKK (hK h) (hR h)) : hK h 1375 = (102, 3) := H.1 (1375, 102, 3) (List.mem_of_getElem? (i := 26) rfl)
theorem tx_1375 {n : Nat} (H : TKK (hK h) (hR h)) (hn : n < 3) : xI 102 (some 1375) (nI n) h = some (hI h 1375 n) := xI_e (tk_1375 H) hn (by decide)
theorem ta_1375 (H : TKK (hK h) (hR h)) : aln (some 1375) h = some (nI 3) := aln_e (tk_1375 H) (by decide) (by decide)
theorem tk_1376 (H : TKK (hK h) (hR h)) : hK h 1376 = (102, 3) := H.1 (1376, 102, 3) (List.mem_of_getElem? (i := 27) rfl)
theorem tx_1376 {n : Nat} (H : TKK (hK h) (hR h)) (hn : n < 3) : xI 102 (some 1376) (nI n) h = some (hI h 1376 n) := xI_e (tk_1376 H) hn (by decide)
theorem ta_1376 (H : TKK (hK h) (hR h)) : aln (some 1376) h = some (nI 3) := aln_e (tk_1376 H) (by decide) (by decide)
theorem tk_1377 (H : TKK (hK h) (hR h)) : hK h 1377 = (102, 3) := H.1 (1377, 102, 3) (List.mem_of_getElem? (i := 28) rfl)
theorem tx_1377 {n : Nat} (H : TKK (hK h) (hR h)) (hn : n < 3) : xI 102 (some 1377) (nI n) h = some (hI h 1377 n) := xI_e (tk_1377 H) hn (by decide)
theorem ta_1377 (H : TKK (hK h) (hR h)) : aln (some 1377) h = some (nI 3) := aln_e (tk_1377 H) (by decide) (by decide)
theorem tk_1378 (H : TKK (hK h) (hR h)) : hK h 1378 = (102, 3) := H.1 (1378, 102, 3) (List.mem_of_getElem? (i := 29) rfl)
theorem tx_1378 {n : Nat} (H : TKK (hK h) (hR h)) (hn : n < 3) : xI 102 (some 1378) (nI n) h = some (hI h 1378 n) := xI_e (tk_1378 H) hn (by decide)
theorem ta_1378 (H : TKK (hK h) (hR h)) : aln (some 1378) h = some (nI 3) := aln_e (tk_1378 H) (by decide) (by decide)
theorem tk_1379 (H : TKK (hK h) (hR h)) : hK h 1379 = (102, 7) := H.1 (1379, 102, 7) (List.mem_of_getElem? (i := 30) rfl)
theorem tx_1379 {n : Nat} (H : TKK (hK h) (hR h)) (hn : n < 7) : xI 102 (some 1379) (nI n) h = some (hI h 1379 n) := xI_e (tk_1379 H) hn (by decide)
theorem ta_1379 (H : TKK (hK h) (hR h)) : aln (some 1379) h = some (nI 7) := aln_e (tk_1379 H) (by decide) (by decide)
theorem tk_1380 (H : TKK (hK h) (hR h)) : hK h 1380 = (100, 6) := H.1 (1380, 100, 6) (List.mem_of_getElem? (i := 31) rfl)
theorem tx_1380 {n : Nat} (H : TKK (hK h) (hR h)) (hn : n < 6) : xI 100 (some 1380) (nI n) h = some (hI h 1380 n) := xI_e (tk_1380 H) hn (by decide)
theorem ts_1380 {n : Nat} {v : Int32} (H : TKK (hK h) (hR h)) (hn : n < 6) : sI 100 (some 1380) (nI n) v h = some (wI 1380 n v h) := sI_e (tk_1380 H) (by decide) hn (by decide)
theorem txl_1380 {n : Nat} (H : TKK (hK h) (hR h)) (hn : (OfNat.ofNat n : Nat) < 6) : xI 100 (some 1380) (no_index (OfNat.ofNat n)) h = some (hI h 1380 (OfNat.ofNat n)) := tx_1380 H hn
theorem tsl_1380 {n : Nat} {v : Int32} (H : TKK (hK h) (hR h)) (hn : (OfNat.ofNat n : Nat) < 6) : sI 100 (some 1380) (no_index (OfNat.ofNat n)) v h = some (wI 1380 (OfNat.ofNat n) v h) := ts_1380 H hn
theorem tk_1381 (H : TKK (hK h) (hR h)) : hK h 1381 = (100, 4) := H.1 (1381, 100, 4) (List.mem_of_getElem? (i := 32) rfl)
theorem tx_1381 {n : Nat} (H : TKK (hK h) (hR h)) (hn : n < 4) : xI 100 (some 1381) (nI n) h = some (hI h 1381 n) := xI_e (tk_1381 H) hn (by decide)
theorem ts_1381 {n : Nat} {v : Int32} (H : TKK (hK h) (hR h)) (hn : n < 4) : sI 100 (some 1381) (nI n) v h = some (wI 1381 n v h) := sI_e (tk_1381 H) (by decide) hn (by decide)
theorem txl_1381 {n : Nat} (H : TKK (hK h) (hR h)) (hn : (OfNat.ofNat n : Nat) < 4) : xI 100 (some 1381) (no_index (OfNat.ofNat n)) h = some (hI h 1381 (OfNat.ofNat n)) := tx_1381 H hn
theorem tsl_1381 {n : Nat} {v : Int32} (H : TKK (hK h) (hR h)) (hn : (OfNat.ofNat n : Nat) < 4) : sI 100 (some 1381) (no_index (OfNat.ofNat n)) v h = some (wI 1381 (OfNat.ofNat n) v h) := ts_1381 H hn
theorem tk_1382 (H : TKK (hK h) (hR h)) : hK h 1382 = (100, 96) := H.1 (1382, 100, 96) (List.mem_of_getElem? (i := 33) rfl)
theorem tx_1382 {n : Nat} (H : TKK (hK h) (hR h)) (hn : n < 96) : xI 100 (some 1382) (nI n) h = some (hI h 1382 n) := xI_e (tk_1382 H) hn (by decide)
theorem ts_1382 {n : Nat} {v : Int32} (H : TKK (hK h) (hR h)) (hn : n < 96) : sI 100 (some 1382) (nI n) v h = some (wI 1382 n v h) := sI_e (tk_1382 H) (by decide) hn (by decide)
theorem txl_1382 {n : Nat} (H : TKK (hK h) (hR h)) (hn : (OfNat.ofNat n : Nat) < 96) : xI 100 (some 1382) (no_index (OfNat.ofNat n)) h = some (hI h 1382 (OfNat.ofNat n)) := tx_1382 H hn
theorem tsl_1382 {n : Nat} {v : Int32} (H : TKK (hK h) (hR h)) (hn : (OfNat.ofNat n : Nat) < 96) : sI 100 (some 1382) (no_index (OfNat.ofNat n)) v h = some (wI 1382 (OfNat.ofNat n) v h) := ts_1382 H hn
theorem tk_1383 (H : TKK (hK h) (hR h)) : hK h 1383 = (100, 112) := H.1 (1383, 100, 112) (List.mem_of_getElem? (i := 34) rfl)
theorem tx_1383 {n : Nat} (H : TKK (hK h) (hR h)) (hn : n < 112) : xI 100 (some 1383) (nI n) h = some (hI h 1383 n) := xI_e (tk_1383 H) hn (by decide)
theorem ts_1383 {n : Nat} {v : Int32} (H : TKK (hK h) (hR h)) (hn : n < 112) : sI 100 (some 1383) (nI n) v h = some (wI 1383 n v h) := sI_e (tk_1383 H) (by decide) hn (by decide)
theorem txl_1383 {n : Nat} (H : TKK (hK h) (hR h)) (hn : (OfNat.ofNat n : Nat) < 112) : xI 100 (some 1383) (no_index (OfNat.ofNat n)) h = some (hI h 1383 (OfNat.ofNat n)) := tx_1383 H hn
theorem tsl_1383 {n : Nat} {v : Int32} (H : TKK (hK h) (hR h)) (hn : (OfNat.ofNat n : Nat) < 112) : sI 100 (some 1383) (no_index (OfNat.ofNat n)) v h = some (wI 1383 (OfNat.ofNat n) v h) := ts_1383 H hn
theorem tk_1384 (H : TKK (hK h) (hR h)) : hK h 1384 = (100, 8) := H.1 (1384, 100, 8) (List.mem_of_getElem? (i := 35) rfl)
theorem tx_1384 {n : Nat} (H : TKK (hK h) (hR h)) (hn : n < 8) : xI 100 (some 1384) (nI n) h = some (hI h 1384 n) := xI_e (tk_1384 H) hn (by decide)
theorem ts_1384 {n : Nat} {v : Int32} (H : TKK (hK h) (hR h)) (hn : n < 8) : sI 100 (some 1384) (nI n) v h = some (wI 1384 n v h) := sI_e (tk_1384 H) (by decide) hn (by decide)
theorem txl_1384 {n : Nat} (H : TKK (hK h) (hR h)) (hn : (OfNat.ofNat n : Nat) < 8) : xI 100 (some 1384) (no_index (OfNat.ofNat n)) h = some (hI h 1384 (OfNat.ofNat n)) := tx_1384 H hn
theorem tsl_1384 {n : Nat} {v : Int32} (H : TKK (hK h) (hR h)) (hn : (OfNat.ofNat n : Nat) < 8) : sI 100 (some 1384) (no_index (OfNat.ofNat n)) v h = some (wI 1384 (OfNat.ofNat n) v h) := ts_1384 H hn
theorem tk_1385 (H : TKK (hK h) (hR h)) : hK h 1385 = (100, 6) := H.1 (1385, 100, 6) (List.mem_of_getElem? (i := 36) rfl)
theorem tx_1385 {n : Nat} (H : TKK (hK h) (hR h)) (hn : n < 6) : xI 100 (some 1385) (nI n) h = some (hI h 1385 n) := xI_e (tk_1385 H) hn (by decide)
theorem ts_1385 {n : Nat} {v : Int32} (H : TKK (hK h) (hR h)) (hn : n < 6) : sI 100 (some 1385) (nI n) v h = some (wI 1385 n v h) := sI_e (tk_1385 H) (by decide) hn (by decide)
theorem txl_1385 {n : Nat} (H : TKK (hK h) (hR h)) (hn : (OfNat.ofNat n : Nat) < 6) : xI 100 (some 1385) (no_index (OfNat.ofNat n)) h = some (hI h 1385 (OfNat.ofNat n)) := tx_1385 H hn
theorem tsl_1385 {n : Nat} {v : Int32} (H : TKK (hK h) (hR h)) (hn : (OfNat.ofNat n : Nat) < 6) : sI 100 (some 1385) (no_index (OfNat.ofNat n)) v h = some (wI 1385 (OfNat.ofNat n) v h) := ts_1385 H hn
theorem tk_1386 (H : TKK (hK h) (hR h)) : hK h 1386 = (100, 4) := H.1 (1386, 100, 4) (List.mem_of_getElem? (i := 37) rfl)
theorem tx_1386 {n : Nat} (H : TKK (hK h) (hR h)) (hn : n < 4) : xI 100 (some 1386) (nI n) h = some (hI h 1386 n) := xI_e (tk_1386 H) hn (by decide)
theorem ts_1386 {n : Nat} {v : Int32} (H : TKK (hK h) (hR h)) (hn : n < 4) : sI 100 (some 1386) (nI n) v h = some (wI 1386 n v h) := sI_e (tk_1386 H) (by decide) hn (by decide)
theorem txl_1386 {n : Nat} (H : TKK (hK h) (hR h)) (hn : (OfNat.ofNat n : Nat) < 4) : xI 100 (some 1386) (no_index (OfNat.ofNat n)) h = some (hI h 1386 (OfNat.ofNat n)) := tx_1386 H hn
theorem tsl_1386 {n : Nat} {v : Int32} (H : TKK (hK h) (hR h)) (hn : (OfNat.ofNat n : Nat) < 4) : sI 100 (some 1386) (no_index (OfNat.ofNat n)) v h = some (wI 1386 (OfNat.ofNat n) v h) := ts_1386 H hn
theorem tk_1387 (H : TKK (hK h) (hR h)) : hK h 1387 = (100, 4) := H.1 (1387, 100, 4) (List.mem_of_getElem? (i := 38) rfl)
theorem tx_1387 {n : Nat} (H : TKK (hK h) (hR h)) (hn : n < 4) : xI 100 (some 1387) (nI n) h = some (hI h 1387 n) := xI_e (tk_1387 H) hn (by decide)
theorem ts_1387 {n : Nat} {v : Int32} (H : TKK (hK h) (hR h)) (hn : n < 4) : sI 100 (some 1387) (nI n) v h = some (wI 1387 n v h) := sI_e (tk_1387 H) (by decide) hn (by decide)
theorem txl_1387 {n : Nat} (H : TKK (hK h) (hR h)) (hn : (OfNat.ofNat n : Nat) < 4) : xI 100 (some 1387) (no_index (OfNat.ofNat n)) h = some (hI h 1387 (OfNat.ofNat n)) := tx_1387 H hn
theorem tsl_1387 {n : Nat} {v : Int32} (H : TKK (hK h) (hR h)) (hn : (OfNat.ofNat n : Nat) < 4) : sI 100 (some 1387) (no_index (OfNat.ofNat n)) v h = some (wI 1387 (OfNat.ofNat n) v h) := ts_1387 H hn
theorem tk_1388 (H : TKK (hK h) (hR h)) : hK h 1388 = (100, 3200) := H.1 (1388, 100, 3200) (List.mem_of_getElem? (i := 39) rfl)
theorem tx_1388 {n : Nat} (H : TKK (hK h) (hR h)) (hn : n < 3200) : xI 100 (some 1388) (nI n) h = some (hI h 1388 n) := xI_e (tk_1388 H) hn (by decide)
theorem ts_1388 {n : Nat} {v : Int32} (H : TKK (hK h) (hR h)) (hn : n < 3200) : sI 100 (some 1388) (nI n) v h = some (wI 1388 n v h) := sI_e (tk_1388 H) (by decide) hn (by decide)
theorem txl_1388 {n : Nat} (H : TKK (hK h) (hR h)) (hn : (OfNat.ofNat n : Nat) < 3200) : xI 100 (some 1388) (no_index (OfNat.ofNat n)) h = some (hI h 1388 (OfNat.ofNat n)) := tx_1388 H hn
theorem tsl_1388 {n : Nat} {v : Int32} (H : TKK (hK h) (hR h)) (hn : (OfNat.ofNat n : Nat) < 3200) : sI 100 (some 1388) (no_index (OfNat.ofNat n)) v h = some (wI 1388 (OfNat.ofNat n) v h) := ts_1388 H hn
theorem tk_1389 (H : TKK (hK h) (hR h)) : hK h 1389 = (100, 154) := H.1 (1389, 100, 154) (List.mem_of_getElem? (i := 40) rfl)
theorem tx_1389 {n : Nat} (H : TKK (hK h) (hR h)) (hn : n < 154) : xI 100 (some 1389) (nI n) h = some (hI h 1389 n) := xI_e (tk_1389 H) hn (by decide)
theorem ts_1389 {n : Nat} {v : Int32} (H : TKK (hK h) (hR h)) (hn : n < 154) : sI 100 (some 1389) (nI n) v h = some (wI 1389 n v h) := sI_e (tk_1389 H) (by decide) hn (by decide)
theorem txl_1389 {n : Nat} (H : TKK (hK h) (hR h)) (hn : (OfNat.ofNat n : Nat) < 154) : xI 100 (some 1389) (no_index (OfNat.ofNat n)) h = some (hI h 1389 (OfNat.ofNat n)) := tx_1389 H hn
theorem tsl_1389 {n : Nat} {v : Int32} (H : TKK (hK h) (hR h)) (hn : (OfNat.ofNat n : Nat) < 154) : sI 100 (some 1389) (no_index (OfNat.ofNat n)) v h = some (wI 1389 (OfNat.ofNat n) v h) := ts_1389 H hn
theorem tk_1390 (H : TKK (hK h) (hR h)) : hK h 1390 = (100, 33) := H.1 (1390, 100, 33) (List.mem_of_getElem? (i := 41) rfl)
theorem tx_1390 {n : Nat} (H : TKK (hK h) (hR h)) (hn : n < 33) : xI 100 (some 1390) (nI n) h = some (hI h 1390 n) := xI_e (tk_1390 H) hn (by decide)
theorem ts_1390 {n : Nat} {v : Int32} (H : TKK (hK h) (hR h)) (hn : n < 33) : sI 100 (some 1390) (nI n) v h = some (wI 1390 n v h) := sI_e (tk_1390 H) (by decide) hn (by decide)
theorem txl_1390 {n : Nat} (H : TKK (hK h) (hR h)) (hn : (OfNat.ofNat n : Nat) < 33) : xI 100 (some 1390) (no_index (OfNat.ofNat n)) h = some (hI h 1390 (OfNat.ofNat n)) := tx_1390 H hn
theorem tsl_1390 {n : Nat} {v : Int32} (H : TKK (hK h) (hR h)) (hn : (OfNat.ofNat n : Nat) < 33) : sI 100 (some 1390) (no_index (OfNat.ofNat n)) v h = some (wI 1390 (OfNat.ofNat n) v h) := ts_1390 H hn
theorem tk_1391 (H : TKK (hK h) (hR h)) : hK h 1391 = (100, 24) := H.1 (1391, 100, 24) (List.mem_of_getElem? (i := 42) rfl)
theorem tx_1391 {n : Nat} (H : TKK (hK h) (hR h)) (hn : n < 24) : xI 100 (some 1391) (nI n) h = some (hI h 1391 n) := xI_e (tk_1391 H) hn (by decide)
theorem ts_1391 {n : Nat} {v : Int32} (H : TKK (hK h) (hR h)) (hn : n < 24) : sI 100 (some 1391) (nI n) v h = some (wI 1391 n v h) := sI_e (tk_1391 H) (by decide) hn (by decide)
theorem txl_1391 {n : Nat} (H : TKK (hK h) (hR h)) (hn : (OfNat.ofNat n : Nat) < 24) : xI 100 (some 1391) (no_index (OfNat.ofNat n)) h = some (hI h 1391 (OfNat.ofNat n)) := tx_1391 H hn
theorem tsl_1391 {n : Nat} {v : Int32} (H : TKK (hK h) (hR h)) (hn : (OfNat.ofNat n : Nat) < 24) : sI 100 (some 1391) (no_index (OfNat.ofNat n)) v h = some (wI 1391 (OfNat.ofNat n) v h) := ts_1391 H hn
theorem tk_1392 (H : TKK (hK h) (hR h)) : hK h 1392 = (100, 6) := H.1 (1392, 100, 6) (List.mem_of_getElem? (i := 43) rfl)
theorem tx_1392 {n : Nat} (H : TKK (hK h) (hR h)) (hn : n < 6) : xI 100 (some 1392) (nI n) h = some (hI h 1392 n) := xI_e (tk_1392 H) hn (by decide)
theorem ts_1392 {n : Nat} {v : Int32} (H : TKK (hK h) (hR h)) (hn : n < 6) : sI 100 (some 1392) (nI n) v h = some (wI 1392 n v h) := sI_e (tk_1392 H) (by decide) hn (by decide)
theorem txl_1392 {n : Nat} (H : TKK (hK h) (hR h)) (hn : (OfNat.ofNat n : Nat) < 6) : xI 100 (some 1392) (no_index (OfNat.ofNat n)) h = some (hI h 1392 (OfNat.ofNat n)) := tx_1392 H hn
theorem tsl_1392 {n : Nat} {v : Int32} (H : TKK (hK h) (hR h)) (hn : (OfNat.ofNat n : Nat) < 6) : sI 100 (some 1392) (no_index (OfNat.ofNat n)) v h = some (wI 1392 (OfNat.ofNat n) v h) := ts_1392 H hn
theorem tk_1393 (H : TKK (hK h) (hR h)) : hK h 1393 = (100, 49) := H.1 (1393, 100, 49) (List.mem_of_getElem? (i := 44) rfl)
theorem tx_1393 {n : Nat} (H : TKK (hK h) (hR h)) (hn : n < 49) : xI 100 (some 1393) (nI n) h = some (hI h 1393 n) := xI_e (tk_1393 H) hn (by decide)
theorem ts_1393 {n : Nat} {v : Int32} (H : TKK (hK h) (hR h)) (hn : n < 49) : sI 100 (some 1393) (nI n) v h = some (wI 1393 n v h) := sI_e (tk_1393 H) (by decide) hn (by decide)
theorem txl_1393 {n : Nat} (H : TKK (hK h) (hR h)) (hn : (OfNat.ofNat n : Nat) < 49) : xI 100 (some 1393) (no_index (OfNat.ofNat n)) h = some (hI h 1393 (OfNat.ofNat n)) := tx_1393 H hn
theorem tsl_1393 {n : Nat} {v : Int32} (H : TKK (hK h) (hR h)) (hn : (OfNat.ofNat n : Nat) < 49) : sI 100 (some 1393) (no_index (OfNat.ofNat n)) v h = some (wI 1393 (OfNat.ofNat n) v h) := ts_1393 H hn
theorem tk_1394 (H : TKK (hK h) (hR h)) : hK h 1394 = (100, 49) := H.1 (1394, 100, 49) (List.mem_of_getElem? (i := 45) rfl)
theorem tx_1394 {n : Nat} (H : TKK (hK h) (hR h)) (hn : n < 49) : xI 100 (some 1394) (nI n) h = some (hI h 1394 n) := xI_e (tk_1394 H) hn (by decide)
theorem ts_1394 {n : Nat} {v : Int32} (H : TKK (hK h) (hR h)) (hn : n < 49) : sI 100 (some 1394) (nI n) v h = some (wI 1394 n v h) := sI_e (tk_1394 H) (by decide) hn (by decide)
theorem txl_1394 {n : Nat} (H : TKK (hK h) (hR h)) (hn : (OfNat.ofNat n : Nat) < 49) : xI 100 (some 1394) (no_index (OfNat.ofNat n)) h = some (hI h 1394 (OfNat.ofNat n)) := tx_1394 H hn
theorem tsl_1394 {n : Nat} {v : Int32} (H : TKK (hK h) (hR h)) (hn : (OfNat.ofNat n : Nat) < 49) : sI 100 (some 1394) (no_index (OfNat.ofNat n)) v h = some (wI 1394 (OfNat.ofNat n) v h) := ts_1394 H hn
theorem tk_1395 (H : TKK (hK h) (hR h)) : hK h 1395 = (100, 49) := H.1 (1395, 100, 49) (List.mem_of_getElem? (i := 46) rfl)
theorem tx_1395 {n : Nat} (H : TKK (hK h) (hR h)) (hn : n < 49) : xI 100 (some 1395) (nI n) h = some (hI h 1395 n) := xI_e (tk_1395 H) hn (by decide)
theorem ts_1395 {n : Nat} {v : Int32} (H : TKK (hK h) (hR h)) (hn : n < 49) : sI 100 (some 1395) (nI n) v h = some (wI 1395 n v h) := sI_e (tk_1395 H) (by decide) hn (by decide)
theorem txl_1395 {n : Nat} (H : TKK (hK h) (hR h)) (hn : (OfNat.ofNat n : Nat) < 49) : xI 100 (some 1395) (no_index (OfNat.ofNat n)) h = some (hI h 1395 (OfNat.ofNat n)) := tx_1395 H hn
theorem tsl_1395 {n : Nat} {v : Int32} (H : TKK (hK h) (hR h)) (hn : (OfNat.ofNat n : Nat) < 49) : sI 100 (some 1395) (no_index (OfNat.ofNat n)) v h = some (wI 1395 (OfNat.ofNat n) v h) := ts_1395 H hn
theorem tk_1396 (H : TKK (hK h) (hR h)) : hK h 1396 = (100, 64) := H.1 (1396, 100, 64) (List.mem_of_getElem? (i := 47) rfl)
theorem tx_1396 {n : Nat} (H : TKK (hK h) (hR h)) (hn : n < 64) : xI 100 (some 1396) (nI n) h = some (hI h 1396 n) := xI_e (tk_1396 H) hn (by decide)
theorem ts_1396 {n : Nat} {v : Int32} (H : TKK (hK h) (hR h)) (hn : n < 64) : sI 100 (some 1396) (nI n) v h = some (wI 1396 n v h) := sI_e (tk_1396 H) (by decide) hn (by decide)
theorem txl_1396 {n : Nat} (H : TKK (hK h) (hR h)) (hn : (OfNat.ofNat n : Nat) < 64) : xI 100 (some 1396) (no_index (OfNat.ofNat n)) h = some (hI h 1396 (OfNat.ofNat n)) := tx_1396 H hn
theorem tsl_1396 {n : Nat} {v : Int32} (H : TKK (hK h) (hR h)) (hn : (OfNat.ofNat n : Nat) < 64) : sI 100 (some 1396) (no_index (OfNat.ofNat n)) v h = some (wI 1396 (OfNat.ofNat n) v h) := ts_1396 H hn
theorem tk_1397 (H : TKK (hK h) (hR h)) : hK h 1397 = (100, 12) := H.1 (1397, 100, 12) (List.mem_of_getElem? (i := 48) rfl)
theorem tx_1397 {n : Nat} (H : TKK (hK h) (hR h)) (hn : n < 12) : xI 100 (some 1397) (nI n) h = some (hI h 1397 n) := xI_e (tk_1397 H) hn (by decide)
theorem ts_1397 {n : Nat} {v : Int32} (H : TKK (hK h) (hR h)) (hn : n < 12) : sI 100 (some 1397) (nI n) v h = some (wI 1397 n v h) := sI_e (tk_1397 H) (by decide) hn (by decide)
theorem txl_1397 {n : Nat} (H : TKK (hK h) (hR h)) (hn : (OfNat.ofNat n : Nat) < 12) : xI 100 (some 1397) (no_index (OfNat.ofNat n)) h = some (hI h 1397 (OfNat.ofNat n)) := tx_1397 H hn
theorem tsl_1397 {n : Nat} {v : Int32} (H : TKK (hK h) (hR h)) (hn : (OfNat.ofNat n : Nat) < 12) : sI 100 (some 1397) (no_index (OfNat.ofNat n)) v h = some (wI 1397 (OfNat.ofNat n) v h) := ts_1397 H hn
theorem tk_1398 (H : TKK (hK h) (hR h)) : hK h 1398 = (100, 12) := H.1 (1398, 100, 12) (List.mem_of_getElem? (i := 49) rfl)
theorem tx_1398 {n : Nat} (H : TKK (hK h) (hR h)) (hn : n < 12) : xI 100 (some 1398) (nI n) h = some (hI h 1398 n) := xI_e (tk_1398 H) hn (by decide)
theorem ts_1398 {n : Nat} {v : Int32} (H : TKK (hK h) (hR h)) (hn : n < 12) : sI 100 (some 1398) (nI n) v h = some (wI 1398 n v h) := sI_e (tk_1398 H) (by decide) hn (by decide)
theorem txl_1398 {n : Nat} (H : TKK (hK h) (hR h)) (hn : (OfNat.ofNat n : Nat) < 12) : xI 100 (some 1398) (no_index (OfNat.ofNat n)) h = some (hI h 1398 (OfNat.ofNat n)) := tx_1398 H hn
theorem tsl_1398 {n : Nat} {v : Int32} (H : TKK (hK h) (hR h)) (hn : (OfNat.ofNat n : Nat) < 12) : sI 100 (some 1398) (no_index (OfNat.ofNat n)) v h = some (wI 1398 (OfNat.ofNat n) v h) := ts_1398 H hn
theorem tk_1399 (H : TKK (hK h) (hR h)) : hK h 1399 = (100, 3080) := H.1 (1399, 100, 3080) (List.mem_of_getElem? (i := 50) rfl)
theorem tx_1399 {n : Nat} (H : TKK (hK h) (hR h)) (hn : n < 3080) : xI 100 (some 1399) (nI n) h = some (hI h 1399 n) := xI_e (tk_1399 H) hn (by decide)
theorem ts_1399 {n : Nat} {v : Int32} (H : TKK (hK h) (hR h)) (hn : n < 3080) : sI 100 (some 1399) (nI n) v h = some (wI 1399 n v h) := sI_e (tk_1399 H) (by decide) hn (by decide)
theorem txl_1399 {n : Nat} (H : TKK (hK h) (hR h)) (hn : (OfNat.ofNat n : Nat) < 3080) : xI 100 (some 1399) (no_index (OfNat.ofNat n)) h = some (hI h 1399 (OfNat.ofNat n)) := tx_1399 H hn
theorem tsl_1399 {n : Nat} {v : Int32} (H : TKK (hK h) (hR h)) (hn : (OfNat.ofNat n : Nat) < 3080) : sI 100 (some 1399) (no_index (OfNat.ofNat n)) v h = some (wI 1399 (OfNat.ofNat n) v h) := ts_1399 H hn
theorem tk_1400 (H : TKK (hK h) (hR h)) : hK h 1400 = (102, 5) := H.1 (1400, 102, 5) (List.mem_of_getElem? (i := 51) rfl)
theorem tx_1400 {n : Nat} (H : TKK (hK h) (hR h)) (hn : n < 5) : xI 102 (some 1400) (nI n) h = some (hI h 1400 n) := xI_e (tk_1400 H) hn (by decide)
theorem ta_1400 (H : TKK (hK h) (hR h)) : aln (some 1400) h = some (nI 5) := aln_e (tk_1400 H) (by decide) (by decide)
theorem tk_1401 (H : TKK (hK h) (hR h)) : hK h 1401 = (102, 4) := H.1 (1401, 102, 4) (List.mem_of_getElem? (i := 52) rfl)
theorem tx_1401 {n : Nat} (H : TKK (hK h) (hR h)) (hn : n < 4) : xI 102 (some 1401) (nI n) h = some (hI h 1401 n) := xI_e (tk_1401 H) hn (by decide)
theorem ta_1401 (H : TKK (hK h) (hR h)) : aln (some 1401) h = some (nI 4) := aln_e (tk_1401 H) (by decide) (by decide)
theorem tk_1402 (H : TKK (hK h) (hR h)) : hK h 1402 = (102, 5) := H.1 (1402, 102, 5) (List.mem_of_getElem? (i := 53) rfl)
theorem tx_1402 {n : Nat} (H : TKK (hK h) (hR h)) (hn : n < 5) : xI 102 (some 1402) (nI n) h = some (hI h 1402 n) := xI_e (tk_1402 H) hn (by decide)
theorem ta_1402 (H : TKK (hK h) (hR h)) : aln (some 1402) h = some (nI 5) := aln_e (tk_1402 H) (by decide) (by decide)
theorem tk_1403 (H : TKK (hK h) (hR h)) : hK h 1403 = (102, 5) := H.1 (1403, 102, 5) (List.mem_of_getElem? (i := 54) rfl)
theorem tx_1403 {n : Nat} (H : TKK (hK h) (hR h)) (hn : n < 5) : xI 102 (some 1403) (nI n) h = some (hI h 1403 n) := xI_e (tk_1403 H) hn (by decide)
theorem ta_1403 (H : TKK (hK h) (hR h)) : aln (some 1403) h = some (nI 5) := aln_e (tk_1403 H) (by decide) (by decide)
theorem tk_1404 (H : TKK (hK h) (hR h)) : hK h 1404 = (102, 4) := H.1 (1404, 102, 4) (List.mem_of_getElem? (i := 55) rfl)
theorem tx_1404 {n : Nat} (H : TKK (hK h) (hR h)) (hn : n < 4) : xI 102 (some 1404) (nI n) h = some (hI h 1404 n) := xI_e (tk_1404 H) hn (by decide)
theorem ta_1404 (H : TKK (hK h) (hR h)) : aln (some 1404) h = some (nI 4) := aln_e (tk_1404 H) (by decide) (by decide)
theorem tk_1405 (H : TKK (hK h) (hR h)) : hK h 1405 = (102, 5) := H.1 (1405, 102, 5) (List.mem_of_getElem? (i := 56) rfl)
theorem tx_1405 {n : Nat} (H : TKK (hK h) (hR h)) (hn : n < 5) : xI 102 (some 1405) (nI n) h = some (hI h 1405 n) := xI_e (tk_1405 H) hn (by decide)
theorem ta_1405 (H : TKK (hK h) (hR h)) : aln (some 1405) h = some (nI 5) := aln_e (tk_1405 H) (by decide) (by decide)
theorem tk_1406 (H : TKK (hK h) (hR h)) : hK h 1406 = (102, 3) := H.1 (1406, 102, 3) (List.mem_of_getElem? (i := 57) rfl)
theorem tx_1406 {n : Nat} (H : TKK (hK h) (hR h)) (hn : n < 3) : xI 102 (some 1406) (nI n) h = some (hI h 1406 n) := xI_e (tk_1406 H) hn (by decide)
theorem ta_1406 (H : TKK (hK h) (hR h)) : aln (some 1406) h = some (nI 3) := aln_e (tk_1406 H) (by decide) (by decide)
theorem tk_1407 (H : TKK (hK h) (hR h)) : hK h 1407 = (102, 3) := H.1 (1407, 102, 3) (List.mem_of_getElem? (i := 58) rfl)
theorem tx_1407 {n : Nat} (H : TKK (hK h) (hR h)) (hn : n < 3) : xI 102 (some 1407) (nI n) h = some (hI h 1407 n) := xI_e (tk_1407 H) hn (by decide)
theorem ta_1407 (H : TKK (hK h) (hR h)) : aln (some 1407) h = some (nI 3) := aln_e (tk_1407 H) (by decide) (by decide)
theorem tk_1408 (H : TKK (hK h) (hR h)) : hK h 1408 = (102, 2) := H.1 (1408, 102, 2) (List.mem_of_getElem? (i := 59) rfl)
theorem tx_1408 {n : Nat} (H : TKK (hK h) (hR h)) (hn : n < 2) : xI 102 (some 1408) (nI n) h = some (hI h 1408 n) := xI_e (tk_1408 H) hn (by decide)
theorem ta_1408 (H : TKK (hK h) (hR h)) : aln (some 1408) h = some (nI 2) := aln_e (tk_1408 H) (by decide) (by decide)
theorem tk_1409 (H : TKK (hK h) (hR h)) : hK h 1409 = (102, 3) := H.1 (1409, 102, 3) (List.mem_of_getElem? (i := 60) rfl)
theorem tx_1409 {n : Nat} (H : TKK (hK h) (hR h)) (hn : n < 3) : xI 102 (some 1409) (nI n) h = some (hI h 1409 n) := xI_e (tk_1409 H) hn (by decide)
theorem ta_1409 (H : TKK (hK h) (hR h)) : aln (some 1409) h = some (nI 3) := aln_e (tk_1409 H) (by decide) (by decide)
theorem tk_1410 (H : TKK (hK h) (hR h)) : hK h 1410 = (102, 3) := H.1 (1410, 102, 3) (List.mem_of_getElem? (i := 61) rfl)
theorem tx_1410 {n : Nat} (H : TKK (hK h) (hR h)) (hn : n < 3) : xI 102 (some 1410) (nI n) h = some (hI h 1410 n) := xI_e (tk_1410 H) hn (by decide)
theorem ta_1410 (H : TKK (hK h) (hR h)) : aln (some 1410) h = some (nI 3) := aln_e (tk_1410 H) (by decide) (by decide)
theorem tk_1411 (H : TKK (hK h) (hR h)) : hK h 1411 = (102, 3) := H.1 (1411, 102, 3) (List.mem_of_getElem? (i := 62) rfl)
theorem tx_1411 {n : Nat} (H : TKK (hK h) (hR h)) (hn : n < 3) : xI 102 (some 1411) (nI n) h = some (hI h 1411 n) := xI_e (tk_1411 H) hn (by decide)
theorem ta_1411 (H : TKK (hK h) (hR h)) : aln (some 1411) h = some (nI 3) := aln_e (tk_1411 H) (by decide) (by decide)
theorem tk_1412 (H : TKK (hK h) (hR h)) : hK h 1412 = (102, 4) := H.1 (1412, 102, 4) (List.mem_of_getElem? (i := 63) rfl)
theorem tx_1412 {n : Nat} (H : TKK (hK h) (hR h)) (hn : n < 4) : xI 102 (some 1412) (nI n) h = some (hI h 1412 n) := xI_e (tk_1412 H) hn (by decide)
theorem ta_1412 (H : TKK (hK h) (hR h)) : aln (some 1412) h = some (nI 4) := aln_e (tk_1412 H) (by decide) (by decide)
theorem tk_1413 (H : TKK (hK h) (hR h)) : hK h 1413 = (102, 4) := H.1 (1413, 102, 4) (List.mem_of_getElem? (i := 64) rfl)
theorem tx_1413 {n : Nat} (H : TKK (hK h) (hR h)) (hn : n < 4) : xI 102 (some 1413) (nI n) h = some (hI h 1413 n) := xI_e (tk_1413 H) hn (by decide)
theorem ta_1413 (H : TKK (hK h) (hR h)) : aln (some 1413) h = some (nI 4) := aln_e (tk_1413 H) (by decide) (by decide)
theorem tk_1414 (H : TKK (hK h) (hR h)) : hK h 1414 = (102, 3) := H.1 (1414, 102, 3) (List.mem_of_getElem? (i := 65) rfl)
theorem tx_1414 {n : Nat} (H : TKK (hK h) (hR h)) (hn : n < 3) : xI 102 (some 1414) (nI n) h = some (hI h 1414 n) := xI_e (tk_1414 H) hn (by decide)
theorem ta_1414 (H : TKK (hK h) (hR h)) : aln (some 1414) h = some (nI 3) := aln_e (tk_1414 H) (by decide) (by decide)
theorem tk_1415 (H : TKK (hK h) (hR h)) : hK h 1415 = (102, 6) := H.1 (1415, 102, 6) (List.mem_of_getElem? (i := 66) rfl)
theorem tx_1415 {n : Nat} (H : TKK (hK h) (hR h)) (hn : n < 6) : xI 102 (some 1415) (nI n) h = some (hI h 1415 n) := xI_e (tk_1415 H) hn (by decide)
theorem ta_1415 (H : TKK (hK h) (hR h)) : aln (some 1415) h = some (nI 6) := aln_e (tk_1415 H) (by decide) (by decide)
theorem tk_1416 (H : TKK (hK h) (hR h)) : hK h 1416 = (102, 3) := H.1 (1416, 102, 3) (List.mem_of_getElem? (i := 67) rfl)
theorem tx_1416 {n : Nat} (H : TKK (hK h) (hR h)) (hn : n < 3) : xI 102 (some 1416) (nI n) h = some (hI h 1416 n) := xI_e (tk_1416 H) hn (by decide)
theorem ta_1416 (H : TKK (hK h) (hR h)) : aln (some 1416) h = some (nI 3) := aln_e (tk_1416 H) (by decide) (by decide)
theorem tk_1417 (H : TKK (hK h) (hR h)) : hK h 1417 = (102, 5) := H.1 (1417, 102, 5) (List.mem_of_getElem? (i := 68) rfl)
theorem tx_1417 {n : Nat} (H : TKK (hK h) (hR h)) (hn : n < 5) : xI 102 (some 1417) (nI n) h = some (hI h 1417 n) := xI_e (tk_1417 H) hn (by decide)
theorem ta_1417 (H : TKK (hK h) (hR h)) : aln (some 1417) h = some (nI 5) := aln_e (tk_1417 H) (by decide) (by decide)
theorem tk_1418 (H : TKK (hK h) (hR h)) : hK h 1418 = (102, 4) := H.1 (1418, 102, 4) (List.mem_of_getElem? (i := 69) rfl)
theorem tx_1418 {n : Nat} (H : TKK (hK h) (hR h)) (hn : n < 4) : xI 102 (some 1418) (nI n) h = some (hI h 1418 n) := xI_e (tk_1418 H) hn (by decide)
theorem ta_1418 (H : TKK (hK h) (hR h)) : aln (some 1418) h = some (nI 4) := aln_e (tk_1418 H) (by decide) (by decide)
theorem tk_1419 (H : TKK (hK h) (hR h)) : hK h 1419 = (102, 4) := H.1 (1419, 102, 4) (List.mem_of_getElem? (i := 70) rfl)
theorem tx_1419 {n : Nat} (H : TKK (hK h) (hR h)) (hn : n < 4) : xI 102 (some 1419) (nI n) h = some (hI h 1419 n) := xI_e (tk_1419 H) hn (by decide)
theorem ta_1419 (H : TKK (hK h) (hR h)) : aln (some 1419) h = some (nI 4) := aln_e (tk_1419 H) (by decide) (by decide)
theorem tk_1420 (H : TKK (hK h) (hR h)) : hK h 1420 = (102, 6) := H.1 (1420, 102, 6) (List.mem_of_getElem? (i := 71) rfl)
theorem tx_1420 {n : Nat} (H : TKK (hK h) (hR h)) (hn : n < 6) : xI 102 (some 1420) (nI n) h = some (hI h 1420 n) := xI_e (tk_1420 H) hn (by decide)
theorem ta_1420 (H : TKK (hK h) (hR h)) : aln (some 1420) h = some (nI 6) := aln_e (tk_1420 H) (by decide) (by decide)
theorem tk_1421 (H : TKK (hK h) (hR h)) : hK h 1421 = (102, 4) := H.1 (1421, 102, 4) (List.mem_of_getElem? (i := 72) rfl)
theorem tx_1421 {n : Nat} (H : TKK (hK h) (hR h)) (hn : n < 4) : xI 102 (some 1421) (nI n) h = some (hI h 1421 n) := xI_e (tk_1421 H) hn (by decide)
theorem ta_1421 (H : TKK (hK h) (hR h)) : aln (some 1421) h = some (nI 4) := aln_e (tk_1421 H) (by decide) (by decide)
theorem tk_1422 (H : TKK (hK h) (hR h)) : hK h 1422 = (102, 4) := H.1 (1422, 102, 4) (List.mem_of_getElem? (i := 73) rfl)
theorem tx_1422 {n : Nat} (H : TKK (hK h) (hR h)) (hn : n < 4) : xI 102 (some 1422) (nI n) h = some (hI h 1422 n) := xI_e (tk_1422 H) hn (by decide)
theorem ta_1422 (H : TKK (hK h) (hR h)) : aln (some 1422) h = some (nI 4) := aln_e (tk_1422 H) (by decide) (by decide)
theorem tk_1423 (H : TKK (hK h) (hR h)) : hK h 1423 = (102, 2) := H.1 (1423, 102, 2) (List.mem_of_getElem? (i := 74) rfl)
theorem tx_1423 {n : Nat} (H : TKK (hK h) (hR h)) (hn : n < 2) : xI 102 (some 1423) (nI n) h = some (hI h 1423 n) := xI_e (tk_1423 H) hn (by decide)
theorem ta_1423 (H : TKK (hK h) (hR h)) : aln (some 1423) h = some (nI 2) := aln_e (tk_1423 H) (by decide) (by decide)
theorem tk_1424 (H : TKK (hK h) (hR h)) : hK h 1424 = (100, 1700) := H.1 (1424, 100, 1700) (List.mem_of_getElem? (i := 75) rfl)
theorem tx_1424 {n : Nat} (H : TKK (hK h) (hR h)) (hn : n < 1700) : xI 100 (some 1424) (nI n) h = some (hI h 1424 n) := xI_e (tk_1424 H) hn (by decide)
theorem ts_1424 {n : Nat} {v : Int32} (H : TKK (hK h) (hR h)) (hn : n < 1700) : sI 100 (some 1424) (nI n) v h = some (wI 1424 n v h) := sI_e (tk_1424 H) (by decide) hn (by decide)
theorem txl_1424 {n : Nat} (H : TKK (hK h) (hR h)) (hn : (OfNat.ofNat n : Nat) < 1700) : xI 100 (some 1424) (no_index (OfNat.ofNat n)) h = some (hI h 1424 (OfNat.ofNat n)) := tx_1424 H hn
theorem tsl_1424 {n : Nat} {v : Int32} (H : TKK (hK h) (hR h)) (hn : (OfNat.ofNat n : Nat) < 1700) : sI 100 (some 1424) (no_index (OfNat.ofNat n)) v h = some (wI 1424 (OfNat.ofNat n) v h) := ts_1424 H hn
theorem tk_1425 (H : TKK (hK h) (hR h)) : hK h 1425 = (100, 1700) := H.1 (1425, 100, 1700) (List.mem_of_getElem? (i := 76) rfl)
theorem tx_1425 {n : Nat} (H : TKK (hK h) (hR h)) (hn : n < 1700) : xI 100 (some 1425) (nI n) h = some (hI h 1425 n) := xI_e (tk_1425 H) hn (by decide)
theorem ts_1425 {n : Nat} {v : Int32} (H : TKK (hK h) (hR h)) (hn : n < 1700) : sI 100 (some 1425) (nI n) v h = some (wI 1425 n v h) := sI_e (tk_1425 H) (by decide) hn (by decide)
theorem txl_1425 {n : Nat} (H : TKK (hK h) (hR h)) (hn : (OfNat.ofNat n : Nat) < 1700) : xI 100 (some 1425) (no_index (OfNat.ofNat n)) h = some (hI h 1425 (OfNat.ofNat n)) := tx_1425 H hn
theorem tsl_1425 {n : Nat} {v : Int32} (H : TKK (hK h) (hR h)) (hn : (OfNat.ofNat n : Nat) < 1700) : sI 100 (some 1425) (no_index (OfNat.ofNat n)) v h = some (wI 1425 (OfNat.ofNat n) v h) := ts_1425 H hn
theorem tk_1426 (H : TKK (hK h) (hR h)) : hK h 1426 = (103, 1700) := H.1 (1426, 103, 1700) (List.mem_of_getElem? (i := 77) rfl)
theorem tx_1426 {n : Nat} (H : TKK (hK h) (hR h)) (hn : n < 1700) : xL 103 (some 1426) (nI n) h = some (hL h 1426 n) := xL_e (tk_1426 H) hn (by decide)
theorem ts_1426 {n : Nat} {v : Int64} (H : TKK (hK h) (hR h)) (hn : n < 1700) : sL 103 (some 1426) (nI n) v h = some (wL 1426 n v h) := sL_e (tk_1426 H) (by decide) hn (by decide)
theorem txl_1426 {n : Nat} (H : TKK (hK h) (hR h)) (hn : (OfNat.ofNat n : Nat) < 1700) : xL 103 (some 1426) (no_index (OfNat.ofNat n)) h = some (hL h 1426 (OfNat.ofNat n)) := tx_1426 H hn
theorem tsl_1426 {n : Nat} {v : Int64} (H : TKK (hK h) (hR h)) (hn : (OfNat.ofNat n : Nat) < 1700) : sL 103 (some 1426) (no_index (OfNat.ofNat n)) v h = some (wL 1426 (OfNat.ofNat n) v h) := ts_1426 H hn
theorem tk_1427 (H : TKK (hK h) (hR h)) : hK h 1427 = (100, 59) := H.1 (1427, 100, 59) (List.mem_of_getElem? (i := 78) rfl)
theorem tx_1427 {n : Nat} (H : TKK (hK h) (hR h)) (hn : n < 59) : xI 100 (some 1427) (nI n) h = some (hI h 1427 n) := xI_e (tk_1427 H) hn (by decide)
theorem ts_1427 {n : Nat} {v : Int32} (H : TKK (hK h) (hR h)) (hn : n < 59) : sI 100 (some 1427) (nI n) v h = some (wI 1427 n v h) := sI_e (tk_1427 H) (by decide) hn (by decide)
theorem txl_1427 {n : Nat} (H : TKK (hK h) (hR h)) (hn : (OfNat.ofNat n : Nat) < 59) : xI 100 (some 1427) (no_index (OfNat.ofNat n)) h = some (hI h 1427 (OfNat.ofNat n)) := tx_1427 H hn
theorem tsl_1427 {n : Nat} {v : Int32} (H : TKK (hK h) (hR h)) (hn : (OfNat.ofNat n : Nat) < 59) : sI 100 (some 1427) (no_index (OfNat.ofNat n)) v h = some (wI 1427 (OfNat.ofNat n) v h) := ts_1427 H hn
theorem btgI {β : Type} {f : Int32 → Option β} {k : Nat} (H : TKK (hK h) (hR h)) : (gI 7 k (some 1349) h).bind f = f (hI h 1349 k) := by rw [tgI H]; rfl
theorem btpI {β : Type} {f : AH → Option β} {k : Nat} {v : Int32} (H : TKK (hK h) (hR h)) : (pI 7 k (some 1349) v h).bind f = f (wI 1349 k v h) := by rw [tpI H]; rfl
theorem btpZ {β : Type} {f : AH → Option β} {k : Nat} {v : Int32} (H : TKK (hK h) (hR h)) (hv : v = 0 ∨ v = 1) : (pZ 7 k (some 1349) v h).bind f = f (wI 1349 k v h) := by rw [tpZ H hv]; rfl
theorem btgL {β : Type} {f : Int64 → Option β} {k : Nat} (H : TKK (hK h) (hR h)) : (gL 7 k (some 1349) h).bind f = f (hL h 1349 k) := by rw [tgL H]; rfl
theorem btpL {β : Type} {f : AH → Option β} {k : Nat} {v : Int64} (H : TKK (hK h) (hR h)) : (pL 7 k (some 1349) v h).bind f = f (wL 1349 k v h) := by rw [tpL H]; rfl
theorem btisO {β : Type} {f : Nat → Option β} (H : TKK (hK h) (hR h)) : (isO 7 (some 1349) h).bind f = f (1349) := by rw [tisO H]; rfl
theorem btg_0 {β : Type} {f : Option Nat → Option β} (H : TKK (hK h) (hR h)) : (gR 7 0 (some 1349) h).bind f = f (some 1350) := by rw [tg_0 H]; rfl
theorem btg_9 {β : Type} {f : Option Nat → Option β} (H : TKK (hK h) (hR h)) : (gR 7 9 (some 1349) h).bind f = f (some 1351) := by rw [tg_9 H]; rfl
theorem btg_11 {β : Type} {f : Option Nat → Option β} (H : TKK (hK h) (hR h)) : (gR 7 11 (some 1349) h).bind f = f (some 1352) := by rw [tg_11 H]; rfl
theorem btg_12 {β : Type} {f : Option Nat → Option β} (H : TKK (hK h) (hR h)) : (gR 7 12 (some 1349) h).bind f = f (some 1353) := by rw [tg_12 H]; rfl
theorem btg_13 {β : Type} {f : Option Nat → Option β} (H : TKK (hK h) (hR h)) : (gR 7 13 (some 1349) h).bind f = f (some 1354) := by rw [tg_13 H]; rfl
theorem btg_14 {β : Type} {f : Option Nat → Option β} (H : TKK (hK h) (hR h)) : (gR 7 14 (some 1349) h).bind f = f (some 1355) := by rw [tg_14 H]; rfl
theorem btg_15 {β : Type} {f : Option Nat → Option β} (H : TKK (hK h) (hR h)) : (gR 7 15 (some 1349) h).bind f = f (some 1356) := by rw [tg_15 H]; rfl
theorem btg_16 {β : Type} {f : Option Nat → Option β} (H : TKK (hK h) (hR h)) : (gR 7 16 (some 1349) h).bind f = f (some 1357) := by rw [tg_16 H]; rfl
theorem btg_17 {β : Type} {f : Option Nat → Option β} (H : TKK (hK h) (hR h)) : (gR 7 17 (some 1349) h).bind f = f (some 1358) := by rw [tg_17 H]; rfl
theorem btg_18 {β : Type} {f : Option Nat → Option β} (H : TKK (hK h) (hR h)) : (gR 7 18 (some 1349) h).bind f = f (some 1359) := by rw [tg_18 H]; rfl
theorem btg_19 {β : Type} {f : Option Nat → Option β} (H : TKK (hK h) (hR h)) : (gR 7 19 (some 1349) h).bind f = f (some 1360) := by rw [tg_19 H]; rfl
theorem btg_20 {β : Type} {f : Option Nat → Option β} (H : TKK (hK h) (hR h)) : (gR 7 20 (some 1349) h).bind f = f (some 1361) := by rw [tg_20 H]; rfl
theorem btg_21 {β : Type} {f : Option Nat → Option β} (H : TKK (hK h) (hR h)) : (gR 7 21 (some 1349) h).bind f = f (some 1362) := by rw [tg_21 H]; rfl
theorem btg_22 {β : Type} {f : Option Nat → Option β} (H : TKK (hK h) (hR h)) : (gR 7 22 (some 1349) h).bind f = f (some 1363) := by rw [tg_22 H]; rfl
theorem btg_23 {β : Type} {f : Option Nat → Option β} (H : TKK (hK h) (hR h)) : (gR 7 23 (some 1349) h).bind f = f (some 1364) := by rw [tg_23 H]; rfl
theorem btg_24 {β : Type} {f : Option Nat → Option β} (H : TKK (hK h) (hR h)) : (gR 7 24 (some 1349) h).bind f = f (some 1365) := by rw [tg_24 H]; rfl
theorem btg_25 {β : Type} {f : Option Nat → Option β} (H : TKK (hK h) (hR h)) : (gR 7 25 (some 1349) h).bind f = f (some 1366) := by rw [tg_25 H]; rfl
theorem btg_26 {β : Type} {f : Option Nat → Option β} (H : TKK (hK h) (hR h)) : (gR 7 26 (some 1349) h).bind f = f (some 1367) := by rw [tg_26 H]; rfl
theorem btg_27 {β : Type} {f : Option Nat → Option β} (H : TKK (hK h) (hR h)) : (gR 7 27 (some 1349) h).bind f = f (some 1368) := by rw [tg_27 H]; rfl
theorem btg_28 {β : Type} {f : Option Nat → Option β} (H : TKK (hK h) (hR h)) : (gR 7 28 (some 1349) h).bind f = f (some 1369) := by rw [tg_28 H]; rfl
theorem btg_29 {β : Type} {f : Option Nat → Option β} (H : TKK (hK h) (hR h)) : (gR 7 29 (some 1349) h).bind f = f (some 1370) := by rw [tg_29 H]; rfl
theorem btg_30 {β : Type} {f : Option Nat → Option β} (H : TKK (hK h) (hR h)) : (gR 7 30 (some 1349) h).bind f = f (some 1371) := by rw [tg_30 H]; rfl
theorem btg_31 {β : Type} {f : Option Nat → Option β} (H : TKK (hK h) (hR h)) : (gR 7 31 (some 1349) h).bind f = f (some 1372) := by rw [tg_31 H]; rfl
theorem btg_32 {β : Type} {f : Option Nat → Option β} (H : TKK (hK h) (hR h)) : (gR 7 32 (some 1349) h).bind f = f (some 1373) := by rw [tg_32 H]; rfl
theorem btg_33 {β : Type} {f : Option Nat → Option β} (H : TKK (hK h) (hR h)) : (gR 7 33 (some 1349) h).bind f = f (some 1374) := by rw [tg_33 H]; rfl
theorem btg_34 {β : Type} {f : Option Nat → Option β} (H : TKK (hK h) (hR h)) : (gR 7 34 (some 1349) h).bind f = f (some 1375) := by rw [tg_34 H]; rfl
theorem btg_35 {β : Type} {f : Option Nat → Option β} (H : TKK (hK h) (hR h)) : (gR 7 35 (some 1349) h).bind f = f (some 1376) := by rw [tg_35 H]; rfl
theorem btg_36 {β : Type} {f : Option Nat → Option β} (H : TKK (hK h) (hR h)) : (gR 7 36 (some 1349) h).bind f = f (some 1377) := by rw [tg_36 H]; rfl
theorem btg_37 {β : Type} {f : Option Nat → Option β} (H : TKK (hK h) (hR h)) : (gR 7 37 (some 1349) h).bind f = f (some 1378) := by rw [tg_37 H]; rfl
theorem btg_38 {β : Type} {f : Option Nat → Option β} (H : TKK (hK h) (hR h)) : (gR 7 38 (some 1349) h).bind f = f (some 1379) := by rw [tg_38 H]; rfl
theorem btg_41 {β : Type} {f : Option Nat → Option β} (H : TKK (hK h) (hR h)) : (gR 7 41 (some 1349) h).bind f = f (some 1380) := by rw [tg_41 H]; rfl
theorem btg_42 {β : Type} {f : Option Nat → Option β} (H : TKK (hK h) (hR h)) : (gR 7 42 (some 1349) h).bind f = f (some 1381) := by rw [tg_42 H]; rfl
theorem btg_43 {β : Type} {f : Option Nat → Option β} (H : TKK (hK h) (hR h)) : (gR 7 43 (some 1349) h).bind f = f (some 1382) := by rw [tg_43 H]; rfl
theorem btg_46 {β : Type} {f : Option Nat → Option β} (H : TKK (hK h) (hR h)) : (gR 7 46 (some 1349) h).bind f = f (some 1383) := by rw [tg_46 H]; rfl
theorem btg_49 {β : Type} {f : Option Nat → Option β} (H : TKK (hK h) (hR h)) : (gR 7 49 (some 1349) h).bind f = f (some 1384) := by rw [tg_49 H]; rfl
theorem btg_50 {β : Type} {f : Option Nat → Option β} (H : TKK (hK h) (hR h)) : (gR 7 50 (some 1349) h).bind f = f (some 1385) := by rw [tg_50 H]; rfl
theorem btg_51 {β : Type} {f : Option Nat → Option β} (H : TKK (hK h) (hR h)) : (gR 7 51 (some 1349) h).bind f = f (some 1386) := by rw [tg_51 H]; rfl
theorem btg_52 {β : Type} {f : Option Nat → Option β} (H : TKK (hK h) (hR h)) : (gR 7 52 (some 1349) h).bind f = f (some 1387) := by rw [tg_52 H]; rfl
theorem btg_53 {β : Type} {f : Option Nat → Option β} (H : TKK (hK h) (hR h)) : (gR 7 53 (some 1349) h).bind f = f (some 1388) := by rw [tg_53 H]; rfl
theorem btg_57 {β : Type} {f : Option Nat → Option β} (H : TKK (hK h) (hR h)) : (gR 7 57 (some 1349) h).bind f = f (some 1389) := by rw [tg_57 H]; rfl
theorem btg_58 {β : Type} {f : Option Nat → Option β} (H : TKK (hK h) (hR h)) : (gR 7 58 (some 1349) h).bind f = f (some 1390) := by rw [tg_58 H]; rfl
theorem btg_68 {β : Type} {f : Option Nat → Option β} (H : TKK (hK h) (hR h)) : (gR 7 68 (some 1349) h).bind f = f (some 1391) := by rw [tg_68 H]; rfl
theorem btg_69 {β : Type} {f : Option Nat → Option β} (H : TKK (hK h) (hR h)) : (gR 7 69 (some 1349) h).bind f = f (some 1392) := by rw [tg_69 H]; rfl
theorem btg_70 {β : Type} {f : Option Nat → Option β} (H : TKK (hK h) (hR h)) : (gR 7 70 (some 1349) h).bind f = f (some 1393) := by rw [tg_70 H]; rfl
theorem btg_71 {β : Type} {f : Option Nat → Option β} (H : TKK (hK h) (hR h)) : (gR 7 71 (some 1349) h).bind f = f (some 1394) := by rw [tg_71 H]; rfl
theorem btg_72 {β : Type} {f : Option Nat → Option β} (H : TKK (hK h) (hR h)) : (gR 7 72 (some 1349) h).bind f = f (some 1395) := by rw [tg_72 H]; rfl
theorem btg_73 {β : Type} {f : Option Nat → Option β} (H : TKK (hK h) (hR h)) : (gR 7 73 (some 1349) h).bind f = f (some 1396) := by rw [tg_73 H]; rfl
theorem btg_75 {β : Type} {f : Option Nat → Option β} (H : TKK (hK h) (hR h)) : (gR 7 75 (some 1349) h).bind f = f (some 1397) := by rw [tg_75 H]; rfl
theorem btg_76 {β : Type} {f : Option Nat → Option β} (H : TKK (hK h) (hR h)) : (gR 7 76 (some 1349) h).bind f = f (some 1398) := by rw [tg_76 H]; rfl
theorem btg_77 {β : Type} {f : Option Nat → Option β} (H : TKK (hK h) (hR h)) : (gR 7 77 (some 1349) h).bind f = f (some 1399) := by rw [tg_77 H]; rfl
theorem btg_81 {β : Type} {f : Option Nat → Option β} (H : TKK (hK h) (hR h)) : (gR 7 81 (some 1349) h).bind f = f (some 1400) := by rw [tg_81 H]; rfl
theorem btg_82 {β : Type} {f : Option Nat → Option β} (H : TKK (hK h) (hR h)) : (gR 7 82 (some 1349) h).bind f = f (some 1401) := by rw [tg_82 H]; rfl
theorem btg_83 {β : Type} {f : Option Nat → Option β} (H : TKK (hK h) (hR h)) : (gR 7 83 (some 1349) h).bind f = f (some 1402) := by rw [tg_83 H]; rfl
theorem btg_84 {β : Type} {f : Option Nat → Option β} (H : TKK (hK h) (hR h)) : (gR 7 84 (some 1349) h).bind f = f (some 1403) := by rw [tg_84 H]; rfl
theorem btg_85 {β : Type} {f : Option Nat → Option β} (H : TKK (hK h) (hR h)) : (gR 7 85 (some 1349) h).bind f = f (some 1404) := by rw [tg_85 H]; rfl
theorem btg_86 {β : Type} {f : Option Nat → Option β} (H : TKK (hK h) (hR h)) : (gR 7 86 (some 1349) h).bind f = f (some 1405) := by rw [tg_86 H]; rfl
theorem btg_87 {β : Type} {f : Option Nat → Option β} (H : TKK (hK h) (hR h)) : (gR 7 87 (some 1349) h).bind f = f (some 1406) := by rw [tg_87 H]; rfl
theorem btg_88 {β : Type} {f : Option Nat → Option β} (H : TKK (hK h) (hR h)) : (gR 7 88 (some 1349) h).bind f = f (some 1407) := by rw [tg_88 H]; rfl
theorem btg_89 {β : Type} {f : Option Nat → Option β} (H : TKK (hK h) (hR h)) : (gR 7 89 (some 1349) h).bind f = f (some 1408) := by rw [tg_89 H]; rfl
theorem btg_90 {β : Type} {f : Option Nat → Option β} (H : TKK (hK h) (hR h)) : (gR 7 90 (some 1349) h).bind f = f (some 1409) := by rw [tg_90 H]; rfl
theorem btg_91 {β : Type} {f : Option Nat → Option β} (H : TKK (hK h) (hR h)) : (gR 7 91 (some 1349) h).bind f = f (some 1410) := by rw [tg_91 H]; rfl
theorem btg_92 {β : Type} {f : Option Nat → Option β} (H : TKK (hK h) (hR h)) : (gR 7 92 (some 1349) h).bind f = f (some 1411) := by rw [tg_92 H]; rfl
theorem btg_93 {β : Type} {f : Option Nat → Option β} (H : TKK (hK h) (hR h)) : (gR 7 93 (some 1349) h).bind f = f (some 1412) := by rw [tg_93 H]; rfl
theorem btg_94 {β : Type} {f : Option Nat → Option β} (H : TKK (hK h) (hR h)) : (gR 7 94 (some 1349) h).bind f = f (some 1413) := by rw [tg_94 H]; rfl
theorem btg_95 {β : Type} {f : Option Nat → Option β} (H : TKK (hK h) (hR h)) : (gR 7 95 (some 1349) h).bind f = f (some 1414) := by rw [tg_95 H]; rfl
theorem btg_96 {β : Type} {f : Option Nat → Option β} (H : TKK (hK h) (hR h)) : (gR 7 96 (some 1349) h).bind f = f (some 1415) := by rw [tg_96 H]; rfl
theorem btg_97 {β : Type} {f : Option Nat → Option β} (H : TKK (hK h) (hR h)) : (gR 7 97 (some 1349) h).bind f = f (some 1416) := by rw [tg_97 H]; rfl
theorem btg_98 {β : Type} {f : Option Nat → Option β} (H : TKK (hK h) (hR h)) : (gR 7 98 (some 1349) h).bind f = f (some 1417) := by rw [tg_98 H]; rfl
theorem btg_99 {β : Type} {f : Option Nat → Option β} (H : TKK (hK h) (hR h)) : (gR 7 99 (some 1349) h).bind f = f (some 1418) := by rw [tg_99 H]; rfl
theorem btg_100 {β : Type} {f : Option Nat → Option β} (H : TKK (hK h) (hR h)) : (gR 7 100 (some 1349) h).bind f = f (some 1419) := by rw [tg_100 H]; rfl
theorem btg_101 {β : Type} {f : Option Nat → Option β} (H : TKK (hK h) (hR h)) : (gR 7 101 (some 1349) h).bind f = f (some 1420) := by rw [tg_101 H]; rfl
theorem btg_102 {β : Type} {f : Option Nat → Option β} (H : TKK (hK h) (hR h)) : (gR 7 102 (some 1349) h).bind f = f (some 1421) := by rw [tg_102 H]; rfl
theorem btg_103 {β : Type} {f : Option Nat → Option β} (H : TKK (hK h) (hR h)) : (gR 7 103 (some 1349) h).bind f = f (some 1422) := by rw [tg_103 H]; rfl
theorem btg_104 {β : Type} {f : Option Nat → Option β} (H : TKK (hK h) (hR h)) : (gR 7 104 (some 1349) h).bind f = f (some 1423) := by rw [tg_104 H]; rfl
theorem btg_105 {β : Type} {f : Option Nat → Option β} (H : TKK (hK h) (hR h)) : (gR 7 105 (some 1349) h).bind f = f (some 1424) := by rw [tg_105 H]; rfl
theorem btg_107 {β : Type} {f : Option Nat → Option β} (H : TKK (hK h) (hR h)) : (gR 7 107 (some 1349) h).bind f = f (some 1425) := by rw [tg_107 H]; rfl
theorem btg_111 {β : Type} {f : Option Nat → Option β} (H : TKK (hK h) (hR h)) : (gR 7 111 (some 1349) h).bind f = f (some 1426) := by rw [tg_111 H]; rfl
theorem btg_115 {β : Type} {f : Option Nat → Option β} (H : TKK (hK h) (hR h)) : (gR 7 115 (some 1349) h).bind f = f (some 1427) := by rw [tg_115 H]; rfl
theorem btx_1350 {β : Type} {f : Int32 → Option β} {n : Nat} (H : TKK (hK h) (hR h)) (hn : n < 1600) : (xI 100 (some 1350) (nI n) h).bind f = f (hI h 1350 n) := by rw [tx_1350 H hn]; rfl
theorem bts_1350 {β : Type} {f : AH → Option β} {n : Nat} {v : Int32} (H : TKK (hK h) (hR h)) (hn : n < 1600) : (sI 100 (some 1350) (nI n) v h).bind f = f (wI 1350 n v h) := by rw [ts_1350 H hn]; rfl
theorem btxl_1350 {β : Type} {f : Int32 → Option β} {n : Nat} (H : TKK (hK h) (hR h)) (hn : (OfNat.ofNat n : Nat) < 1600) : (xI 100 (some 1350) (no_index (OfNat.ofNat n)) h).bind f = f (hI h 1350 (OfNat.ofNat n)) := by rw [txl_1350 H hn]; rfl
theorem btsl_1350 {β : Type} {f : AH → Option β} {n : Nat} {v : Int32} (H : TKK (hK h) (hR h)) (hn : (OfNat.ofNat n : Nat) < 1600) : (sI 100 (some 1350) (no_index (OfNat.ofNat n)) v h).bind f = f (wI 1350 (OfNat.ofNat n) v h) := by rw [tsl_1350 H hn]; rfl
theorem btx_1351 {β : Type} {f : Int32 → Option β} {n : Nat} (H : TKK (hK h) (hR h)) (hn : n < 6) : (xI 100 (some 1351) (nI n) h).bind f = f (hI h 1351 n) := by rw [tx_1351 H hn]; rfl
theorem bts_1351 {β : Type} {f : AH → Option β} {n : Nat} {v : Int32} (H : TKK (hK h) (hR h)) (hn : n < 6) : (sI 100 (some 1351) (nI n) v h).bind f = f (wI 1351 n v h) := by rw [ts_1351 H hn]; rfl
theorem btxl_1351 {β : Type} {f : Int32 → Option β} {n : Nat} (H : TKK (hK h) (hR h)) (hn : (OfNat.ofNat n : Nat) < 6) : (xI 100 (some 1351) (no_index (OfNat.ofNat n)) h).bind f = f (hI h 1351 (OfNat.ofNat n)) := by rw [txl_1351 H hn]; rfl
theorem btsl_1351 {β : Type} {f : AH → Option β} {n : Nat} {v : Int32} (H : TKK (hK h) (hR h)) (hn : (OfNat.ofNat n : Nat) < 6) : (sI 100 (some 1351) (no_index (OfNat.ofNat n)) v h).bind f = f (wI 1351 (OfNat.ofNat n) v h) := by rw [tsl_1351 H hn]; rfl
theorem btx_1352 {β : Type} {f : Int32 → Option β} {n : Nat} (H : TKK (hK h) (hR h)) (hn : n < 6) : (xI 102 (some 1352) (nI n) h).bind f = f (hI h 1352 n) := by rw [tx_1352 H hn]; rfl
theorem bta_1352 {β : Type} {f : Int32 → Option β} (H : TKK (hK h) (hR h)) : (aln (some 1352) h).bind f = f (nI 6) := by rw [ta_1352 H]; rfl
theorem btx_1353 {β : Type} {f : Int32 → Option β} {n : Nat} (H : TKK (hK h) (hR h)) (hn : n < 4) : (xI 102 (some 1353) (nI n) h).bind f = f (hI h 1353 n) := by rw [tx_1353 H hn]; rfl
theorem bta_1353 {β : Type} {f : Int32 → Option β} (H : TKK (hK h) (hR h)) : (aln (some 1353) h).bind f = f (nI 4) := by rw [ta_1353 H]; rfl
theorem btx_1354 {β : Type} {f : Int32 → Option β} {n : Nat} (H : TKK (hK h) (hR h)) (hn : n < 2) : (xI 102 (some 1354) (nI n) h).bind f = f (hI h 1354 n) := by rw [tx_1354 H hn]; rfl
theorem bta_1354 {β : Type} {f : Int32 → Option β} (H : TKK (hK h) (hR h)) : (aln (some 1354) h).bind f = f (nI 2) := by rw [ta_1354 H]; rfl
theorem btx_1355 {β : Type} {f : Int32 → Option β} {n : Nat} (H : TKK (hK h) (hR h)) (hn : n < 4) : (xI 102 (some 1355) (nI n) h).bind f = f (hI h 1355 n) := by rw [tx_1355 H hn]; rfl
theorem bta_1355 {β : Type} {f : Int32 → Option β} (H : TKK (hK h) (hR h)) : (aln (some 1355) h).bind f = f (nI 4) := by rw [ta_1355 H]; rfl
theorem btx_1356 {β : Type} {f : Int32 → Option β} {n : Nat} (H : TKK (hK h) (hR h)) (hn : n < 5) : (xI 102 (some 1356) (nI n) h).bind f = f (hI h 1356 n) := by rw [tx_1356 H hn]; rfl
theorem bta_1356 {β : Type} {f : Int32 → Option β} (H : TKK (hK h) (hR h)) : (aln (some 1356) h).bind f = f (nI 5) := by rw [ta_1356 H]; rfl
theorem btx_1357 {β : Type} {f : Int32 → Option β} {n : Nat} (H : TKK (hK h) (hR h)) (hn : n < 5) : (xI 102 (some 1357) (nI n) h).bind f = f (hI h 1357 n) := by rw [tx_1357 H hn]; rfl
theorem bta_1357 {β : Type} {f : Int32 → Option β} (H : TKK (hK h) (hR h)) : (aln (some 1357) h).bind f = f (nI 5) := by rw [ta_1357 H]; rfl
theorem btx_1358 {β : Type} {f : Int32 → Option β} {n : Nat} (H : TKK (hK h) (hR h)) (hn : n < 4) : (xI 102 (some 1358) (nI n) h).bind f = f (hI h 1358 n) := by rw [tx_1358 H hn]; rfl
theorem bta_1358 {β : Type} {f : Int32 → Option β} (H : TKK (hK h) (hR h)) : (aln (some 1358) h).bind f = f (nI 4) := by rw [ta_1358 H]; rfl
theorem btx_1359 {β : Type} {f : Int32 → Option β} {n : Nat} (H : TKK (hK h) (hR h)) (hn : n < 5) : (xI 102 (some 1359) (nI n) h).bind f = f (hI h 1359 n) := by rw [tx_1359 H hn]; rfl
theorem bta_1359 {β : Type} {f : Int32 → Option β} (H : TKK (hK h) (hR h)) : (aln (some 1359) h).bind f = f (nI 5) := by rw [ta_1359 H]; rfl
theorem btx_1360 {β : Type} {f : Int32 → Option β} {n : Nat} (H : TKK (hK h) (hR h)) (hn : n < 4) : (xI 102 (some 1360) (nI n) h).bind f = f (hI h 1360 n) := by rw [tx_1360 H hn]; rfl
theorem bta_1360 {β : Type} {f : Int32 → Option β} (H : TKK (hK h) (hR h)) : (aln (some 1360) h).bind f = f (nI 4) := by rw [ta_1360 H]; rfl
theorem btx_1361 {β : Type} {f : Int32 → Option β} {n : Nat} (H : TKK (hK h) (hR h)) (hn : n < 4) : (xI 102 (some 1361) (nI n) h).bind f = f (hI h 1361 n) := by rw [tx_1361 H hn]; rfl
theorem bta_1361 {β : Type} {f : Int32 → Option β} (H : TKK (hK h) (hR h)) : (aln (some 1361) h).bind f = f (nI 4) := by rw [ta_1361 H]; rfl
theorem btx_1362 {β : Type} {f : Int32 → Option β} {n : Nat} (H : TKK (hK h) (hR h)) (hn : n < 4) : (xI 102 (some 1362) (nI n) h).bind f = f (hI h 1362 n) := by rw [tx_1362 H hn]; rfl
theorem bta_1362 {β : Type} {f : Int32 → Option β} (H : TKK (hK h) (hR h)) : (aln (some 1362) h).bind f = f (nI 4) := by rw [ta_1362 H]; rfl
theorem btx_1363 {β : Type} {f : Int32 → Option β} {n : Nat} (H : TKK (hK h) (hR h)) (hn : n < 3) : (xI 102 (some 1363) (nI n) h).bind f = f (hI h 1363 n) := by rw [tx_1363 H hn]; rfl
theorem bta_1363 {β : Type} {f : Int32 → Option β} (H : TKK (hK h) (hR h)) : (aln (some 1363) h).bind f = f (nI 3) := by rw [ta_1363 H]; rfl
theorem btx_1364 {β : Type} {f : Int32 → Option β} {n : Nat} (H : TKK (hK h) (hR h)) (hn : n < 6) : (xI 102 (some 1364) (nI n) h).bind f = f (hI h 1364 n) := by rw [tx_1364 H hn]; rfl
theorem bta_1364 {β : Type} {f : Int32 → Option β} (H : TKK (hK h) (hR h)) : (aln (some 1364) h).bind f = f (nI 6) := by rw [ta_1364 H]; rfl
theorem btx_1365 {β : Type} {f : Int32 → Option β} {n : Nat} (H : TKK (hK h) (hR h)) (hn : n < 3) : (xI 102 (some 1365) (nI n) h).bind f = f (hI h 1365 n) := by rw [tx_1365 H hn]; rfl
theorem bta_1365 {β : Type} {f : Int32 → Option β} (H : TKK (hK h) (hR h)) : (aln (some 1365) h).bind f = f (nI 3) := by rw [ta_1365 H]; rfl
theorem btx_1366 {β : Type} {f : Int32 → Option β} {n : Nat} (H : TKK (hK h) (hR h)) (hn : n < 5) : (xI 102 (some 1366) (nI n) h).bind f = f (hI h 1366 n) := by rw [tx_1366 H hn]; rfl
theorem bta_1366 {β : Type} {f : Int32 → Option β} (H : TKK (hK h) (hR h)) : (aln (some 1366) h).bind f = f (nI 5) := by rw [ta_1366 H]; rfl
theorem btx_1367 {β : Type} {f : Int32 → Option β} {n : Nat} (H : TKK (hK h) (hR h)) (hn : n < 4) : (xI 102 (some 1367) (nI n) h).bind f = f (hI h 1367 n) := by rw [tx_1367 H hn]; rfl
theorem bta_1367 {β : Type} {f : Int32 → Option β} (H : TKK (hK h) (hR h)) : (aln (some 1367) h).bind f = f (nI 4) := by rw [ta_1367 H]; rfl
theorem btx_1368 {β : Type} {f : Int32 → Option β} {n : Nat} (H : TKK (hK h) (hR h)) (hn : n < 4) : (xI 102 (some 1368) (nI n) h).bind f = f (hI h 1368 n) := by rw [tx_1368 H hn]; rfl
theorem bta_1368 {β : Type} {f : Int32 → Option β} (H : TKK (hK h) (hR h)) : (aln (some 1368) h).bind f = f (nI 4) := by rw [ta_1368 H]; rfl
theorem btx_1369 {β : Type} {f : Int32 → Option β} {n : Nat} (H : TKK (hK h) (hR h)) (hn : n < 6) : (xI 102 (some 1369) (nI n) h).bind f = f (hI h 1369 n) := by rw [tx_1369 H hn]; rfl
theorem bta_1369 {β : Type} {f : Int32 → Option β} (H : TKK (hK h) (hR h)) : (aln (some 1369) h).bind f = f (nI 6) := by rw [ta_1369 H]; rfl
theorem btx_1370 {β : Type} {f : Int32 → Option β} {n : Nat} (H : TKK (hK h) (hR h)) (hn : n < 4) : (xI 102 (some 1370) (nI n) h).bind f = f (hI h 1370 n) := by rw [tx_1370 H hn]; rfl
theorem bta_1370 {β : Type} {f : Int32 → Option β} (H : TKK (hK h) (hR h)) : (aln (some 1370) h).bind f = f (nI 4) := by rw [ta_1370 H]; rfl
theorem btx_1371 {β : Type} {f : Int32 → Option β} {n : Nat} (H : TKK (hK h) (hR h)) (hn : n < 4) : (xI 102 (some 1371) (nI n) h).bind f = f (hI h 1371 n) := by rw [tx_1371 H hn]; rfl
theorem bta_1371 {β : Type} {f : Int32 → Option β} (H : TKK (hK h) (hR h)) : (aln (some 1371) h).bind f = f (nI 4) := by rw [ta_1371 H]; rfl
theorem btx_1372 {β : Type} {f : Int32 → Option β} {n : Nat} (H : TKK (hK h) (hR h)) (hn : n < 2) : (xI 102 (some 1372) (nI n) h).bind f = f (hI h 1372 n) := by rw [tx_1372 H hn]; rfl
theorem bta_1372 {β : Type} {f : Int32 → Option β} (H : TKK (hK h) (hR h)) : (aln (some 1372) h).bind f = f (nI 2) := by rw [ta_1372 H]; rfl
theorem btx_1373 {β : Type} {f : Int32 → Option β} {n : Nat} (H : TKK (hK h) (hR h)) (hn : n < 2) : (xI 102 (some 1373) (nI n) h).bind f = f (hI h 1373 n) := by rw [tx_1373 H hn]; rfl
theorem bta_1373 {β : Type} {f : Int32 → Option β} (H : TKK (hK h) (hR h)) : (aln (some 1373) h).bind f = f (nI 2) := by rw [ta_1373 H]; rfl
theorem btx_1374 {β : Type} {f : Int32 → Option β} {n : Nat} (H : TKK (hK h) (hR h)) (hn : n < 3) : (xI 102 (some 1374) (nI n) h).bind f = f (hI h 1374 n) := by rw [tx_1374 H hn]; rfl
theorem bta_1374 {β : Type} {f : Int32 → Option β} (H : TKK (hK h) (hR h)) : (aln (some 1374) h).bind f = f (nI 3) := by rw [ta_1374 H]; rfl
theorem btx_1375 {β : Type} {f : Int32 → Option β} {n : Nat} (H : TKK (hK h) (hR h)) (hn : n < 3) : (xI 102 (some 1375) (nI n) h).bind f = f (hI h 1375 n) := by rw [tx_1375 H hn]; rfl
theorem bta_1375 {β : Type} {f : Int32 → Option β} (H : TKK (hK h) (hR h)) : (aln (some 1375) h).bind f = f (nI 3) := by rw [ta_1375 H]; rfl
theorem btx_1376 {β : Type} {f : Int32 → Option β} {n : Nat} (H : TKK (hK h) (hR h)) (hn : n < 3) : (xI 102 (some 1376) (nI n) h).bind f = f (hI h 1376 n) := by rw [tx_1376 H hn]; rfl
theorem bta_1376 {β : Type} {f : Int32 → Option β} (H : TKK (hK h) (hR h)) : (aln (some 1376) h).bind f = f (nI 3) := by rw [ta_1376 H]; rfl
theorem btx_1377 {β : Type} {f : Int32 → Option β} {n : Nat} (H : TKK (hK h) (hR h)) (hn : n < 3) : (xI 102 (some 1377) (nI n) h).bind f = f (hI h 1377 n) := by rw [tx_1377 H hn]; rfl
theorem bta_1377 {β : Type} {f : Int32 → Option β} (H : TKK (hK h) (hR h)) : (aln (some 1377) h).bind f = f (nI 3) := by rw [ta_1377 H]; rfl
theorem btx_1378 {β : Type} {f : Int32 → Option β} {n : Nat} (H : TKK (hK h) (hR h)) (hn : n < 3) : (xI 102 (some 1378) (nI n) h).bind f = f (hI h 1378 n) := by rw [tx_1378 H hn]; rfl
theorem bta_1378 {β : Type} {f : Int32 → Option β} (H : TKK (hK h) (hR h)) : (aln (some 1378) h).bind f = f (nI 3) := by rw [ta_1378 H]; rfl
theorem btx_1379 {β : Type} {f : Int32 → Option β} {n : Nat} (H : TKK (hK h) (hR h)) (hn : n < 7) : (xI 102 (some 1379) (nI n) h).bind f = f (hI h 1379 n) := by rw [tx_1379 H hn]; rfl
theorem bta_1379 {β : Type} {f : Int32 → Option β} (H : TKK (hK h) (hR h)) : (aln (some 1379) h).bind f = f (nI 7) := by rw [ta_1379 H]; rfl
theorem btx_1380 {β : Type} {f : Int32 → Option β} {n : Nat} (H : TKK (hK h) (hR h)) (hn : n < 6) : (xI 100 (some 1380) (nI n) h).bind f = f (hI h 1380 n) := by rw [tx_1380 H hn]; rfl
theorem bts_1380 {β : Type} {f : AH → Option β} {n : Nat} {v : Int32} (H : TKK (hK h) (hR h)) (hn : n < 6) : (sI 100 (some 1380) (nI n) v h).bind f = f (wI 1380 n v h) := by rw [ts_1380 H hn]; rfl
theorem btxl_1380 {β : Type} {f : Int32 → Option β} {n : Nat} (H : TKK (hK h) (hR h)) (hn : (OfNat.ofNat n : Nat) < 6) : (xI 100 (some 1380) (no_index (OfNat.ofNat n)) h).bind f = f (hI h 1380 (OfNat.ofNat n)) := by rw [txl_1380 H hn]; rfl
theorem btsl_1380 {β : Type} {f : AH → Option β} {n : Nat} {v : Int32} (H : TKK (hK h) (hR h)) (hn : (OfNat.ofNat n : Nat) < 6) : (sI 100 (some 1380) (no_index (OfNat.ofNat n)) v h).bind f = f (wI 1380 (OfNat.ofNat n) v h) := by rw [tsl_1380 H hn]; rfl
theorem btx_1381 {β : Type} {f : Int32 → Option β} {n : Nat} (H : TKK (hK h) (hR h)) (hn : n < 4) : (xI 100 (some 1381) (nI n) h).bind f = f (hI h 1381 n) := by rw [tx_1381 H hn]; rfl
theorem bts_1381 {β : Type} {f : AH → Option β} {n : Nat} {v : Int32} (H : TKK (hK h) (hR h)) (hn : n < 4) : (sI 100 (some 1381) (nI n) v h).bind f = f (wI 1381 n v h) := by rw [ts_1381 H hn]; rfl
theorem btxl_1381 {β : Type} {f : Int32 → Option β} {n : Nat} (H : TKK (hK h) (hR h)) (hn : (OfNat.ofNat n : Nat) < 4) : (xI 100 (some 1381) (no_index (OfNat.ofNat n)) h).bind f = f (hI h 1381 (OfNat.ofNat n)) := by rw [txl_1381 H hn]; rfl
theorem btsl_1381 {β : Type} {f : AH → Option β} {n : Nat} {v : Int32} (H : TKK (hK h) (hR h)) (hn : (OfNat.ofNat n : Nat) < 4) : (sI 100 (some 1381) (no_index (OfNat.ofNat n)) v h).bind f = f (wI 1381 (OfNat.ofNat n) v h) := by rw [tsl_1381 H hn]; rfl
theorem btx_1382 {β : Type} {f : Int32 → Option β} {n : Nat} (H : TKK (hK h) (hR h)) (hn : n < 96) : (xI 100 (some 1382) (nI n) h).bind f = f (hI h 1382 n) := by rw [tx_1382 H hn]; rfl
theorem bts_1382 {β : Type} {f : AH → Option β} {n : Nat} {v : Int32} (H : TKK (hK h) (hR h)) (hn : n < 96) : (sI 100 (some 1382) (nI n) v h).bind f = f (wI 1382 n v h) := by rw [ts_1382 H hn]; rfl
theorem btxl_1382 {β : Type} {f : Int32 → Option β} {n : Nat} (H : TKK (hK h) (hR h)) (hn : (OfNat.ofNat n : Nat) < 96) : (xI 100 (some 1382) (no_index (OfNat.ofNat n)) h).bind f = f (hI h 1382 (OfNat.ofNat n)) := by rw [txl_1382 H hn]; rfl
theorem btsl_1382 {β : Type} {f : AH → Option β} {n : Nat} {v : Int32} (H : TKK (hK h) (hR h)) (hn : (OfNat.ofNat n : Nat) < 96) : (sI 100 (some 1382) (no_index (OfNat.ofNat n)) v h).bind f = f (wI 1382 (OfNat.ofNat n) v h) := by rw [tsl_1382 H hn]; rfl
theorem btx_1383 {β : Type} {f : Int32 → Option β} {n : Nat} (H : TKK (hK h) (hR h)) (hn : n < 112) : (xI 100 (some 1383) (nI n) h).bind f = f (hI h 1383 n) := by rw [tx_1383 H hn]; rfl
theorem bts_1383 {β : Type} {f : AH → Option β} {n : Nat} {v : Int32} (H : TKK (hK h) (hR h)) (hn : n < 112) : (sI 100 (some 1383) (nI n) v h).bind f = f (wI 1383 n v h) := by rw [ts_1383 H hn]; rfl
theorem btxl_1383 {β : Type} {f : Int32 → Option β} {n : Nat} (H : TKK (hK h) (hR h)) (hn : (OfNat.ofNat n : Nat) < 112) : (xI 100 (some 1383) (no_index (OfNat.ofNat n)) h).bind f = f (hI h 1383 (OfNat.ofNat n)) := by rw [txl_1383 H hn]; rfl
theorem btsl_1383 {β : Type} {f : AH → Option β} {n : Nat} {v : Int32} (H : TKK (hK h) (hR h)) (hn : (OfNat.ofNat n : Nat) < 112) : (sI 100 (some 1383) (no_index (OfNat.ofNat n)) v h).bind f = f (wI 1383 (OfNat.ofNat n) v h) := by rw [tsl_1383 H hn]; rfl
theorem btx_1384 {β : Type} {f : Int32 → Option β} {n : Nat} (H : TKK (hK h) (hR h)) (hn : n < 8) : (xI 100 (some 1384) (nI n) h).bind f = f (hI h 1384 n) := by rw [tx_1384 H hn]; rfl
theorem bts_1384 {β : Type} {f : AH → Option β} {n : Nat} {v : Int32} (H : TKK (hK h) (hR h)) (hn : n < 8) : (sI 100 (some 1384) (nI n) v h).bind f = f (wI 1384 n v h) := by rw [ts_1384 H hn]; rfl
theorem btxl_1384 {β : Type} {f : Int32 → Option β} {n : Nat} (H : TKK (hK h) (hR h)) (hn : (OfNat.ofNat n : Nat) < 8) : (xI 100 (some 1384) (no_index (OfNat.ofNat n)) h).bind f = f (hI h 1384 (OfNat.ofNat n)) := by rw [txl_1384 H hn]; rfl
theorem btsl_1384 {β : Type} {f : AH → Option β} {n : Nat} {v : Int32} (H : TKK (hK h) (hR h)) (hn : (OfNat.ofNat n : Nat) < 8) : (sI 100 (some 1384) (no_index (OfNat.ofNat n)) v h).bind f = f (wI 1384 (OfNat.ofNat n) v h) := by rw [tsl_1384 H hn]; rfl
theorem btx_1385 {β : Type} {f : Int32 → Option β} {n : Nat} (H : TKK (hK h) (hR h)) (hn : n < 6) : (xI 100 (some 1385) (nI n) h).bind f = f (hI h 1385 n) := by rw [tx_1385 H hn]; rfl
theorem bts_1385 {β : Type} {f : AH → Option β} {n : Nat} {v : Int32} (H : TKK (hK h) (hR h)) (hn : n < 6) : (sI 100 (some 1385) (nI n) v h).bind f = f (wI 1385 n v h) := by rw [ts_1385 H hn]; rfl
theorem btxl_1385 {β : Type} {f : Int32 → Option β} {n : Nat} (H : TKK (hK h) (hR h)) (hn : (OfNat.ofNat n : Nat) < 6) : (xI 100 (some 1385) (no_index (OfNat.ofNat n)) h).bind f = f (hI h 1385 (OfNat.ofNat n)) := by rw [txl_1385 H hn]; rfl
theorem btsl_1385 {β : Type} {f : AH → Option β} {n : Nat} {v : Int32} (H : TKK (hK h) (hR h)) (hn : (OfNat.ofNat n : Nat) < 6) : (sI 100 (some 1385) (no_index (OfNat.ofNat n)) v h).bind f = f (wI 1385 (OfNat.ofNat n) v h) := by rw [tsl_1385 H hn]; rfl
theorem btx_1386 {β : Type} {f : Int32 → Option β} {n : Nat} (H : TKK (hK h) (hR h)) (hn : n < 4) : (xI 100 (some 1386) (nI n) h).bind f = f (hI h 1386 n) := by rw [tx_1386 H hn]; rfl
theorem bts_1386 {β : Type} {f : AH → Option β} {n : Nat} {v : Int32} (H : TKK (hK h) (hR h)) (hn : n < 4) : (sI 100 (some 1386) (nI n) v h).bind f = f (wI 1386 n v h) := by rw [ts_1386 H hn]; rfl
theorem btxl_1386 {β : Type} {f : Int32 → Option β} {n : Nat} (H : TKK (hK h) (hR h)) (hn : (OfNat.ofNat n : Nat) < 4) : (xI 100 (some 1386) (no_index (OfNat.ofNat n)) h).bind f = f (hI h 1386 (OfNat.ofNat n)) := by rw [txl_1386 H hn]; rfl
theorem btsl_1386 {β : Type} {f : AH → Option β} {n : Nat} {v : Int32} (H : TKK (hK h) (hR h)) (hn : (OfNat.ofNat n : Nat) < 4) : (sI 100 (some 1386) (no_index (OfNat.ofNat n)) v h).bind f = f (wI 1386 (OfNat.ofNat n) v h) := by rw [tsl_1386 H hn]; rfl
theorem btx_1387 {β : Type} {f : Int32 → Option β} {n : Nat} (H : TKK (hK h) (hR h)) (hn : n < 4) : (xI 100 (some 1387) (nI n) h).bind f = f (hI h 1387 n) := by rw [tx_1387 H hn]; rfl
theorem bts_1387 {β : Type} {f : AH → Option β} {n : Nat} {v : Int32} (H : TKK (hK h) (hR h)) (hn : n < 4) : (sI 100 (some 1387) (nI n) v h).bind f = f (wI 1387 n v h) := by rw [ts_1387 H hn]; rfl
theorem btxl_1387 {β : Type} {f : Int32 → Option β} {n : Nat} (H : TKK (hK h) (hR h)) (hn : (OfNat.ofNat n : Nat) < 4) : (xI 100 (some 1387) (no_index (OfNat.ofNat n)) h).bind f = f (hI h 1387 (OfNat.ofNat n)) := by rw [txl_1387 H hn]; rfl
theorem btsl_1387 {β : Type} {f : AH → Option β} {n : Nat} {v : Int32} (H : TKK (hK h) (hR h)) (hn : (OfNat.ofNat n : Nat) < 4) : (sI 100 (some 1387) (no_index (OfNat.ofNat n)) v h).bind f = f (wI 1387 (OfNat.ofNat n) v h) := by rw [tsl_1387 H hn]; rfl
theorem btx_1388 {β : Type} {f : Int32 → Option β} {n : Nat} (H : TKK (hK h) (hR h)) (hn : n < 3200) : (xI 100 (some 1388) (nI n) h).bind f = f (hI h 1388 n) := by rw [tx_1388 H hn]; rfl
theorem bts_1388 {β : Type} {f : AH → Option β} {n : Nat} {v : Int32} (H : TKK (hK h) (hR h)) (hn : n < 3200) : (sI 100 (some 1388) (nI n) v h).bind f = f (wI 1388 n v h) := by rw [ts_1388 H hn]; rfl
theorem btxl_1388 {β : Type} {f : Int32 → Option β} {n : Nat} (H : TKK (hK h) (hR h)) (hn : (OfNat.ofNat n : Nat) < 3200) : (xI 100 (some 1388) (no_index (OfNat.ofNat n)) h).bind f = f (hI h 1388 (OfNat.ofNat n)) := by rw [txl_1388 H hn]; rfl
theorem btsl_1388 {β : Type} {f : AH → Option β} {n : Nat} {v : Int32} (H : TKK (hK h) (hR h)) (hn : (OfNat.ofNat n : Nat) < 3200) : (sI 100 (some 1388) (no_index (OfNat.ofNat n)) v h).bind f = f (wI 1388 (OfNat.ofNat n) v h) := by rw [tsl_1388 H hn]; rfl
theorem btx_1389 {β : Type} {f : Int32 → Option β} {n : Nat} (H : TKK (hK h) (hR h)) (hn : n < 154) : (xI 100 (some 1389) (nI n) h).bind f = f (hI h 1389 n) := by rw [tx_1389 H hn]; rfl
theorem bts_1389 {β : Type} {f : AH → Option β} {n : Nat} {v : Int32} (H : TKK (hK h) (hR h)) (hn : n < 154) : (sI 100 (some 1389) (nI n) v h).bind f = f (wI 1389 n v h) := by rw [ts_1389 H hn]; rfl
theorem btxl_1389 {β : Type} {f : Int32 → Option β} {n : Nat} (H : TKK (hK h) (hR h)) (hn : (OfNat.ofNat n : Nat) < 154) : (xI 100 (some 1389) (no_index (OfNat.ofNat n)) h).bind f = f (hI h 1389 (OfNat.ofNat n)) := by rw [txl_1389 H hn]; rfl
theorem btsl_1389 {β : Type} {f : AH → Option β} {n : Nat} {v : Int32} (H : TKK (hK h) (hR h)) (hn : (OfNat.ofNat n : Nat) < 154) : (sI 100 (some 1389) (no_index (OfNat.ofNat n)) v h).bind f = f (wI 1389 (OfNat.ofNat n) v h) := by rw [tsl_1389 H hn]; rfl
theorem btx_1390 {β : Type} {f : Int32 → Option β} {n : Nat} (H : TKK (hK h) (hR h)) (hn : n < 33) : (xI 100 (some 1390) (nI n) h).bind f = f (hI h 1390 n) := by rw [tx_1390 H hn]; rfl
theorem bts_1390 {β : Type} {f : AH → Option β} {n : Nat} {v : Int32} (H : TKK (hK h) (hR h)) (hn : n < 33) : (sI 100 (some 1390) (nI n) v h).bind f = f (wI 1390 n v h) := by rw [ts_1390 H hn]; rfl
theorem btxl_1390 {β : Type} {f : Int32 → Option β} {n : Nat} (H : TKK (hK h) (hR h)) (hn : (OfNat.ofNat n : Nat) < 33) : (xI 100 (some 1390) (no_index (OfNat.ofNat n)) h).bind f = f (hI h 1390 (OfNat.ofNat n)) := by rw [txl_1390 H hn]; rfl
theorem btsl_1390 {β : Type} {f : AH → Option β} {n : Nat} {v : Int32} (H : TKK (hK h) (hR h)) (hn : (OfNat.ofNat n : Nat) < 33) : (sI 100 (some 1390) (no_index (OfNat.ofNat n)) v h).bind f = f (wI 1390 (OfNat.ofNat n) v h) := by rw [tsl_1390 H hn]; rfl
theorem btx_1391 {β : Type} {f : Int32 → Option β} {n : Nat} (H : TKK (hK h) (hR h)) (hn : n < 24) : (xI 100 (some 1391) (nI n) h).bind f = f (hI h 1391 n) := by rw [tx_1391 H hn]; rfl
theorem bts_1391 {β : Type} {f : AH → Option β} {n : Nat} {v : Int32} (H : TKK (hK h) (hR h)) (hn : n < 24) : (sI 100 (some 1391) (nI n) v h).bind f = f (wI 1391 n v h) := by rw [ts_1391 H hn]; rfl
theorem btxl_1391 {β : Type} {f : Int32 → Option β} {n : Nat} (H : TKK (hK h) (hR h)) (hn : (OfNat.ofNat n : Nat) < 24) : (xI 100 (some 1391) (no_index (OfNat.ofNat n)) h).bind f = f (hI h 1391 (OfNat.ofNat n)) := by rw [txl_1391 H hn]; rfl
theorem btsl_1391 {β : Type} {f : AH → Option β} {n : Nat} {v : Int32} (H : TKK (hK h) (hR h)) (hn : (OfNat.ofNat n : Nat) < 24) : (sI 100 (some 1391) (no_index (OfNat.ofNat n)) v h).bind f = f (wI 1391 (OfNat.ofNat n) v h) := by rw [tsl_1391 H hn]; rfl
theorem btx_1392 {β : Type} {f : Int32 → Option β} {n : Nat} (H : TKK (hK h) (hR h)) (hn : n < 6) : (xI 100 (some 1392) (nI n) h).bind f = f (hI h 1392 n) := by rw [tx_1392 H hn]; rfl
theorem bts_1392 {β : Type} {f : AH → Option β} {n : Nat} {v : Int32} (H : TKK (hK h) (hR h)) (hn : n < 6) : (sI 100 (some 1392) (nI n) v h).bind f = f (wI 1392 n v h) := by rw [ts_1392 H hn]; rfl
theorem btxl_1392 {β : Type} {f : Int32 → Option β} {n : Nat} (H : TKK (hK h) (hR h)) (hn : (OfNat.ofNat n : Nat) < 6) : (xI 100 (some 1392) (no_index (OfNat.ofNat n)) h).bind f = f (hI h 1392 (OfNat.ofNat n)) := by rw [txl_1392 H hn]; rfl
theorem btsl_1392 {β : Type} {f : AH → Option β} {n : Nat} {v : Int32} (H : TKK (hK h) (hR h)) (hn : (OfNat.ofNat n : Nat) < 6) : (sI 100 (some 1392) (no_index (OfNat.ofNat n)) v h).bind f = f (wI 1392 (OfNat.ofNat n) v h) := by rw [tsl_1392 H hn]; rfl
theorem btx_1393 {β : Type} {f : Int32 → Option β} {n : Nat} (H : TKK (hK h) (hR h)) (hn : n < 49) : (xI 100 (some 1393) (nI n) h).bind f = f (hI h 1393 n) := by rw [tx_1393 H hn]; rfl
theorem bts_1393 {β : Type} {f : AH → Option β} {n : Nat} {v : Int32} (H : TKK (hK h) (hR h)) (hn : n < 49) : (sI 100 (some 1393) (nI n) v h).bind f = f (wI 1393 n v h) := by rw [ts_1393 H hn]; rfl
theorem btxl_1393 {β : Type} {f : Int32 → Option β} {n : Nat} (H : TKK (hK h) (hR h)) (hn : (OfNat.ofNat n : Nat) < 49) : (xI 100 (some 1393) (no_index (OfNat.ofNat n)) h).bind f = f (hI h 1393 (OfNat.ofNat n)) := by rw [txl_1393 H hn]; rfl
theorem btsl_1393 {β : Type} {f : AH → Option β} {n : Nat} {v : Int32} (H : TKK (hK h) (hR h)) (hn : (OfNat.ofNat n : Nat) < 49) : (sI 100 (some 1393) (no_index (OfNat.ofNat n)) v h).bind f = f (wI 1393 (OfNat.ofNat n) v h) := by rw [tsl_1393 H hn]; rfl
theorem btx_1394 {β : Type} {f : Int32 → Option β} {n : Nat} (H : TKK (hK h) (hR h)) (hn : n < 49) : (xI 100 (some 1394) (nI n) h).bind f = f (hI h 1394 n) := by rw [tx_1394 H hn]; rfl
theorem bts_1394 {β : Type} {f : AH → Option β} {n : Nat} {v : Int32} (H : TKK (hK h) (hR h)) (hn : n < 49) : (sI 100 (some 1394) (nI n) v h).bind f = f (wI 1394 n v h) := by rw [ts_1394 H hn]; rfl
theorem btxl_1394 {β : Type} {f : Int32 → Option β} {n : Nat} (H : TKK (hK h) (hR h)) (hn : (OfNat.ofNat n : Nat) < 49) : (xI 100 (some 1394) (no_index (OfNat.ofNat n)) h).bind f = f (hI h 1394 (OfNat.ofNat n)) := by rw [txl_1394 H hn]; rfl
theorem btsl_1394 {β : Type} {f : AH → Option β} {n : Nat} {v : Int32} (H : TKK (hK h) (hR h)) (hn : (OfNat.ofNat n : Nat) < 49) : (sI 100 (some 1394) (no_index (OfNat.ofNat n)) v h).bind f = f (wI 1394 (OfNat.ofNat n) v h) := by rw [tsl_1394 H hn]; rfl
theorem btx_1395 {β : Type} {f : Int32 → Option β} {n : Nat} (H : TKK (hK h) (hR h)) (hn : n < 49) : (xI 100 (some 1395) (nI n) h).bind f = f (hI h 1395 n) := by rw [tx_1395 H hn]; rfl
theorem bts_1395 {β : Type} {f : AH → Option β} {n : Nat} {v : Int32} (H : TKK (hK h) (hR h)) (hn : n < 49) : (sI 100 (some 1395) (nI n) v h).bind f = f (wI 1395 n v h) := by rw [ts_1395 H hn]; rfl
theorem btxl_1395 {β : Type} {f : Int32 → Option β} {n : Nat} (H : TKK (hK h) (hR h)) (hn : (OfNat.ofNat n : Nat) < 49) : (xI 100 (some 1395) (no_index (OfNat.ofNat n)) h).bind f = f (hI h 1395 (OfNat.ofNat n)) := by rw [txl_1395 H hn]; rfl
theorem btsl_1395 {β : Type} {f : AH → Option β} {n : Nat} {v : Int32} (H : TKK (hK h) (hR h)) (hn : (OfNat.ofNat n : Nat) < 49) : (sI 100 (some 1395) (no_index (OfNat.ofNat n)) v h).bind f = f (wI 1395 (OfNat.ofNat n) v h) := by rw [tsl_1395 H hn]; rfl
theorem btx_1396 {β : Type} {f : Int32 → Option β} {n : Nat} (H : TKK (hK h) (hR h)) (hn : n < 64) : (xI 100 (some 1396) (nI n) h).bind f = f (hI h 1396 n) := by rw [tx_1396 H hn]; rfl
theorem bts_1396 {β : Type} {f : AH → Option β} {n : Nat} {v : Int32} (H : TKK (hK h) (hR h)) (hn : n < 64) : (sI 100 (some 1396) (nI n) v h).bind f = f (wI 1396 n v h) := by rw [ts_1396 H hn]; rfl
theorem btxl_1396 {β : Type} {f : Int32 → Option β} {n : Nat} (H : TKK (hK h) (hR h)) (hn : (OfNat.ofNat n : Nat) < 64) : (xI 100 (some 1396) (no_index (OfNat.ofNat n)) h).bind f = f (hI h 1396 (OfNat.ofNat n)) := by rw [txl_1396 H hn]; rfl
theorem btsl_1396 {β : Type} {f : AH → Option β} {n : Nat} {v : Int32} (H : TKK (hK h) (hR h)) (hn : (OfNat.ofNat n : Nat) < 64) : (sI 100 (some 1396) (no_index (OfNat.ofNat n)) v h).bind f = f (wI 1396 (OfNat.ofNat n) v h) := by rw [tsl_1396 H hn]; rfl
theorem btx_1397 {β : Type} {f : Int32 → Option β} {n : Nat} (H : TKK (hK h) (hR h)) (hn : n < 12) : (xI 100 (some 1397) (nI n) h).bind f = f (hI h 1397 n) := by rw [tx_1397 H hn]; rfl
theorem bts_1397 {β : Type} {f : AH → Option β} {n : Nat} {v : Int32} (H : TKK (hK h) (hR h)) (hn : n < 12) : (sI 100 (some 1397) (nI n) v h).bind f = f (wI 1397 n v h) := by rw [ts_1397 H hn]; rfl
theorem btxl_1397 {β : Type} {f : Int32 → Option β} {n : Nat} (H : TKK (hK h) (hR h)) (hn : (OfNat.ofNat n : Nat) < 12) : (xI 100 (some 1397) (no_index (OfNat.ofNat n)) h).bind f = f (hI h 1397 (OfNat.ofNat n)) := by rw [txl_1397 H hn]; rfl
theorem btsl_1397 {β : Type} {f : AH → Option β} {n : Nat} {v : Int32} (H : TKK (hK h) (hR h)) (hn : (OfNat.ofNat n : Nat) < 12) : (sI 100 (some 1397) (no_index (OfNat.ofNat n)) v h).bind f = f (wI 1397 (OfNat.ofNat n) v h) := by rw [tsl_1397 H hn]; rfl
theorem btx_1398 {β : Type} {f : Int32 → Option β} {n : Nat} (H : TKK (hK h) (hR h)) (hn : n < 12) : (xI 100 (some 1398) (nI n) h).bind f = f (hI h 1398 n) := by rw [tx_1398 H hn]; rfl
theorem bts_1398 {β : Type} {f : AH → Option β} {n : Nat} {v : Int32} (H : TKK (hK h) (hR h)) (hn : n < 12) : (sI 100 (some 1398) (nI n) v h).bind f = f (wI 1398 n v h) := by rw [ts_1398 H hn]; rfl
theorem btxl_1398 {β : Type} {f : Int32 → Option β} {n : Nat} (H : TKK (hK h) (hR h)) (hn : (OfNat.ofNat n : Nat) < 12) : (xI 100 (some 1398) (no_index (OfNat.ofNat n)) h).bind f = f (hI h 1398 (OfNat.ofNat n)) := by rw [txl_1398 H hn]; rfl
theorem btsl_1398 {β : Type} {f : AH → Option β} {n : Nat} {v : Int32} (H : TKK (hK h) (hR h)) (hn : (OfNat.ofNat n : Nat) < 12) : (sI 100 (some 1398) (no_index (OfNat.ofNat n)) v h).bind f = f (wI 1398 (OfNat.ofNat n) v h) := by rw [tsl_1398 H hn]; rfl
theorem btx_1399 {β : Type} {f : Int32 → Option β} {n : Nat} (H : TKK (hK h) (hR h)) (hn : n < 3080) : (xI 100 (some 1399) (nI n) h).bind f = f (hI h 1399 n) := by rw [tx_1399 H hn]; rfl
theorem bts_1399 {β : Type} {f : AH → Option β} {n : Nat} {v : Int32} (H : TKK (hK h) (hR h)) (hn : n < 3080) : (sI 100 (some 1399) (nI n) v h).bind f = f (wI 1399 n v h) := by rw [ts_1399 H hn]; rfl
theorem btxl_1399 {β : Type} {f : Int32 → Option β} {n : Nat} (H : TKK (hK h) (hR h)) (hn : (OfNat.ofNat n : Nat) < 3080) : (xI 100 (some 1399) (no_index (OfNat.ofNat n)) h).bind f = f (hI h 1399 (OfNat.ofNat n)) := by rw [txl_1399 H hn]; rfl
theorem btsl_1399 {β : Type} {f : AH → Option β} {n : Nat} {v : Int32} (H : TKK (hK h) (hR h)) (hn : (OfNat.ofNat n : Nat) < 3080) : (sI 100 (some 1399) (no_index (OfNat.ofNat n)) v h).bind f = f (wI 1399 (OfNat.ofNat n) v h) := by rw [tsl_1399 H hn]; rfl
theorem btx_1400 {β : Type} {f : Int32 → Option β} {n : Nat} (H : TKK (hK h) (hR h)) (hn : n < 5) : (xI 102 (some 1400) (nI n) h).bind f = f (hI h 1400 n) := by rw [tx_1400 H hn]; rfl
theorem bta_1400 {β : Type} {f : Int32 → Option β} (H : TKK (hK h) (hR h)) : (aln (some 1400) h).bind f = f (nI 5) := by rw [ta_1400 H]; rfl
theorem btx_1401 {β : Type} {f : Int32 → Option β} {n : Nat} (H : TKK (hK h) (hR h)) (hn : n < 4) : (xI 102 (some 1401) (nI n) h).bind f = f (hI h 1401 n) := by rw [tx_1401 H hn]; rfl
theorem bta_1401 {β : Type} {f : Int32 → Option β} (H : TKK (hK h) (hR h)) : (aln (some 1401) h).bind f = f (nI 4) := by rw [ta_1401 H]; rfl
theorem btx_1402 {β : Type} {f : Int32 → Option β} {n : Nat} (H : TKK (hK h) (hR h)) (hn : n < 5) : (xI 102 (some 1402) (nI n) h).bind f = f (hI h 1402 n) := by rw [tx_1402 H hn]; rfl
theorem bta_1402 {β : Type} {f : Int32 → Option β} (H : TKK (hK h) (hR h)) : (aln (some 1402) h).bind f = f (nI 5) := by rw [ta_1402 H]; rfl
theorem btx_1403 {β : Type} {f : Int32 → Option β} {n : Nat} (H : TKK (hK h) (hR h)) (hn : n < 5) : (xI 102 (some 1403) (nI n) h).bind f = f (hI h 1403 n) := by rw [tx_1403 H hn]; rfl
theorem bta_1403 {β : Type} {f : Int32 → Option β} (H : TKK (hK h) (hR h)) : (aln (some 1403) h).bind f = f (nI 5) := by rw [ta_1403 H]; rfl
theorem btx_1404 {β : Type} {f : Int32 → Option β} {n : Nat} (H : TKK (hK h) (hR h)) (hn : n < 4) : (xI 102 (some 1404) (nI n) h).bind f = f (hI h 1404 n) := by rw [tx_1404 H hn]; rfl
theorem bta_1404 {β : Type} {f : Int32 → Option β} (H : TKK (hK h) (hR h)) : (aln (some 1404) h).bind f = f (nI 4) := by rw [ta_1404 H]; rfl
theorem btx_1405 {β : Type} {f : Int32 → Option β} {n : Nat} (H : TKK (hK h) (hR h)) (hn : n < 5) : (xI 102 (some 1405) (nI n) h).bind f = f (hI h 1405 n) := by rw [tx_1405 H hn]; rfl
theorem bta_1405 {β : Type} {f : Int32 → Option β} (H : TKK (hK h) (hR h)) : (aln (some 1405) h).bind f = f (nI 5) := by rw [ta_1405 H]; rfl
theorem btx_1406 {β : Type} {f : Int32 → Option β} {n : Nat} (H : TKK (hK h) (hR h)) (hn : n < 3) : (xI 102 (some 1406) (nI n) h).bind f = f (hI h 1406 n) := by rw [tx_1406 H hn]; rfl
theorem bta_1406 {β : Type} {f : Int32 → Option β} (H : TKK (hK h) (hR h)) : (aln (some 1406) h).bind f = f (nI 3) := by rw [ta_1406 H]; rfl
theorem btx_1407 {β : Type} {f : Int32 → Option β} {n : Nat} (H : TKK (hK h) (hR h)) (hn : n < 3) : (xI 102 (some 1407) (nI n) h).bind f = f (hI h 1407 n) := by rw [tx_1407 H hn]; rfl
theorem bta_1407 {β : Type} {f : Int32 → Option β} (H : TKK (hK h) (hR h)) : (aln (some 1407) h).bind f = f (nI 3) := by rw [ta_1407 H]; rfl
theorem btx_1408 {β : Type} {f : Int32 → Option β} {n : Nat} (H : TKK (hK h) (hR h)) (hn : n < 2) : (xI 102 (some 1408) (nI n) h).bind f = f (hI h 1408 n) := by rw [tx_1408 H hn]; rfl
theorem bta_1408 {β : Type} {f : Int32 → Option β} (H : TKK (hK h) (hR h)) : (aln (some 1408) h).bind f = f (nI 2) := by rw [ta_1408 H]; rfl
theorem btx_1409 {β : Type} {f : Int32 → Option β} {n : Nat} (H : TKK (hK h) (hR h)) (hn : n < 3) : (xI 102 (some 1409) (nI n) h).bind f = f (hI h 1409 n) := by rw [tx_1409 H hn]; rfl
theorem bta_1409 {β : Type} {f : Int32 → Option β} (H : TKK (hK h) (hR h)) : (aln (some 1409) h).bind f = f (nI 3) := by rw [ta_1409 H]; rfl
theorem btx_1410 {β : Type} {f : Int32 → Option β} {n : Nat} (H : TKK (hK h) (hR h)) (hn : n < 3) : (xI 102 (some 1410) (nI n) h).bind f = f (hI h 1410 n) := by rw [tx_1410 H hn]; rfl
theorem bta_1410 {β : Type} {f : Int32 → Option β} (H : TKK (hK h) (hR h)) : (aln (some 1410) h).bind f = f (nI 3) := by rw [ta_1410 H]; rfl
theorem btx_1411 {β : Type} {f : Int32 → Option β} {n : Nat} (H : TKK (hK h) (hR h)) (hn : n < 3) : (xI 102 (some 1411) (nI n) h).bind f = f (hI h 1411 n) := by rw [tx_1411 H hn]; rfl
theorem bta_1411 {β : Type} {f : Int32 → Option β} (H : TKK (hK h) (hR h)) : (aln (some 1411) h).bind f = f (nI 3) := by rw [ta_1411 H]; rfl
theorem btx_1412 {β : Type} {f : Int32 → Option β} {n : Nat} (H : TKK (hK h) (hR h)) (hn : n < 4) : (xI 102 (some 1412) (nI n) h).bind f = f (hI h 1412 n) := by rw [tx_1412 H hn]; rfl
theorem bta_1412 {β : Type} {f : Int32 → Option β} (H : TKK (hK h) (hR h)) : (aln (some 1412) h).bind f = f (nI 4) := by rw [ta_1412 H]; rfl
theorem btx_1413 {β : Type} {f : Int32 → Option β} {n : Nat} (H : TKK (hK h) (hR h)) (hn : n < 4) : (xI 102 (some 1413) (nI n) h).bind f = f (hI h 1413 n) := by rw [tx_1413 H hn]; rfl
theorem bta_1413 {β : Type} {f : Int32 → Option β} (H : TKK (hK h) (hR h)) : (aln (some 1413) h).bind f = f (nI 4) := by rw [ta_1413 H]; rfl
theorem btx_1414 {β : Type} {f : Int32 → Option β} {n : Nat} (H : TKK (hK h) (hR h)) (hn : n < 3) : (xI 102 (some 1414) (nI n) h).bind f = f (hI h 1414 n) := by rw [tx_1414 H hn]; rfl
theorem bta_1414 {β : Type} {f : Int32 → Option β} (H : TKK (hK h) (hR h)) : (aln (some 1414) h).bind f = f (nI 3) := by rw [ta_1414 H]; rfl
theorem btx_1415 {β : Type} {f : Int32 → Option β} {n : Nat} (H : TKK (hK h) (hR h)) (hn : n < 6) : (xI 102 (some 1415) (nI n) h).bind f = f (hI h 1415 n) := by rw [tx_1415 H hn]; rfl
theorem bta_1415 {β : Type} {f : Int32 → Option β} (H : TKK (hK h) (hR h)) : (aln (some 1415) h).bind f = f (nI 6) := by rw [ta_1415 H]; rfl
theorem btx_1416 {β : Type} {f : Int32 → Option β} {n : Nat} (H : TKK (hK h) (hR h)) (hn : n < 3) : (xI 102 (some 1416) (nI n) h).bind f = f (hI h 1416 n) := by rw [tx_1416 H hn]; rfl
theorem bta_1416 {β : Type} {f : Int32 → Option β} (H : TKK (hK h) (hR h)) : (aln (some 1416) h).bind f = f (nI 3) := by rw [ta_1416 H]; rfl
theorem btx_1417 {β : Type} {f : Int32 → Option β} {n : Nat} (H : TKK (hK h) (hR h)) (hn : n < 5) : (xI 102 (some 1417) (nI n) h).bind f = f (hI h 1417 n) := by rw [tx_1417 H hn]; rfl
theorem bta_1417 {β : Type} {f : Int32 → Option β} (H : TKK (hK h) (hR h)) : (aln (some 1417) h).bind f = f (nI 5) := by rw [ta_1417 H]; rfl
theorem btx_1418 {β : Type} {f : Int32 → Option β} {n : Nat} (H : TKK (hK h) (hR h)) (hn : n < 4) : (xI 102 (some 1418) (nI n) h).bind f = f (hI h 1418 n) := by rw [tx_1418 H hn]; rfl
theorem bta_1418 {β : Type} {f : Int32 → Option β} (H : TKK (hK h) (hR h)) : (aln (some 1418) h).bind f = f (nI 4) := by rw [ta_1418 H]; rfl
theorem btx_1419 {β : Type} {f : Int32 → Option β} {n : Nat} (H : TKK (hK h) (hR h)) (hn : n < 4) : (xI 102 (some 1419) (nI n) h).bind f = f (hI h 1419 n) := by rw [tx_1419 H hn]; rfl
theorem bta_1419 {β : Type} {f : Int32 → Option β} (H : TKK (hK h) (hR h)) : (aln (some 1419) h).bind f = f (nI 4) := by rw [ta_1419 H]; rfl
theorem btx_1420 {β : Type} {f : Int32 → Option β} {n : Nat} (H : TKK (hK h) (hR h)) (hn : n < 6) : (xI 102 (some 1420) (nI n) h).bind f = f (hI h 1420 n) := by rw [tx_1420 H hn]; rfl
theorem bta_1420 {β : Type} {f : Int32 → Option β} (H : TKK (hK h) (hR h)) : (aln (some 1420) h).bind f = f (nI 6) := by rw [ta_1420 H]; rfl
theorem btx_1421 {β : Type} {f : Int32 → Option β} {n : Nat} (H : TKK (hK h) (hR h)) (hn : n < 4) : (xI 102 (some 1421) (nI n) h).bind f = f (hI h 1421 n) := by rw [tx_1421 H hn]; rfl
theorem bta_1421 {β : Type} {f : Int32 → Option β} (H : TKK (hK h) (hR h)) : (aln (some 1421) h).bind f = f (nI 4) := by rw [ta_1421 H]; rfl
theorem btx_1422 {β : Type} {f : Int32 → Option β} {n : Nat} (H : TKK (hK h) (hR h)) (hn : n < 4) : (xI 102 (some 1422) (nI n) h).bind f = f (hI h 1422 n) := by rw [tx_1422 H hn]; rfl
theorem bta_1422 {β : Type} {f : Int32 → Option β} (H : TKK (hK h) (hR h)) : (aln (some 1422) h).bind f = f (nI 4) := by rw [ta_1422 H]; rfl
theorem btx_1423 {β : Type} {f : Int32 → Option β} {n : Nat} (H : TKK (hK h) (hR h)) (hn : n < 2) : (xI 102 (some 1423) (nI n) h).bind f = f (hI h 1423 n) := by rw [tx_1423 H hn]; rfl
theorem bta_1423 {β : Type} {f : Int32 → Option β} (H : TKK (hK h) (hR h)) : (aln (some 1423) h).bind f = f (nI 2) := by rw [ta_1423 H]; rfl
theorem btx_1424 {β : Type} {f : Int32 → Option β} {n : Nat} (H : TKK (hK h) (hR h)) (hn : n < 1700) : (xI 100 (some 1424) (nI n) h).bind f = f (hI h 1424 n) := by rw [tx_1424 H hn]; rfl
theorem bts_1424 {β : Type} {f : AH → Option β} {n : Nat} {v : Int32} (H : TKK (hK h) (hR h)) (hn : n < 1700) : (sI 100 (some 1424) (nI n) v h).bind f = f (wI 1424 n v h) := by rw [ts_1424 H hn]; rfl
theorem btxl_1424 {β : Type} {f : Int32 → Option β} {n : Nat} (H : TKK (hK h) (hR h)) (hn : (OfNat.ofNat n : Nat) < 1700) : (xI 100 (some 1424) (no_index (OfNat.ofNat n)) h).bind f = f (hI h 1424 (OfNat.ofNat n)) := by rw [txl_1424 H hn]; rfl
theorem btsl_1424 {β : Type} {f : AH → Option β} {n : Nat} {v : Int32} (H : TKK (hK h) (hR h)) (hn : (OfNat.ofNat n : Nat) < 1700) : (sI 100 (some 1424) (no_index (OfNat.ofNat n)) v h).bind f = f (wI 1424 (OfNat.ofNat n) v h) := by rw [tsl_1424 H hn]; rfl
theorem btx_1425 {β : Type} {f : Int32 → Option β} {n : Nat} (H : TKK (hK h) (hR h)) (hn : n < 1700) : (xI 100 (some 1425) (nI n) h).bind f = f (hI h 1425 n) := by rw [tx_1425 H hn]; rfl
theorem bts_1425 {β : Type} {f : AH → Option β} {n : Nat} {v : Int32} (H : TKK (hK h) (hR h)) (hn : n < 1700) : (sI 100 (some 1425) (nI n) v h).bind f = f (wI 1425 n v h) := by rw [ts_1425 H hn]; rfl
theorem btxl_1425 {β : Type} {f : Int32 → Option β} {n : Nat} (H : TKK (hK h) (hR h)) (hn : (OfNat.ofNat n : Nat) < 1700) : (xI 100 (some 1425) (no_index (OfNat.ofNat n)) h).bind f = f (hI h 1425 (OfNat.ofNat n)) := by rw [txl_1425 H hn]; rfl
theorem btsl_1425 {β : Type} {f : AH → Option β} {n : Nat} {v : Int32} (H : TKK (hK h) (hR h)) (hn : (OfNat.ofNat n : Nat) < 1700) : (sI 100 (some 1425) (no_index (OfNat.ofNat n)) v h).bind f = f (wI 1425 (OfNat.ofNat n) v h) := by rw [tsl_1425 H hn]; rfl
theorem btx_1426 {β : Type} {f : Int64 → Option β} {n : Nat} (H : TKK (hK h) (hR h)) (hn : n < 1700) : (xL 103 (some 1426) (nI n) h).bind f = f (hL h 1426 n) := by rw [tx_1426 H hn]; rfl
theorem bts_1426 {β : Type} {f : AH → Option β} {n : Nat} {v : Int64} (H : TKK (hK h) (hR h)) (hn : n < 1700) : (sL 103 (some 1426) (nI n) v h).bind f = f (wL 1426 n v h) := by rw [ts_1426 H hn]; rfl
theorem btxl_1426 {β : Type} {f : Int64 → Option β} {n : Nat} (H : TKK (hK h) (hR h)) (hn : (OfNat.ofNat n : Nat) < 1700) : (xL 103 (some 1426) (no_index (OfNat.ofNat n)) h).bind f = f (hL h 1426 (OfNat.ofNat n)) := by rw [txl_1426 H hn]; rfl
theorem btsl_1426 {β : Type} {f : AH → Option β} {n : Nat} {v : Int64} (H : TKK (hK h) (hR h)) (hn : (OfNat.ofNat n : Nat) < 1700) : (sL 103 (some 1426) (no_index (OfNat.ofNat n)) v h).bind f = f (wL 1426 (OfNat.ofNat n) v h) := by rw [tsl_1426 H hn]; rfl
theorem btx_1427 {β : Type} {f : Int32 → Option β} {n : Nat} (H : TKK (hK h) (hR h)) (hn : n < 59) : (xI 100 (some 1427) (nI n) h).bind f = f (hI h 1427 n) := by rw [tx_1427 H hn]; rfl
theorem bts_1427 {β : Type} {f : AH → Option β} {n : Nat} {v : Int32} (H : TKK (hK h) (hR h)) (hn : n < 59) : (sI 100 (some 1427) (nI n) v h).bind f = f (wI 1427 n v h) := by rw [ts_1427 H hn]; rfl
theorem btxl_1427 {β : Type} {f : Int32 → Option β} {n : Nat} (H : TKK (hK h) (hR h)) (hn : (OfNat.ofNat n : Nat) < 59) : (xI 100 (some 1427) (no_index (OfNat.ofNat n)) h).bind f = f (hI h 1427 (OfNat.ofNat n)) := by rw [txl_1427 H hn]; rfl
theorem btsl_1427 {β : Type} {f : AH → Option β} {n : Nat} {v : Int32} (H : TKK (hK h) (hR h)) (hn : (OfNat.ofNat n : Nat) < 59) : (sI 100 (some 1427) (no_index (OfNat.ofNat n)) v h).bind f = f (wI 1427 (OfNat.ofNat n) v h) := by rw [tsl_1427 H hn]; rfl
theorem TKI {a k : Nat} {v : Int32} (H : TKK (hK h) (hR h)) : TKK (hK (wI a k v h)) (hR (wI a k v h)) := H
theorem TKL {a k : Nat} {v : Int64} (H : TKK (hK h) (hR h)) : TKK (hK (wL a k v h)) (hR (wL a k v h)) := H
theorem b2_of {α β : Type} {x : Option (α × AH)} {v : α} {h2 : AH} (e : x = some (v, h2)) (f : α → AH → Option β) : b2 x f = f v h2 := by rw [e]; rfl
theorem bd_of {α β : Type} {x : Option α} {v : α} (e : x = some v) (f : α → Option β) : x.bind f = f v := by rw [e]; rfl
end Twin
/-- the words of the twin -/
def twC : List (Nat × List Nat) := [(1352, [108, 101, 116, 116, 101, 114]), (1353, [104, 97, 110, 100]), (1354, [105, 115]), (1355, [119, 111, 114, 100]), (1356, [98, 111, 97, 114, 100]), (1357, [100, 111, 117, 98, 116]), (1358, [114, 97, 105, 110]), (1359, [98, 108, 97, 110, 107]), (1360, [104, 97, 105, 108]), (1361, [109, 111, 114, 101]), (1362, [108, 101, 115, 115]), (1363, [105, 110, 107]), (1364, [99, 111, 108, 117, 109, 110]), (1365, [114, 111, 119]), (1366, [112, 108, 97, 99, 101]), (1367, [110, 101, 97, 114]), (1368, [121, 101, 97, 114]), (1369, [110, 117, 109, 98, 101, 114]), (1370, [108, 111, 110, 103]), (1371, [108, 105, 110, 101]), (1372, [97, 116]), (1373, [111, 114]), (1374, [97, 110, 100]), (1375, [110, 111, 116]), (1376, [97, 108, 108]), (1377, [109, 105, 110]), (1378, [109, 97, 120]), (1379, [102, 111, 114, 103, 105, 118, 101]), (1400, [102, 105, 114, 115, 116]), (1401, [108, 97, 115, 116]), (1402, [111, 102, 116, 101, 110]), (1403, [116, 111, 116, 97, 108]), (1404, [109, 111, 115, 116]), (1405, [108, 101, 97, 115, 116]), (1406, [110, 111, 116]), (1407, [97, 110, 100]), (1408, [111, 114]), (1409, [97, 108, 108]), (1410, [109, 105, 110]), (1411, [109, 97, 120]), (1412, [109, 111, 114, 101]), (1413, [108, 101, 115, 115]), (1414, [105, 110, 107]), (1415, [99, 111, 108, 117, 109, 110]), (1416, [114, 111, 119]), (1417, [112, 108, 97, 99, 101]), (1418, [110, 101, 97, 114]), (1419, [121, 101, 97, 114]), (1420, [110, 117, 109, 98, 101, 114]), (1421, [108, 111, 110, 103]), (1422, [108, 105, 110, 101]), (1423, [97, 116])]
def TCH (I : Nat → Nat → Int32) : Prop := ∀ e ∈ twC, ∀ i, i < e.2.length → I e.1 i = nI (e.2.getD i 0)
