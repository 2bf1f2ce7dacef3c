/-! printed by gen_law.py -/
set_option maxRecDepth 100000
theorem nl_L_16 : mm_NL RX0 16 37 38 := ⟨RX5, TX5, _, tyX5, rfl, in_X5, rfl, by decide +kernel, q1620, q1618, q140, tyX5_ok, rfl⟩
theorem nl_L_8 : mm_NL RX0 8 33 26 := ⟨RX1, TX1, _, tyX1, rfl, in_X1, rfl, by decide +kernel, q175, q176, q133, tyX1_ok, rfl⟩
theorem cv_L_102 : mm_CV RX0 102 yX5_odds cX5_odds 6 (some .int) 2 5 := ⟨RX5, TX5, 38, _, lw_V q2112 q2113 q2114 q140 q2115, ⟨rfl, by decide +kernel, by decide +kernel, by decide +kernel⟩, rfl, rfl⟩
theorem cv_L_103 : mm_CV RX0 103 yX1_dry cX1_dry 4 (some .int) 1 1 := ⟨RX1, TX1, 26, _, lw_V q1469 q1470 q1471 q133 q1472, ⟨rfl, by decide +kernel, by decide +kernel, by decide +kernel⟩, rfl, rfl⟩
theorem cv_L_106 : mm_CV RX0 106 yX5_dry cX5_dry 4 (some .int) 1 5 := ⟨RX5, TX5, 38, _, lw_V q2121 q2122 q2123 q140 q2124, ⟨rfl, by decide +kernel, by decide +kernel, by decide +kernel⟩, rfl, rfl⟩
theorem cv_L_107 : mm_CV RX0 107 yX1_feel cX1_feel 4 (some .boolean) 3 1 := ⟨RX1, TX1, 26, _, lw_V q1481 q1482 q1483 q133 q1484, ⟨rfl, by decide +kernel, by decide +kernel, by decide +kernel⟩, rfl, rfl⟩
theorem cv_L_111 : mm_CV RX0 111 yX5_feel cX5_feel 5 (some .boolean) 3 5 := ⟨RX5, TX5, 38, _, lw_V q2133 q2134 q2135 q140 q2136, ⟨rfl, by decide +kernel, by decide +kernel, by decide +kernel⟩, rfl, rfl⟩
theorem cv_L_112 : mm_CV RX0 112 yX1_starts cX1_starts 5 (some .int) 0 1 := ⟨RX1, TX1, 26, _, lw_V q1485 q1486 q1487 q133 q1488, ⟨rfl, by decide +kernel, by decide +kernel, by decide +kernel⟩, rfl, rfl⟩
theorem cv_L_115 : mm_CV RX0 115 yX5_starts_2 cX5_starts_2 1 (some .int) 0 5 := ⟨RX5, TX5, 38, _, lw_V q2137 q2138 q2139 q140 q2140, ⟨rfl, by decide +kernel, by decide +kernel, by decide +kernel⟩, rfl, rfl⟩
theorem cv_L_116 : mm_CV RX0 116 yX1_ask cX1_ask 7 (some .int) 1 1 := ⟨RX1, TX1, 26, _, lw_V q1493 q1494 q1495 q133 q1496, ⟨rfl, by decide +kernel, by decide +kernel, by decide +kernel⟩, rfl, rfl⟩
theorem cv_L_119 : mm_CV RX0 119 yX5_ask cX5_ask 9 (some .int) 1 5 := ⟨RX5, TX5, 38, _, lw_V q2149 q2150 q2151 q140 q2152, ⟨rfl, by decide +kernel, by decide +kernel, by decide +kernel⟩, rfl, rfl⟩
theorem cv_L_120 : mm_CV RX0 120 yX1_change cX1_change 6 (some .int) 1 1 := ⟨RX1, TX1, 26, _, lw_V q1502 q1503 q1504 q133 q1505, ⟨rfl, by decide +kernel, by decide +kernel, by decide +kernel⟩, rfl, rfl⟩
theorem cv_L_123 : mm_CV RX0 123 yX5_change cX5_change 6 (some .int) 1 5 := ⟨RX5, TX5, 38, _, lw_V q2153 q2154 q2155 q140 q2156, ⟨rfl, by decide +kernel, by decide +kernel, by decide +kernel⟩, rfl, rfl⟩
theorem cv_L_124 : mm_CSW RX0 124 yX0_rests cX0_rests 7 (some .int) [(0, 14, 17, 13)] 6 := ⟨lw_SW q1569 q1570 q132 q1571, by decide +kernel, by decide +kernel, by decide +kernel⟩
theorem cv_L_129 : mm_CV RX0 129 yX5_rests cX5_rests 15 (some .int) 4 5 := ⟨RX5, TX5, 38, _, lw_V q2161 q2162 q2163 q140 q2164, ⟨rfl, by decide +kernel, by decide +kernel, by decide +kernel⟩, rfl, rfl⟩
theorem cv_L_130 : mm_CV RX0 130 yX5_thrown cX5_thrown 1 (some .int) 0 5 := ⟨RX5, TX5, 38, _, lw_V q1607 q1608 q1609 q140 q1610, ⟨rfl, by decide +kernel, by decide +kernel, by decide +kernel⟩, rfl, rfl⟩
theorem cv_L_133 : mm_CV RX0 133 yX1_decades cX1_decades 7 (some .int) 3 1 := ⟨RX1, TX1, 26, _, lw_V q1510 q1511 q1512 q133 q1513, ⟨rfl, by decide +kernel, by decide +kernel, by decide +kernel⟩, rfl, rfl⟩
theorem cv_L_137 : mm_CV RX0 137 yX5_decades cX5_decades 7 (some .int) 3 5 := ⟨RX5, TX5, 38, _, lw_V q2165 q2166 q2167 q140 q2168, ⟨rfl, by decide +kernel, by decide +kernel, by decide +kernel⟩, rfl, rfl⟩
theorem cv_L_138 : mm_CV RX0 138 yX1_mark cX1_mark 4 (some .boolean) 2 1 := ⟨RX1, TX1, 26, _, lw_V q1530 q1531 q1532 q133 q1533, ⟨rfl, by decide +kernel, by decide +kernel, by decide +kernel⟩, rfl, rfl⟩
theorem cv_L_142 : mm_CV RX0 142 yX5_mark cX5_mark 3 (some .boolean) 2 5 := ⟨RX5, TX5, 38, _, lw_V q2185 q2186 q2187 q140 q2188, ⟨rfl, by decide +kernel, by decide +kernel, by decide +kernel⟩, rfl, rfl⟩
theorem cv_L_143 : mm_CV RX0 143 yX1_count cX1_count 2 (some .int) 1 1 := ⟨RX1, TX1, 26, _, lw_V q1561 q1562 q1563 q133 q1564, ⟨rfl, by decide +kernel, by decide +kernel, by decide +kernel⟩, rfl, rfl⟩
theorem cv_L_146 : mm_CV RX0 146 yX5_count cX5_count 2 (some .int) 1 5 := ⟨RX5, TX5, 38, _, lw_V q2189 q2190 q2191 q140 q2192, ⟨rfl, by decide +kernel, by decide +kernel, by decide +kernel⟩, rfl, rfl⟩
theorem cv_L_15 : mm_CI RX0 15 yX1_init cX1_init 1 0 := ⟨q179, q133, q177, q178, rfl, ⟨by decide +kernel, by decide +kernel, by decide +kernel⟩⟩
theorem cv_L_18 : mm_CI RX0 18 yX5_init cX5_init 1 0 := ⟨q1623, q140, q1621, q1622, rfl, ⟨by decide +kernel, by decide +kernel, by decide +kernel⟩⟩
theorem cv_L_21 : mm_CV RX0 21 yX1_feed cX1_feed 9 (some .int) 3 1 := ⟨RX1, TX1, 26, _, lw_V q422 q423 q424 q133 q425, ⟨rfl, by decide +kernel, by decide +kernel, by decide +kernel⟩, rfl, rfl⟩
theorem cv_L_25 : mm_CV RX0 25 yX5_feed cX5_feed 7 (some .int) 3 5 := ⟨RX5, TX5, 38, _, lw_V q1611 q1612 q1613 q140 q1614, ⟨rfl, by decide +kernel, by decide +kernel, by decide +kernel⟩, rfl, rfl⟩
theorem cv_L_26 : mm_CVW RX0 26 yX1_line cX1_line 2 (some .int) [(4, 15, 18, 120)] 0 1 := ⟨RX1, TX1, 26, _, lw_VW q426 q427 q428 q133 q429, ⟨rfl, by decide +kernel, by decide +kernel, by decide +kernel⟩, rfl, rfl⟩
theorem cv_L_30 : mm_CV RX0 30 yX5_line cX5_line 2 (some .int) 0 5 := ⟨RX5, TX5, 38, _, lw_V q1780 q1781 q1782 q140 q1783, ⟨rfl, by decide +kernel, by decide +kernel, by decide +kernel⟩, rfl, rfl⟩
theorem cv_L_31 : mm_CVW RX0 31 yX1_day cX1_day 2 (some .int) [(4, 19, 22, 120)] 0 1 := ⟨RX1, TX1, 26, _, lw_VW q1083 q1084 q1085 q133 q1086, ⟨rfl, by decide +kernel, by decide +kernel, by decide +kernel⟩, rfl, rfl⟩
theorem cv_L_34 : mm_CV RX0 34 yX5_day cX5_day 3 (some .int) 0 5 := ⟨RX5, TX5, 38, _, lw_V q1903 q1904 q1905 q140 q1906, ⟨rfl, by decide +kernel, by decide +kernel, by decide +kernel⟩, rfl, rfl⟩
theorem cv_L_35 : mm_CV RX0 35 yX1_cloth cX1_cloth 4 (some .int) 2 1 := ⟨RX1, TX1, 26, _, lw_V q1157 q1158 q1159 q133 q1160, ⟨rfl, by decide +kernel, by decide +kernel, by decide +kernel⟩, rfl, rfl⟩
theorem cv_L_39 : mm_CV RX0 39 yX5_cloth cX5_cloth 3 (some .int) 2 5 := ⟨RX5, TX5, 38, _, lw_V q1911 q1912 q1913 q140 q1914, ⟨rfl, by decide +kernel, by decide +kernel, by decide +kernel⟩, rfl, rfl⟩
theorem cv_L_40 : mm_CV RX0 40 yX1_peg cX1_peg 3 (some .int) 2 1 := ⟨RX1, TX1, 26, _, lw_V q1272 q1273 q1274 q133 q1275, ⟨rfl, by decide +kernel, by decide +kernel, by decide +kernel⟩, rfl, rfl⟩
theorem cv_L_43 : mm_CV RX0 43 yX5_peg cX5_peg 3 (some .int) 2 5 := ⟨RX5, TX5, 38, _, lw_V q1972 q1973 q1974 q140 q1975, ⟨rfl, by decide +kernel, by decide +kernel, by decide +kernel⟩, rfl, rfl⟩
theorem cv_L_44 : mm_CV RX0 44 yX1_free cX1_free 1 (some .int) 0 1 := ⟨RX1, TX1, 26, _, lw_V q1284 q1285 q1286 q133 q1287, ⟨rfl, by decide +kernel, by decide +kernel, by decide +kernel⟩, rfl, rfl⟩
theorem cv_L_47 : mm_CV RX0 47 yX5_free cX5_free 1 (some .int) 0 5 := ⟨RX5, TX5, 38, _, lw_V q1988 q1989 q1990 q140 q1991, ⟨rfl, by decide +kernel, by decide +kernel, by decide +kernel⟩, rfl, rfl⟩
theorem cv_L_48 : mm_CV RX0 48 yX1_laws cX1_laws 1 (some .int) 0 1 := ⟨RX1, TX1, 26, _, lw_V q1276 q1277 q1278 q133 q1279, ⟨rfl, by decide +kernel, by decide +kernel, by decide +kernel⟩, rfl, rfl⟩
theorem cv_L_51 : mm_CV RX0 51 yX5_laws cX5_laws 1 (some .int) 0 5 := ⟨RX5, TX5, 38, _, lw_V q1980 q1981 q1982 q140 q1983, ⟨rfl, by decide +kernel, by decide +kernel, by decide +kernel⟩, rfl, rfl⟩
theorem cv_L_52 : mm_CV RX0 52 yX1_hang cX1_hang 3 (some .int) 2 1 := ⟨RX1, TX1, 26, _, lw_V q1292 q1293 q1294 q133 q1295, ⟨rfl, by decide +kernel, by decide +kernel, by decide +kernel⟩, rfl, rfl⟩
theorem cv_L_55 : mm_CV RX0 55 yX5_hang cX5_hang 3 (some .int) 2 5 := ⟨RX5, TX5, 38, _, lw_V q1996 q1997 q1998 q140 q1999, ⟨rfl, by decide +kernel, by decide +kernel, by decide +kernel⟩, rfl, rfl⟩
theorem cv_L_56 : mm_CV RX0 56 yX1_take cX1_take 2 (some .boolean) 1 1 := ⟨RX1, TX1, 26, _, lw_V q1324 q1325 q1326 q133 q1327, ⟨rfl, by decide +kernel, by decide +kernel, by decide +kernel⟩, rfl, rfl⟩
theorem cv_L_60 : mm_CV RX0 60 yX5_take cX5_take 2 (some .boolean) 1 5 := ⟨RX5, TX5, 38, _, lw_V q2016 q2017 q2018 q140 q2019, ⟨rfl, by decide +kernel, by decide +kernel, by decide +kernel⟩, rfl, rfl⟩
theorem cv_L_61 : mm_CV RX0 61 yX1_wash cX1_wash 3 (some .int) 1 1 := ⟨RX1, TX1, 26, _, lw_V q1332 q1333 q1334 q133 q1335, ⟨rfl, by decide +kernel, by decide +kernel, by decide +kernel⟩, rfl, rfl⟩
theorem cv_L_65 : mm_CV RX0 65 yX5_wash cX5_wash 2 (some .int) 1 5 := ⟨RX5, TX5, 38, _, lw_V q2020 q2021 q2022 q140 q2023, ⟨rfl, by decide +kernel, by decide +kernel, by decide +kernel⟩, rfl, rfl⟩
theorem cv_L_66 : mm_CV RX0 66 yX1_buy cX1_buy 2 (some .int) 1 1 := ⟨RX1, TX1, 26, _, lw_V q1336 q1337 q1338 q133 q1339, ⟨rfl, by decide +kernel, by decide +kernel, by decide +kernel⟩, rfl, rfl⟩
theorem cv_L_69 : mm_CV RX0 69 yX5_buy cX5_buy 2 (some .int) 1 5 := ⟨RX5, TX5, 38, _, lw_V q2028 q2029 q2030 q140 q2031, ⟨rfl, by decide +kernel, by decide +kernel, by decide +kernel⟩, rfl, rfl⟩
theorem cv_L_70 : mm_CV RX0 70 yX1_hour cX1_hour 1 (some .int) 0 1 := ⟨RX1, TX1, 26, _, lw_V q1340 q1341 q1342 q133 q1343, ⟨rfl, by decide +kernel, by decide +kernel, by decide +kernel⟩, rfl, rfl⟩
theorem cv_L_73 : mm_CV RX0 73 yX5_hour cX5_hour 1 (some .int) 0 5 := ⟨RX5, TX5, 38, _, lw_V q2036 q2037 q2038 q140 q2039, ⟨rfl, by decide +kernel, by decide +kernel, by decide +kernel⟩, rfl, rfl⟩
theorem cv_L_74 : mm_CV RX0 74 yX1_undo cX1_undo 1 (some .boolean) 0 1 := ⟨RX1, TX1, 26, _, lw_V q1371 q1372 q1373 q133 q1374, ⟨rfl, by decide +kernel, by decide +kernel, by decide +kernel⟩, rfl, rfl⟩
theorem cv_L_78 : mm_CV RX0 78 yX5_undo cX5_undo 1 (some .boolean) 0 5 := ⟨RX5, TX5, 38, _, lw_V q2068 q2069 q2070 q140 q2071, ⟨rfl, by decide +kernel, by decide +kernel, by decide +kernel⟩, rfl, rfl⟩
theorem cv_L_79 : mm_CV RX0 79 yX1_judged cX1_judged 6 (some .int) 1 1 := ⟨RX1, TX1, 26, _, lw_V q1375 q1376 q1377 q133 q1378, ⟨rfl, by decide +kernel, by decide +kernel, by decide +kernel⟩, rfl, rfl⟩
theorem cv_L_82 : mm_CV RX0 82 yX5_judged cX5_judged 7 (some .int) 1 5 := ⟨RX5, TX5, 38, _, lw_V q2072 q2073 q2074 q140 q2075, ⟨rfl, by decide +kernel, by decide +kernel, by decide +kernel⟩, rfl, rfl⟩
theorem cv_L_83 : mm_CV RX0 83 yX1_holds cX1_holds 3 (some .int) 1 1 := ⟨RX1, TX1, 26, _, lw_V q1424 q1425 q1426 q133 q1427, ⟨rfl, by decide +kernel, by decide +kernel, by decide +kernel⟩, rfl, rfl⟩
theorem cv_L_86 : mm_CV RX0 86 yX5_holds cX5_holds 3 (some .int) 1 5 := ⟨RX5, TX5, 38, _, lw_V q2084 q2085 q2086 q140 q2087, ⟨rfl, by decide +kernel, by decide +kernel, by decide +kernel⟩, rfl, rfl⟩
theorem cv_L_87 : mm_CV RX0 87 yX1_clashes cX1_clashes 1 (some .int) 0 1 := ⟨RX1, TX1, 26, _, lw_V q1428 q1429 q1430 q133 q1431, ⟨rfl, by decide +kernel, by decide +kernel, by decide +kernel⟩, rfl, rfl⟩
theorem cv_L_90 : mm_CV RX0 90 yX5_clashes cX5_clashes 1 (some .int) 0 5 := ⟨RX5, TX5, 38, _, lw_V q2088 q2089 q2090 q140 q2091, ⟨rfl, by decide +kernel, by decide +kernel, by decide +kernel⟩, rfl, rfl⟩
theorem cv_L_91 : mm_CV RX0 91 yX1_mend cX1_mend 5 (some .int) 1 1 := ⟨RX1, TX1, 26, _, lw_V q1437 q1438 q1439 q133 q1440, ⟨rfl, by decide +kernel, by decide +kernel, by decide +kernel⟩, rfl, rfl⟩
theorem cv_L_94 : mm_CV RX0 94 yX5_mend cX5_mend 6 (some .int) 1 5 := ⟨RX5, TX5, 38, _, lw_V q2096 q2097 q2098 q140 q2099, ⟨rfl, by decide +kernel, by decide +kernel, by decide +kernel⟩, rfl, rfl⟩
theorem cv_L_95 : mm_CV RX0 95 yX1_fill cX1_fill 5 (some .int) 2 1 := ⟨RX1, TX1, 26, _, lw_V q1441 q1442 q1443 q133 q1444, ⟨rfl, by decide +kernel, by decide +kernel, by decide +kernel⟩, rfl, rfl⟩
theorem cv_L_98 : mm_CV RX0 98 yX5_fill cX5_fill 5 (some .int) 2 5 := ⟨RX5, TX5, 38, _, lw_V q2100 q2101 q2102 q140 q2103, ⟨rfl, by decide +kernel, by decide +kernel, by decide +kernel⟩, rfl, rfl⟩
theorem cv_L_99 : mm_CV RX0 99 yX1_odds cX1_odds 6 (some .int) 2 1 := ⟨RX1, TX1, 26, _, lw_V q1454 q1455 q1456 q133 q1457, ⟨rfl, by decide +kernel, by decide +kernel, by decide +kernel⟩, rfl, rfl⟩
/-! the law -/
def fL_law_b1064  (k23 : Nat → Nat → Nat → Nat → Int32 → mm_K → mm_P → Nat → Nat → Option (Int32 × mm_S)) (x0 : Nat) (x1 : Nat) (x2 : Nat) (x3 : Nat) (x4 : Int32) (s0 : Int32) (s1 : Nat) (s2 : Int32) (s3 : Int32) (K : mm_K) (P : mm_P) (nx : Nat) (sl : Nat) : Option (Int32 × mm_S) :=
  mm_gd (K.1 s1 = 5) <|
  mm_bd (fX5_mark s1 s2 s3 P) fun r1 =>
  if s0 = r1.1 then
  (k23 x0 x1 x2 x3 (x4 + (7 : Int32)) K r1.2 nx sl)
  else
  (some ((0 : Int32), K, r1.2, nx, sl))
set_option maxHeartbeats 4000000 in
theorem wfL_law_b1064 {E : mm_E} (C : mm_Cx E RX0 cL_law 7 (some .boolean) 8192 100000) (hfl : (eL E).stackTraces = false) {k23 : Nat → Nat → Nat → Nat → Int32 → mm_K → mm_P → Nat → Nat → Option (Int32 × mm_S)} (hk23 : ∀ (x0 : Nat) (x1 : Nat) (x2 : Nat) (x3 : Nat) (x4 : Int32) (K : mm_K) (P : mm_P) (nx : Nat) (sl : Nat), mm_V E (mm_waI) 23 [some (.ref x0), some (.ref x1), some (.ref x2), some (.ref x3), some (.int x4), none, none] [] K P nx sl (k23 x0 x1 x2 x3 x4 K P nx sl)) (x0 : Nat) (x1 : Nat) (x2 : Nat) (x3 : Nat) (x4 : Int32) (s0 : Int32) (s1 : Nat) (s2 : Int32) (s3 : Int32) (K : mm_K) (P : mm_P) (nx : Nat) (sl : Nat) : mm_V E (mm_waI) 1064 [some (.ref x0), some (.ref x1), some (.ref x2), some (.ref x3), some (.int x4), none, none] [.int s3, .int s2, .ref s1, .int s0] K P nx sl (fL_law_b1064 k23 x0 x1 x2 x3 x4 s0 s1 s2 s3 K P nx sl) := by
  unfold fL_law_b1064
  refine r_gd fun hK3 => ?_
  refine r_bd fun r1 h2 => ?_
  refine r_callV (As := [.int s2, .int s3]) (st := [.int s0]) C (mc_X5_mark hK3 h2) cv_L_142 hK3 rfl (Nat.le_of_ble_eq_true rfl) (Nat.le_of_ble_eq_true rfl) rfl (Nat.le_of_ble_eq_true rfl) dL_law_1064 ?_
  refine r_icmpeq (tgt := 1097) C dL_law_1067 (by decide) (fun h4 => ?_) (fun h4 => ?_)
  · refine r_iinc (v := 7) (ls' := [some (.ref x0), some (.ref x1), some (.ref x2), some (.ref x3), some (.int (x4 + (7 : Int32))), none, none]) C dL_law_1097 rfl rfl (Nat.le_of_ble_eq_true rfl) rfl rfl ?_
    refine r_goto (tgt := 23) C dL_law_1100 (by decide) ?_
    exact hk23 x0 x1 x2 x3 (x4 + (7 : Int32)) K r1.2 nx sl
  · refine r_iconst (v := 0) C dL_law_1070 rfl ?_
    exact r_zret C dL_law_1071 rfl rfl
def fL_law_b1040  (k23 : Nat → Nat → Nat → Nat → Int32 → mm_K → mm_P → Nat → Nat → Option (Int32 × mm_S)) (x0 : Nat) (x1 : Nat) (x2 : Nat) (x3 : Nat) (x4 : Int32) (s0 : Nat) (s1 : Int32) (s2 : Int32) (K : mm_K) (P : mm_P) (nx : Nat) (sl : Nat) : Option (Int32 × mm_S) :=
  mm_gd (K.1 s0 = 1) <|
  mm_bd (fX1_mark s0 s1 s2 K P nx sl) fun r1 =>
  mm_mo mm_waI r1.2.2.2.1 r1.2.2.2.2 <|
  mm_gd (mm_isA r1.2.1 x0 0) <|
  mm_gd (mm_in (x4 + (1 : Int32)) (r1.2.1.2 x0)) <|
  mm_gd (mm_in (x4 + (2 : Int32)) (r1.2.1.2 x0)) <|
  if (gA r1.2.2.1 8192 x0 (x4 + (2 : Int32)).toNatClampNeg) = 0 then
  (fL_law_b1064 k23 x0 x1 x2 x3 x4 r1.1 x2 (gA r1.2.2.1 8192 x0 (x4 + (1 : Int32)).toNatClampNeg) (0 : Int32) r1.2.1 r1.2.2.1 r1.2.2.2.1 r1.2.2.2.2)
  else
  (fL_law_b1064 k23 x0 x1 x2 x3 x4 r1.1 x2 (gA r1.2.2.1 8192 x0 (x4 + (1 : Int32)).toNatClampNeg) (1 : Int32) r1.2.1 r1.2.2.1 r1.2.2.2.1 r1.2.2.2.2)
set_option maxHeartbeats 4000000 in
theorem wfL_law_b1040 {E : mm_E} (C : mm_Cx E RX0 cL_law 7 (some .boolean) 8192 100000) (hfl : (eL E).stackTraces = false) {k23 : Nat → Nat → Nat → Nat → Int32 → mm_K → mm_P → Nat → Nat → Option (Int32 × mm_S)} (hk23 : ∀ (x0 : Nat) (x1 : Nat) (x2 : Nat) (x3 : Nat) (x4 : Int32) (K : mm_K) (P : mm_P) (nx : Nat) (sl : Nat), mm_V E (mm_waI) 23 [some (.ref x0), some (.ref x1), some (.ref x2), some (.ref x3), some (.int x4), none, none] [] K P nx sl (k23 x0 x1 x2 x3 x4 K P nx sl)) (x0 : Nat) (x1 : Nat) (x2 : Nat) (x3 : Nat) (x4 : Int32) (s0 : Nat) (s1 : Int32) (s2 : Int32) (K : mm_K) (P : mm_P) (nx : Nat) (sl : Nat) : mm_V E (mm_waI) 1040 [some (.ref x0), some (.ref x1), some (.ref x2), some (.ref x3), some (.int x4), none, none] [.int s2, .int s1, .ref s0] K P nx sl (fL_law_b1040 k23 x0 x1 x2 x3 x4 s0 s1 s2 K P nx sl) := by
  unfold fL_law_b1040
  refine r_gd fun hK3 => ?_
  refine r_bd fun r1 h2 => ?_
  refine r_acallV (As := [.int s1, .int s2]) (st := []) C (mc_X1_mark hK3 h2) cv_L_138 hK3 rfl (Nat.le_of_ble_eq_true rfl) (Nat.le_of_ble_eq_true rfl) rfl (Nat.le_of_ble_eq_true rfl) dL_law_1040 ?_
  refine r_aload_n C dL_law_1043 rfl rfl ?_
  refine r_aload_n C dL_law_1044 rfl rfl ?_
  refine r_iload C dL_law_1045 rfl ?_
  refine r_iconst (v := 1) C dL_law_1047 rfl ?_
  refine r_iadd C dL_law_1048 ?_
  refine r_gd fun hK4 => ?_
  refine r_iald C (rg_ra hK4) rfl dL_law_1049 fun h5 => ?_
  refine r_aload_n C dL_law_1050 rfl rfl ?_
  refine r_iload C dL_law_1051 rfl ?_
  refine r_iconst (v := 2) C dL_law_1053 rfl ?_
  refine r_iadd C dL_law_1054 ?_
  refine r_iald C (rg_ra hK4) rfl dL_law_1055 fun h6 => ?_
  refine r_ifeq (tgt := 1063) C dL_law_1056 (by decide) (fun h7 => ?_) (fun h7 => ?_)
  · refine r_iconst (v := 0) C dL_law_1063 rfl ?_
    exact wfL_law_b1064 C hfl hk23 x0 x1 x2 x3 x4 r1.1 x2 (gA r1.2.2.1 8192 x0 (x4 + (1 : Int32)).toNatClampNeg) (0 : Int32) r1.2.1 r1.2.2.1 r1.2.2.2.1 r1.2.2.2.2
  · refine r_iconst (v := 1) C dL_law_1059 rfl ?_
    refine r_goto (tgt := 1064) C dL_law_1060 (by decide) ?_
    exact wfL_law_b1064 C hfl hk23 x0 x1 x2 x3 x4 r1.1 x2 (gA r1.2.2.1 8192 x0 (x4 + (1 : Int32)).toNatClampNeg) (1 : Int32) r1.2.1 r1.2.2.1 r1.2.2.2.1 r1.2.2.2.2
def fL_law_b23   : Nat → Nat → Nat → Nat → Nat → Int32 → mm_K → mm_P → Nat → Nat → Option (Int32 × mm_S)
  | 0, _, _, _, _, _, _, _, _, _ => none
  | n + 1, x0, x1, x2, x3, x4, K, P, nx, sl =>
  mm_gd (mm_isA K x0 0) <|
  if ((Int32.ofNat (K.2 x0)) - (7 : Int32)) < x4 then
  (some ((1 : Int32), K, P, nx, sl))
  else
  (mm_gd (mm_in x4 (K.2 x0)) <|
  mm_lt ((gA P 8192 x0 x4.toNatClampNeg) &&& (31 : Int32)) fun v4 =>
  if v4 = (0 : Int32) then
  (mm_gd (mm_in (x4 + (1 : Int32)) (K.2 x0)) <|
  mm_gd (mm_in (x4 + (2 : Int32)) (K.2 x0)) <|
  mm_gd (mm_in (x4 + (3 : Int32)) (K.2 x0)) <|
  mm_gd (mm_in (x4 + (4 : Int32)) (K.2 x0)) <|
  mm_gd (mm_in (x4 + (5 : Int32)) (K.2 x0)) <|
  mm_gd (mm_in (x4 + (6 : Int32)) (K.2 x0)) <|
  mm_gd (K.1 x1 = 1) <|
  mm_bd (fX1_feed x1 ((mm_shlL ((gA P 8192 x0 (x4 + (1 : Int32)).toNatClampNeg).toInt64) (32 : Int32)) ||| (((gA P 8192 x0 (x4 + (2 : Int32)).toNatClampNeg).toInt64) &&& (4294967295 : Int64))) ((mm_shlL ((gA P 8192 x0 (x4 + (3 : Int32)).toNatClampNeg).toInt64) (32 : Int32)) ||| (((gA P 8192 x0 (x4 + (4 : Int32)).toNatClampNeg).toInt64) &&& (4294967295 : Int64))) ((mm_shlL ((gA P 8192 x0 (x4 + (5 : Int32)).toNatClampNeg).toInt64) (32 : Int32)) ||| (((gA P 8192 x0 (x4 + (6 : Int32)).toNatClampNeg).toInt64) &&& (4294967295 : Int64))) P) fun r12 =>
  mm_gd (mm_in (x4 + (1 : Int32)) (K.2 x0)) <|
  mm_gd (mm_in (x4 + (2 : Int32)) (K.2 x0)) <|
  mm_gd (mm_in (x4 + (3 : Int32)) (K.2 x0)) <|
  mm_gd (mm_in (x4 + (4 : Int32)) (K.2 x0)) <|
  mm_gd (mm_in (x4 + (5 : Int32)) (K.2 x0)) <|
  mm_gd (mm_in (x4 + (6 : Int32)) (K.2 x0)) <|
  mm_gd (K.1 x2 = 5) <|
  mm_bd (fX5_feed x2 ((mm_shlL ((gA r12.2 8192 x0 (x4 + (1 : Int32)).toNatClampNeg).toInt64) (32 : Int32)) ||| (((gA r12.2 8192 x0 (x4 + (2 : Int32)).toNatClampNeg).toInt64) &&& (4294967295 : Int64))) ((mm_shlL ((gA r12.2 8192 x0 (x4 + (3 : Int32)).toNatClampNeg).toInt64) (32 : Int32)) ||| (((gA r12.2 8192 x0 (x4 + (4 : Int32)).toNatClampNeg).toInt64) &&& (4294967295 : Int64))) ((mm_shlL ((gA r12.2 8192 x0 (x4 + (5 : Int32)).toNatClampNeg).toInt64) (32 : Int32)) ||| (((gA r12.2 8192 x0 (x4 + (6 : Int32)).toNatClampNeg).toInt64) &&& (4294967295 : Int64))) r12.2) fun r21 =>
  if r12.1 = r21.1 then
  (fL_law_b23 n x0 x1 x2 x3 (x4 + (7 : Int32)) K r21.2 nx sl)
  else
  (some ((0 : Int32), K, r21.2, nx, sl)))
  else
  (if v4 = (1 : Int32) then
  (mm_gd (K.1 x1 = 1) <|
  mm_bd (fX1_line x1 K P nx sl) fun r26 =>
  mm_mo mm_waI r26.2.2.2.1 r26.2.2.2.2 <|
  mm_gd (r26.2.1.1 x2 = 5) <|
  mm_bd (fX5_line x2 r26.2.2.1) fun r29 =>
  if r26.1 = r29.1 then
  (fL_law_b23 n x0 x1 x2 x3 (x4 + (7 : Int32)) r26.2.1 r29.2 r26.2.2.2.1 r26.2.2.2.2)
  else
  (some ((0 : Int32), r26.2.1, r29.2, r26.2.2.2.1, r26.2.2.2.2)))
  else
  (if v4 = (2 : Int32) then
  (mm_gd (K.1 x1 = 1) <|
  mm_bd (fX1_day x1 K P nx sl) fun r34 =>
  mm_mo mm_waI r34.2.2.2.1 r34.2.2.2.2 <|
  mm_gd (r34.2.1.1 x2 = 5) <|
  mm_bd (fX5_day x2 r34.2.2.1) fun r37 =>
  if r34.1 = r37.1 then
  (fL_law_b23 n x0 x1 x2 x3 (x4 + (7 : Int32)) r34.2.1 r37.2 r34.2.2.2.1 r34.2.2.2.2)
  else
  (some ((0 : Int32), r34.2.1, r37.2, r34.2.2.2.1, r34.2.2.2.2)))
  else
  (if v4 = (3 : Int32) then
  (mm_gd (mm_in (x4 + (1 : Int32)) (K.2 x0)) <|
  mm_gd (mm_in (x4 + (2 : Int32)) (K.2 x0)) <|
  mm_gd (K.1 x1 = 1) <|
  mm_bd (fX1_cloth K x1 (gA P 8192 x0 (x4 + (1 : Int32)).toNatClampNeg) (gA P 8192 x0 (x4 + (2 : Int32)).toNatClampNeg) P) fun r44 =>
  mm_gd (mm_in (x4 + (1 : Int32)) (K.2 x0)) <|
  mm_gd (mm_in (x4 + (2 : Int32)) (K.2 x0)) <|
  mm_gd (K.1 x2 = 5) <|
  mm_bd (fX5_cloth x2 (gA r44.2 8192 x0 (x4 + (1 : Int32)).toNatClampNeg) (gA r44.2 8192 x0 (x4 + (2 : Int32)).toNatClampNeg) r44.2) fun r49 =>
  if r44.1 = r49.1 then
  (fL_law_b23 n x0 x1 x2 x3 (x4 + (7 : Int32)) K r49.2 nx sl)
  else
  (some ((0 : Int32), K, r49.2, nx, sl)))
  else
  (if v4 = (4 : Int32) then
  (mm_gd (mm_in (x4 + (1 : Int32)) (K.2 x0)) <|
  mm_gd (mm_in (x4 + (2 : Int32)) (K.2 x0)) <|
  mm_gd (K.1 x1 = 1) <|
  mm_bd (fX1_peg K x1 P (gA P 8192 x0 (x4 + (1 : Int32)).toNatClampNeg) (gA P 8192 x0 (x4 + (2 : Int32)).toNatClampNeg)) fun r56 =>
  mm_gd (mm_in (x4 + (1 : Int32)) (K.2 x0)) <|
  mm_gd (mm_in (x4 + (2 : Int32)) (K.2 x0)) <|
  mm_gd (K.1 x2 = 5) <|
  mm_bd (fX5_peg x2 (gA P 8192 x0 (x4 + (1 : Int32)).toNatClampNeg) (gA P 8192 x0 (x4 + (2 : Int32)).toNatClampNeg) P) fun r61 =>
  if r56 = r61.1 then
  (fL_law_b23 n x0 x1 x2 x3 (x4 + (7 : Int32)) K r61.2 nx sl)
  else
  (some ((0 : Int32), K, r61.2, nx, sl)))
  else
  (if v4 = (5 : Int32) then
  (mm_gd (K.1 x1 = 1) <|
  mm_bd (fX1_free K x1 P) fun r66 =>
  mm_gd (K.1 x2 = 5) <|
  mm_bd (fX5_free x2 P) fun r69 =>
  if r66 = r69.1 then
  (fL_law_b23 n x0 x1 x2 x3 (x4 + (7 : Int32)) K r69.2 nx sl)
  else
  (some ((0 : Int32), K, r69.2, nx, sl)))
  else
  (if v4 = (6 : Int32) then
  (mm_gd (K.1 x1 = 1) <|
  mm_bd (fX1_laws K x1 P) fun r74 =>
  mm_gd (K.1 x2 = 5) <|
  mm_bd (fX5_laws x2 P) fun r77 =>
  if r74 = r77.1 then
  (fL_law_b23 n x0 x1 x2 x3 (x4 + (7 : Int32)) K r77.2 nx sl)
  else
  (some ((0 : Int32), K, r77.2, nx, sl)))
  else
  (if v4 = (7 : Int32) then
  (mm_gd (mm_in (x4 + (1 : Int32)) (K.2 x0)) <|
  mm_gd (mm_in (x4 + (2 : Int32)) (K.2 x0)) <|
  mm_gd (K.1 x1 = 1) <|
  mm_bd (fX1_hang x1 (gA P 8192 x0 (x4 + (1 : Int32)).toNatClampNeg) (gA P 8192 x0 (x4 + (2 : Int32)).toNatClampNeg) K P nx sl) fun r84 =>
  mm_mo mm_waI r84.2.2.2.1 r84.2.2.2.2 <|
  mm_gd (mm_isA r84.2.1 x0 0) <|
  mm_gd (mm_in (x4 + (1 : Int32)) (r84.2.1.2 x0)) <|
  mm_gd (mm_in (x4 + (2 : Int32)) (r84.2.1.2 x0)) <|
  mm_gd (r84.2.1.1 x2 = 5) <|
  mm_bd (fX5_hang x2 (gA r84.2.2.1 8192 x0 (x4 + (1 : Int32)).toNatClampNeg) (gA r84.2.2.1 8192 x0 (x4 + (2 : Int32)).toNatClampNeg) r84.2.2.1) fun r90 =>
  if r84.1 = r90.1 then
  (fL_law_b23 n x0 x1 x2 x3 (x4 + (7 : Int32)) r84.2.1 r90.2 r84.2.2.2.1 r84.2.2.2.2)
  else
  (some ((0 : Int32), r84.2.1, r90.2, r84.2.2.2.1, r84.2.2.2.2)))
  else
  (if v4 = (8 : Int32) then
  (mm_gd (mm_in (x4 + (1 : Int32)) (K.2 x0)) <|
  mm_gd (K.1 x1 = 1) <|
  mm_bd (fX1_take x1 (gA P 8192 x0 (x4 + (1 : Int32)).toNatClampNeg) K P nx sl) fun r96 =>
  mm_mo mm_waI r96.2.2.2.1 r96.2.2.2.2 <|
  mm_gd (mm_isA r96.2.1 x0 0) <|
  mm_gd (mm_in (x4 + (1 : Int32)) (r96.2.1.2 x0)) <|
  mm_gd (r96.2.1.1 x2 = 5) <|
  mm_bd (fX5_take x2 (gA r96.2.2.1 8192 x0 (x4 + (1 : Int32)).toNatClampNeg) r96.2.2.1) fun r101 =>
  if r96.1 = r101.1 then
  (fL_law_b23 n x0 x1 x2 x3 (x4 + (7 : Int32)) r96.2.1 r101.2 r96.2.2.2.1 r96.2.2.2.2)
  else
  (some ((0 : Int32), r96.2.1, r101.2, r96.2.2.2.1, r96.2.2.2.2)))
  else
  (if v4 = (9 : Int32) then
  (mm_gd (mm_in (x4 + (1 : Int32)) (K.2 x0)) <|
  mm_gd (K.1 x1 = 1) <|
  mm_bd (fX1_wash x1 (gA P 8192 x0 (x4 + (1 : Int32)).toNatClampNeg) K P nx sl) fun r107 =>
  mm_mo mm_waI r107.2.2.2.1 r107.2.2.2.2 <|
  mm_gd (mm_isA r107.2.1 x0 0) <|
  mm_gd (mm_in (x4 + (1 : Int32)) (r107.2.1.2 x0)) <|
  mm_gd (r107.2.1.1 x2 = 5) <|
  mm_bd (fX5_wash x2 (gA r107.2.2.1 8192 x0 (x4 + (1 : Int32)).toNatClampNeg) r107.2.2.1) fun r112 =>
  if r107.1 = r112.1 then
  (fL_law_b23 n x0 x1 x2 x3 (x4 + (7 : Int32)) r107.2.1 r112.2 r107.2.2.2.1 r107.2.2.2.2)
  else
  (some ((0 : Int32), r107.2.1, r112.2, r107.2.2.2.1, r107.2.2.2.2)))
  else
  (if v4 = (10 : Int32) then
  (mm_gd (mm_in (x4 + (1 : Int32)) (K.2 x0)) <|
  mm_gd (K.1 x1 = 1) <|
  mm_bd (fX1_buy x1 (gA P 8192 x0 (x4 + (1 : Int32)).toNatClampNeg) K P nx sl) fun r118 =>
  mm_mo mm_waI r118.2.2.2.1 r118.2.2.2.2 <|
  mm_gd (mm_isA r118.2.1 x0 0) <|
  mm_gd (mm_in (x4 + (1 : Int32)) (r118.2.1.2 x0)) <|
  mm_gd (r118.2.1.1 x2 = 5) <|
  mm_bd (fX5_buy x2 (gA r118.2.2.1 8192 x0 (x4 + (1 : Int32)).toNatClampNeg) r118.2.2.1) fun r123 =>
  if r118.1 = r123.1 then
  (fL_law_b23 n x0 x1 x2 x3 (x4 + (7 : Int32)) r118.2.1 r123.2 r118.2.2.2.1 r118.2.2.2.2)
  else
  (some ((0 : Int32), r118.2.1, r123.2, r118.2.2.2.1, r118.2.2.2.2)))
  else
  (if v4 = (11 : Int32) then
  (mm_gd (K.1 x1 = 1) <|
  mm_bd (fX1_hour x1 K P nx sl) fun r128 =>
  mm_mo mm_waI r128.2.2.2.1 r128.2.2.2.2 <|
  mm_gd (r128.2.1.1 x2 = 5) <|
  mm_bd (fX5_hour x2 r128.2.2.1) fun r131 =>
  if r128.1 = r131.1 then
  (fL_law_b23 n x0 x1 x2 x3 (x4 + (7 : Int32)) r128.2.1 r131.2 r128.2.2.2.1 r128.2.2.2.2)
  else
  (some ((0 : Int32), r128.2.1, r131.2, r128.2.2.2.1, r128.2.2.2.2)))
  else
  (if v4 = (12 : Int32) then
  (mm_gd (K.1 x1 = 1) <|
  mm_bd (fX1_undo K x1 P) fun r136 =>
  mm_gd (K.1 x2 = 5) <|
  mm_bd (fX5_undo x2 r136.2) fun r139 =>
  if r136.1 = r139.1 then
  (fL_law_b23 n x0 x1 x2 x3 (x4 + (7 : Int32)) K r139.2 nx sl)
  else
  (some ((0 : Int32), K, r139.2, nx, sl)))
  else
  (if v4 = (13 : Int32) then
  (mm_gd (mm_in (x4 + (1 : Int32)) (K.2 x0)) <|
  mm_gd (K.1 x1 = 1) <|
  mm_bd (fX1_judged K x1 (gA P 8192 x0 (x4 + (1 : Int32)).toNatClampNeg) P) fun r145 =>
  mm_gd (mm_in (x4 + (1 : Int32)) (K.2 x0)) <|
  mm_gd (K.1 x2 = 5) <|
  mm_bd (fX5_judged x2 (gA r145.2 8192 x0 (x4 + (1 : Int32)).toNatClampNeg) r145.2) fun r149 =>
  if r145.1 = r149.1 then
  (fL_law_b23 n x0 x1 x2 x3 (x4 + (7 : Int32)) K r149.2 nx sl)
  else
  (some ((0 : Int32), K, r149.2, nx, sl)))
  else
  (if v4 = (14 : Int32) then
  (mm_gd (mm_in (x4 + (1 : Int32)) (K.2 x0)) <|
  mm_gd (K.1 x1 = 1) <|
  mm_bd (fX1_holds K x1 (gA P 8192 x0 (x4 + (1 : Int32)).toNatClampNeg) P) fun r155 =>
  mm_gd (mm_in (x4 + (1 : Int32)) (K.2 x0)) <|
  mm_gd (K.1 x2 = 5) <|
  mm_bd (fX5_holds x2 (gA r155.2 8192 x0 (x4 + (1 : Int32)).toNatClampNeg) r155.2) fun r159 =>
  if r155.1 = r159.1 then
  (fL_law_b23 n x0 x1 x2 x3 (x4 + (7 : Int32)) K r159.2 nx sl)
  else
  (some ((0 : Int32), K, r159.2, nx, sl)))
  else
  (if v4 = (15 : Int32) then
  (mm_gd (K.1 x1 = 1) <|
  mm_bd (fX1_clashes K x1 P) fun r164 =>
  mm_gd (K.1 x2 = 5) <|
  mm_bd (fX5_clashes x2 P) fun r167 =>
  if r164 = r167.1 then
  (fL_law_b23 n x0 x1 x2 x3 (x4 + (7 : Int32)) K r167.2 nx sl)
  else
  (some ((0 : Int32), K, r167.2, nx, sl)))
  else
  (if v4 = (16 : Int32) then
  (mm_gd (mm_in (x4 + (1 : Int32)) (K.2 x0)) <|
  mm_gd (K.1 x1 = 1) <|
  mm_bd (fX1_mend K x1 P (gA P 8192 x0 (x4 + (1 : Int32)).toNatClampNeg)) fun r173 =>
  mm_gd (mm_in (x4 + (1 : Int32)) (K.2 x0)) <|
  mm_gd (K.1 x2 = 5) <|
  mm_bd (fX5_mend x2 (gA P 8192 x0 (x4 + (1 : Int32)).toNatClampNeg) P) fun r177 =>
  if r173 = r177.1 then
  (fL_law_b23 n x0 x1 x2 x3 (x4 + (7 : Int32)) K r177.2 nx sl)
  else
  (some ((0 : Int32), K, r177.2, nx, sl)))
  else
  (if v4 = (17 : Int32) then
  (mm_gd (mm_in (x4 + (1 : Int32)) (K.2 x0)) <|
  mm_gd (mm_in (x4 + (2 : Int32)) (K.2 x0)) <|
  mm_gd (K.1 x1 = 1) <|
  mm_bd (fX1_fill K x1 (gA P 8192 x0 (x4 + (1 : Int32)).toNatClampNeg) (gA P 8192 x0 (x4 + (2 : Int32)).toNatClampNeg) P) fun r184 =>
  mm_gd (mm_in (x4 + (1 : Int32)) (K.2 x0)) <|
  mm_gd (mm_in (x4 + (2 : Int32)) (K.2 x0)) <|
  mm_gd (K.1 x2 = 5) <|
  mm_bd (fX5_fill x2 (gA r184.2 8192 x0 (x4 + (1 : Int32)).toNatClampNeg) (gA r184.2 8192 x0 (x4 + (2 : Int32)).toNatClampNeg) r184.2) fun r189 =>
  if r184.1 = r189.1 then
  (fL_law_b23 n x0 x1 x2 x3 (x4 + (7 : Int32)) K r189.2 nx sl)
  else
  (some ((0 : Int32), K, r189.2, nx, sl)))
  else
  (if v4 = (18 : Int32) then
  (mm_gd (mm_in (x4 + (1 : Int32)) (K.2 x0)) <|
  mm_gd (mm_in (x4 + (2 : Int32)) (K.2 x0)) <|
  mm_gd (K.1 x1 = 1) <|
  mm_bd (fX1_odds x1 (gA P 8192 x0 (x4 + (1 : Int32)).toNatClampNeg) (gA P 8192 x0 (x4 + (2 : Int32)).toNatClampNeg) K P nx sl) fun r196 =>
  mm_mo mm_waI r196.2.2.2.1 r196.2.2.2.2 <|
  mm_gd (mm_isA r196.2.1 x0 0) <|
  mm_gd (mm_in (x4 + (1 : Int32)) (r196.2.1.2 x0)) <|
  mm_gd (mm_in (x4 + (2 : Int32)) (r196.2.1.2 x0)) <|
  mm_gd (r196.2.1.1 x2 = 5) <|
  mm_bd (fX5_odds x2 (gA r196.2.2.1 8192 x0 (x4 + (1 : Int32)).toNatClampNeg) (gA r196.2.2.1 8192 x0 (x4 + (2 : Int32)).toNatClampNeg) r196.2.2.1) fun r202 =>
  if r196.1 = r202.1 then
  (fL_law_b23 n x0 x1 x2 x3 (x4 + (7 : Int32)) r196.2.1 r202.2 r196.2.2.2.1 r196.2.2.2.2)
  else
  (some ((0 : Int32), r196.2.1, r202.2, r196.2.2.2.1, r196.2.2.2.2)))
  else
  (if v4 = (19 : Int32) then
  (mm_gd (mm_in (x4 + (1 : Int32)) (K.2 x0)) <|
  mm_gd (K.1 x1 = 1) <|
  mm_bd (fX1_dry K x1 (gA P 8192 x0 (x4 + (1 : Int32)).toNatClampNeg) P) fun r208 =>
  mm_gd (mm_in (x4 + (1 : Int32)) (K.2 x0)) <|
  mm_gd (K.1 x2 = 5) <|
  mm_bd (fX5_dry x2 (gA r208.2 8192 x0 (x4 + (1 : Int32)).toNatClampNeg) r208.2) fun r212 =>
  if r208.1 = r212.1 then
  (fL_law_b23 n x0 x1 x2 x3 (x4 + (7 : Int32)) K r212.2 nx sl)
  else
  (some ((0 : Int32), K, r212.2, nx, sl)))
  else
  (if v4 = (20 : Int32) then
  (mm_gd (mm_in (x4 + (1 : Int32)) (K.2 x0)) <|
  mm_gd (mm_in (x4 + (2 : Int32)) (K.2 x0)) <|
  mm_gd (mm_in (x4 + (3 : Int32)) (K.2 x0)) <|
  mm_gd (K.1 x1 = 1) <|
  mm_bd (fX1_feel K x1 (gA P 8192 x0 (x4 + (1 : Int32)).toNatClampNeg) (gA P 8192 x0 (x4 + (2 : Int32)).toNatClampNeg) (gA P 8192 x0 (x4 + (3 : Int32)).toNatClampNeg) P) fun r220 =>
  mm_gd (mm_in (x4 + (1 : Int32)) (K.2 x0)) <|
  mm_gd (mm_in (x4 + (2 : Int32)) (K.2 x0)) <|
  mm_gd (mm_in (x4 + (3 : Int32)) (K.2 x0)) <|
  mm_gd (K.1 x2 = 5) <|
  mm_bd (fX5_feel x2 (gA r220.2 8192 x0 (x4 + (1 : Int32)).toNatClampNeg) (gA r220.2 8192 x0 (x4 + (2 : Int32)).toNatClampNeg) (gA r220.2 8192 x0 (x4 + (3 : Int32)).toNatClampNeg) r220.2) fun r226 =>
  if r220.1 = r226.1 then
  (fL_law_b23 n x0 x1 x2 x3 (x4 + (7 : Int32)) K r226.2 nx sl)
  else
  (some ((0 : Int32), K, r226.2, nx, sl)))
  else
  (if v4 = (21 : Int32) then
  (mm_gd (K.1 x1 = 1) <|
  mm_bd (fX1_starts K x1 P) fun r231 =>
  mm_gd (K.1 x2 = 5) <|
  mm_bd (fX5_starts_2 x2 r231.2) fun r234 =>
  if r231.1 = r234.1 then
  (fL_law_b23 n x0 x1 x2 x3 (x4 + (7 : Int32)) K r234.2 nx sl)
  else
  (some ((0 : Int32), K, r234.2, nx, sl)))
  else
  (if v4 = (22 : Int32) then
  (mm_gd (mm_in (x4 + (1 : Int32)) (K.2 x0)) <|
  mm_gd (K.1 x1 = 1) <|
  mm_bd (fX1_ask K x1 (gA P 8192 x0 (x4 + (1 : Int32)).toNatClampNeg) P) fun r240 =>
  mm_gd (mm_in (x4 + (1 : Int32)) (K.2 x0)) <|
  mm_gd (K.1 x2 = 5) <|
  mm_bd (fX5_ask x2 (gA r240.2 8192 x0 (x4 + (1 : Int32)).toNatClampNeg) r240.2) fun r244 =>
  if r240.1 = r244.1 then
  (fL_law_b23 n x0 x1 x2 x3 (x4 + (7 : Int32)) K r244.2 nx sl)
  else
  (some ((0 : Int32), K, r244.2, nx, sl)))
  else
  (if v4 = (23 : Int32) then
  (mm_gd (mm_in (x4 + (1 : Int32)) (K.2 x0)) <|
  mm_gd (K.1 x1 = 1) <|
  mm_bd (fX1_change K x1 (gA P 8192 x0 (x4 + (1 : Int32)).toNatClampNeg) P) fun r250 =>
  mm_gd (mm_in (x4 + (1 : Int32)) (K.2 x0)) <|
  mm_gd (K.1 x2 = 5) <|
  mm_bd (fX5_change x2 (gA r250.2 8192 x0 (x4 + (1 : Int32)).toNatClampNeg) r250.2) fun r254 =>
  if r250.1 = r254.1 then
  (fL_law_b23 n x0 x1 x2 x3 (x4 + (7 : Int32)) K r254.2 nx sl)
  else
  (some ((0 : Int32), K, r254.2, nx, sl)))
  else
  (if v4 = (24 : Int32) then
  (mm_gd (mm_in (x4 + (1 : Int32)) (K.2 x0)) <|
  mm_gd (mm_in (x4 + (2 : Int32)) (K.2 x0)) <|
  mm_gd (mm_in (x4 + (3 : Int32)) (K.2 x0)) <|
  mm_gd (mm_in (x4 + (4 : Int32)) (K.2 x0)) <|
  mm_bd (fX0_rests x1 (gA P 8192 x0 (x4 + (1 : Int32)).toNatClampNeg) (gA P 8192 x0 (x4 + (2 : Int32)).toNatClampNeg) (gA P 8192 x0 (x4 + (3 : Int32)).toNatClampNeg) (gA P 8192 x0 (x4 + (4 : Int32)).toNatClampNeg) x3 K P nx sl) fun r263 =>
  mm_mo mm_waI r263.2.2.2.1 r263.2.2.2.2 <|
  mm_gd (mm_isA r263.2.1 x0 0) <|
  mm_gd (mm_in (x4 + (1 : Int32)) (r263.2.1.2 x0)) <|
  mm_gd (mm_in (x4 + (2 : Int32)) (r263.2.1.2 x0)) <|
  mm_gd (mm_in (x4 + (3 : Int32)) (r263.2.1.2 x0)) <|
  mm_gd (mm_in (x4 + (4 : Int32)) (r263.2.1.2 x0)) <|
  mm_gd (r263.2.1.1 x2 = 5) <|
  mm_bd (fX5_rests x2 (gA r263.2.2.1 8192 x0 (x4 + (1 : Int32)).toNatClampNeg) (gA r263.2.2.1 8192 x0 (x4 + (2 : Int32)).toNatClampNeg) (gA r263.2.2.1 8192 x0 (x4 + (3 : Int32)).toNatClampNeg) (gA r263.2.2.1 8192 x0 (x4 + (4 : Int32)).toNatClampNeg) r263.2.2.1) fun r270 =>
  mm_bd (fX5_thrown x2 r270.2) fun r273 =>
  if r273 = r263.1 then
  (if r263.1 ≠ 0 then
  (fL_law_b23 n x0 x1 x2 x3 (x4 + (7 : Int32)) r263.2.1 r270.2 r263.2.2.2.1 r263.2.2.2.2)
  else
  (mm_gd (r263.2.1.1 x3 = 66) <|
  mm_gd (mm_in (0 : Int32) (r263.2.1.2 x3)) <|
  if (lg_cmp (gL r270.2 8194 x3 (0 : Int32).toNatClampNeg) r270.1.toInt64) = 0 then
  (fL_law_b23 n x0 x1 x2 x3 (x4 + (7 : Int32)) r263.2.1 r270.2 r263.2.2.2.1 r263.2.2.2.2)
  else
  (some ((0 : Int32), r263.2.1, r270.2, r263.2.2.2.1, r263.2.2.2.2))))
  else
  (some ((0 : Int32), r263.2.1, r270.2, r263.2.2.2.1, r263.2.2.2.2)))
  else
  (if v4 = (25 : Int32) then
  (mm_gd (mm_in (x4 + (1 : Int32)) (K.2 x0)) <|
  mm_gd (mm_in (x4 + (2 : Int32)) (K.2 x0)) <|
  mm_gd (mm_in (x4 + (3 : Int32)) (K.2 x0)) <|
  mm_gd (K.1 x1 = 1) <|
  mm_bd (fX1_decades K x1 (gA P 8192 x0 (x4 + (1 : Int32)).toNatClampNeg) (gA P 8192 x0 (x4 + (2 : Int32)).toNatClampNeg) (gA P 8192 x0 (x4 + (3 : Int32)).toNatClampNeg) P) fun r284 =>
  mm_gd (mm_in (x4 + (1 : Int32)) (K.2 x0)) <|
  mm_gd (mm_in (x4 + (2 : Int32)) (K.2 x0)) <|
  mm_gd (mm_in (x4 + (3 : Int32)) (K.2 x0)) <|
  mm_gd (K.1 x2 = 5) <|
  mm_bd (fX5_decades x2 (gA r284.2 8192 x0 (x4 + (1 : Int32)).toNatClampNeg) (gA r284.2 8192 x0 (x4 + (2 : Int32)).toNatClampNeg) (gA r284.2 8192 x0 (x4 + (3 : Int32)).toNatClampNeg) r284.2) fun r290 =>
  if r284.1 = r290.1 then
  (fL_law_b23 n x0 x1 x2 x3 (x4 + (7 : Int32)) K r290.2 nx sl)
  else
  (some ((0 : Int32), K, r290.2, nx, sl)))
  else
  (if v4 = (26 : Int32) then
  (mm_gd (mm_in (x4 + (1 : Int32)) (K.2 x0)) <|
  mm_gd (mm_in (x4 + (2 : Int32)) (K.2 x0)) <|
  if (gA P 8192 x0 (x4 + (2 : Int32)).toNatClampNeg) = 0 then
  (fL_law_b1040 (fL_law_b23 n) x0 x1 x2 x3 x4 x1 (gA P 8192 x0 (x4 + (1 : Int32)).toNatClampNeg) (0 : Int32) K P nx sl)
  else
  (fL_law_b1040 (fL_law_b23 n) x0 x1 x2 x3 x4 x1 (gA P 8192 x0 (x4 + (1 : Int32)).toNatClampNeg) (1 : Int32) K P nx sl))
  else
  (if v4 = (27 : Int32) then
  (mm_gd (mm_in (x4 + (1 : Int32)) (K.2 x0)) <|
  mm_gd (K.1 x1 = 1) <|
  mm_bd (fX1_count K x1 P (gA P 8192 x0 (x4 + (1 : Int32)).toNatClampNeg)) fun r300 =>
  mm_gd (mm_in (x4 + (1 : Int32)) (K.2 x0)) <|
  mm_gd (K.1 x2 = 5) <|
  mm_bd (fX5_count x2 (gA P 8192 x0 (x4 + (1 : Int32)).toNatClampNeg) P) fun r304 =>
  if r300 = r304.1 then
  (fL_law_b23 n x0 x1 x2 x3 (x4 + (7 : Int32)) K r304.2 nx sl)
  else
  (some ((0 : Int32), K, r304.2, nx, sl)))
  else
  (fL_law_b23 n x0 x1 x2 x3 (x4 + (7 : Int32)) K P nx sl)))))))))))))))))))))))))))))
set_option maxHeartbeats 4000000 in
theorem wfL_law_b23 {E : mm_E} (C : mm_Cx E RX0 cL_law 7 (some .boolean) 8192 100000) (hfl : (eL E).stackTraces = false) : ∀ (n : Nat), ∀ (x0 : Nat) (x1 : Nat) (x2 : Nat) (x3 : Nat) (x4 : Int32) (K : mm_K) (P : mm_P) (nx : Nat) (sl : Nat), mm_V E (mm_waI) 23 [some (.ref x0), some (.ref x1), some (.ref x2), some (.ref x3), some (.int x4), none, none] [] K P nx sl (fL_law_b23 n x0 x1 x2 x3 x4 K P nx sl) := by
  intro n
  induction n with
  | zero => intro x0 x1 x2 x3 x4 K P nx sl; exact r_none
  | succ n ih =>
    intro x0 x1 x2 x3 x4 K P nx sl
    rw [fL_law_b23]
    refine r_iload C dL_law_23 rfl ?_
    refine r_aload_n C dL_law_25 rfl rfl ?_
    refine r_gd fun hK1 => ?_
    refine r_alen (v := Int32.ofNat (K.2 x0)) C (rg_ra hK1) rfl rfl dL_law_26 ?_
    refine r_bipush (v := 7) C dL_law_27 rfl ?_
    refine r_isub C dL_law_29 ?_
    refine r_icmpgt (tgt := 1103) C dL_law_30 (by decide) (fun h2 => ?_) (fun h2 => ?_)
    · refine r_iconst (v := 1) C dL_law_1103 rfl ?_
      exact r_zret C dL_law_1104 rfl rfl
    · refine r_aload_n C dL_law_33 rfl rfl ?_
      refine r_iload C dL_law_34 rfl ?_
      refine r_iald C (rg_ra hK1) rfl dL_law_36 fun h3 => ?_
      refine r_bipush (v := 31) C dL_law_37 rfl ?_
      refine r_iand C dL_law_39 ?_
      refine r_ltI fun v4 => ?_
      refine r_if (fun h5 => ?_) (fun h5 => ?_)
      · refine r_tableC (tgt := 168) (off := 128) C dL_law_40 h5 (by decide) (by decide) (by decide) (by decide) ?_
        refine r_aload_n C dL_law_168 rfl rfl ?_
        refine r_aload_n C dL_law_169 rfl rfl ?_
        refine r_iload C dL_law_170 rfl ?_
        refine r_iconst (v := 1) C dL_law_172 rfl ?_
        refine r_iadd C dL_law_173 ?_
        refine r_iald C (rg_ra hK1) rfl dL_law_174 fun h6 => ?_
        refine r_i2l C dL_law_175 ?_
        refine r_bipush (v := 32) C dL_law_176 rfl ?_
        refine r_lshl C dL_law_178 ?_
        refine r_aload_n C dL_law_179 rfl rfl ?_
        refine r_iload C dL_law_180 rfl ?_
        refine r_iconst (v := 2) C dL_law_182 rfl ?_
        refine r_iadd C dL_law_183 ?_
        refine r_iald C (rg_ra hK1) rfl dL_law_184 fun h7 => ?_
        refine r_i2l C dL_law_185 ?_
        refine r_ldc2 (v := 4294967295) C dL_law_186 q2197 ?_
        refine r_land C dL_law_189 ?_
        refine r_lor C dL_law_190 ?_
        refine r_aload_n C dL_law_191 rfl rfl ?_
        refine r_iload C dL_law_192 rfl ?_
        refine r_iconst (v := 3) C dL_law_194 rfl ?_
        refine r_iadd C dL_law_195 ?_
        refine r_iald C (rg_ra hK1) rfl dL_law_196 fun h8 => ?_
        refine r_i2l C dL_law_197 ?_
        refine r_bipush (v := 32) C dL_law_198 rfl ?_
        refine r_lshl C dL_law_200 ?_
        refine r_aload_n C dL_law_201 rfl rfl ?_
        refine r_iload C dL_law_202 rfl ?_
        refine r_iconst (v := 4) C dL_law_204 rfl ?_
        refine r_iadd C dL_law_205 ?_
        refine r_iald C (rg_ra hK1) rfl dL_law_206 fun h9 => ?_
        refine r_i2l C dL_law_207 ?_
        refine r_ldc2 (v := 4294967295) C dL_law_208 q2197 ?_
        refine r_land C dL_law_211 ?_
        refine r_lor C dL_law_212 ?_
        refine r_aload_n C dL_law_213 rfl rfl ?_
        refine r_iload C dL_law_214 rfl ?_
        refine r_iconst (v := 5) C dL_law_216 rfl ?_
        refine r_iadd C dL_law_217 ?_
        refine r_iald C (rg_ra hK1) rfl dL_law_218 fun h10 => ?_
        refine r_i2l C dL_law_219 ?_
        refine r_bipush (v := 32) C dL_law_220 rfl ?_
        refine r_lshl C dL_law_222 ?_
        refine r_aload_n C dL_law_223 rfl rfl ?_
        refine r_iload C dL_law_224 rfl ?_
        refine r_bipush (v := 6) C dL_law_226 rfl ?_
        refine r_iadd C dL_law_228 ?_
        refine r_iald C (rg_ra hK1) rfl dL_law_229 fun h11 => ?_
        refine r_i2l C dL_law_230 ?_
        refine r_ldc2 (v := 4294967295) C dL_law_231 q2197 ?_
        refine r_land C dL_law_234 ?_
        refine r_lor C dL_law_235 ?_
        refine r_gd fun hK14 => ?_
        refine r_bd fun r12 h13 => ?_
        refine r_callV (As := [.long ((mm_shlL ((gA P 8192 x0 (x4 + (1 : Int32)).toNatClampNeg).toInt64) (32 : Int32)) ||| (((gA P 8192 x0 (x4 + (2 : Int32)).toNatClampNeg).toInt64) &&& (4294967295 : Int64))), .long ((mm_shlL ((gA P 8192 x0 (x4 + (3 : Int32)).toNatClampNeg).toInt64) (32 : Int32)) ||| (((gA P 8192 x0 (x4 + (4 : Int32)).toNatClampNeg).toInt64) &&& (4294967295 : Int64))), .long ((mm_shlL ((gA P 8192 x0 (x4 + (5 : Int32)).toNatClampNeg).toInt64) (32 : Int32)) ||| (((gA P 8192 x0 (x4 + (6 : Int32)).toNatClampNeg).toInt64) &&& (4294967295 : Int64)))]) (st := []) C (mc_X1_feed hK14 h13) cv_L_21 hK14 rfl (Nat.le_of_ble_eq_true rfl) (Nat.le_of_ble_eq_true rfl) rfl (Nat.le_of_ble_eq_true rfl) dL_law_236 ?_
        refine r_aload_n C dL_law_239 rfl rfl ?_
        refine r_aload_n C dL_law_240 rfl rfl ?_
        refine r_iload C dL_law_241 rfl ?_
        refine r_iconst (v := 1) C dL_law_243 rfl ?_
        refine r_iadd C dL_law_244 ?_
        refine r_iald C (rg_ra hK1) rfl dL_law_245 fun h15 => ?_
        refine r_i2l C dL_law_246 ?_
        refine r_bipush (v := 32) C dL_law_247 rfl ?_
        refine r_lshl C dL_law_249 ?_
        refine r_aload_n C dL_law_250 rfl rfl ?_
        refine r_iload C dL_law_251 rfl ?_
        refine r_iconst (v := 2) C dL_law_253 rfl ?_
        refine r_iadd C dL_law_254 ?_
        refine r_iald C (rg_ra hK1) rfl dL_law_255 fun h16 => ?_
        refine r_i2l C dL_law_256 ?_
        refine r_ldc2 (v := 4294967295) C dL_law_257 q2197 ?_
        refine r_land C dL_law_260 ?_
        refine r_lor C dL_law_261 ?_
        refine r_aload_n C dL_law_262 rfl rfl ?_
        refine r_iload C dL_law_263 rfl ?_
        refine r_iconst (v := 3) C dL_law_265 rfl ?_
        refine r_iadd C dL_law_266 ?_
        refine r_iald C (rg_ra hK1) rfl dL_law_267 fun h17 => ?_
        refine r_i2l C dL_law_268 ?_
        refine r_bipush (v := 32) C dL_law_269 rfl ?_
        refine r_lshl C dL_law_271 ?_
        refine r_aload_n C dL_law_272 rfl rfl ?_
        refine r_iload C dL_law_273 rfl ?_
        refine r_iconst (v := 4) C dL_law_275 rfl ?_
        refine r_iadd C dL_law_276 ?_
        refine r_iald C (rg_ra hK1) rfl dL_law_277 fun h18 => ?_
        refine r_i2l C dL_law_278 ?_
        refine r_ldc2 (v := 4294967295) C dL_law_279 q2197 ?_
        refine r_land C dL_law_282 ?_
        refine r_lor C dL_law_283 ?_
        refine r_aload_n C dL_law_284 rfl rfl ?_
        refine r_iload C dL_law_285 rfl ?_
        refine r_iconst (v := 5) C dL_law_287 rfl ?_
        refine r_iadd C dL_law_288 ?_
        refine r_iald C (rg_ra hK1) rfl dL_law_289 fun h19 => ?_
        refine r_i2l C dL_law_290 ?_
        refine r_bipush (v := 32) C dL_law_291 rfl ?_
        refine r_lshl C dL_law_293 ?_
        refine r_aload_n C dL_law_294 rfl rfl ?_
        refine r_iload C dL_law_295 rfl ?_
        refine r_bipush (v := 6) C dL_law_297 rfl ?_
        refine r_iadd C dL_law_299 ?_
        refine r_iald C (rg_ra hK1) rfl dL_law_300 fun h20 => ?_
        refine r_i2l C dL_law_301 ?_
        refine r_ldc2 (v := 4294967295) C dL_law_302 q2197 ?_
        refine r_land C dL_law_305 ?_
        refine r_lor C dL_law_306 ?_
        refine r_gd fun hK23 => ?_
        refine r_bd fun r21 h22 => ?_
        refine r_callV (As := [.long ((mm_shlL ((gA r12.2 8192 x0 (x4 + (1 : Int32)).toNatClampNeg).toInt64) (32 : Int32)) ||| (((gA r12.2 8192 x0 (x4 + (2 : Int32)).toNatClampNeg).toInt64) &&& (4294967295 : Int64))), .long ((mm_shlL ((gA r12.2 8192 x0 (x4 + (3 : Int32)).toNatClampNeg).toInt64) (32 : Int32)) ||| (((gA r12.2 8192 x0 (x4 + (4 : Int32)).toNatClampNeg).toInt64) &&& (4294967295 : Int64))), .long ((mm_shlL ((gA r12.2 8192 x0 (x4 + (5 : Int32)).toNatClampNeg).toInt64) (32 : Int32)) ||| (((gA r12.2 8192 x0 (x4 + (6 : Int32)).toNatClampNeg).toInt64) &&& (4294967295 : Int64)))]) (st := [.int r12.1]) C (mc_X5_feed hK23 h22) cv_L_25 hK23 rfl (Nat.le_of_ble_eq_true rfl) (Nat.le_of_ble_eq_true rfl) rfl (Nat.le_of_ble_eq_true rfl) dL_law_307 ?_
        refine r_icmpeq (tgt := 1097) C dL_law_310 (by decide) (fun h24 => ?_) (fun h24 => ?_)
        · refine r_iinc (v := 7) (ls' := [some (.ref x0), some (.ref x1), some (.ref x2), some (.ref x3), some (.int (x4 + (7 : Int32))), none, none]) C dL_law_1097 rfl rfl (Nat.le_of_ble_eq_true rfl) rfl rfl ?_
          refine r_goto (tgt := 23) C dL_law_1100 (by decide) ?_
          exact ih x0 x1 x2 x3 (x4 + (7 : Int32)) K r21.2 nx sl
        · refine r_iconst (v := 0) C dL_law_313 rfl ?_
          exact r_zret C dL_law_314 rfl rfl
      refine r_if (fun h25 => ?_) (fun h25 => ?_)
      · refine r_tableC (tgt := 315) (off := 275) C dL_law_40 h25 (by decide) (by decide) (by decide) (by decide) ?_
        refine r_aload_n C dL_law_315 rfl rfl ?_
        refine r_gd fun hK28 => ?_
        refine r_bd fun r26 h27 => ?_
        refine r_acallVW (As := []) (st := []) C (mc_X1_line hK28 h27) cv_L_26 hK28 rfl (Nat.le_of_ble_eq_true rfl) (Nat.le_of_ble_eq_true rfl) rfl (Nat.le_of_ble_eq_true rfl) dL_law_316 ?_
        refine r_aload_n C dL_law_319 rfl rfl ?_
        refine r_gd fun hK31 => ?_
        refine r_bd fun r29 h30 => ?_
        refine r_callV (As := []) (st := [.int r26.1]) C (mc_X5_line hK31 h30) cv_L_30 hK31 rfl (Nat.le_of_ble_eq_true rfl) (Nat.le_of_ble_eq_true rfl) rfl (Nat.le_of_ble_eq_true rfl) dL_law_320 ?_
        refine r_icmpeq (tgt := 1097) C dL_law_323 (by decide) (fun h32 => ?_) (fun h32 => ?_)
        · refine r_iinc (v := 7) (ls' := [some (.ref x0), some (.ref x1), some (.ref x2), some (.ref x3), some (.int (x4 + (7 : Int32))), none, none]) C dL_law_1097 rfl rfl (Nat.le_of_ble_eq_true rfl) rfl rfl ?_
          refine r_goto (tgt := 23) C dL_law_1100 (by decide) ?_
          exact ih x0 x1 x2 x3 (x4 + (7 : Int32)) r26.2.1 r29.2 r26.2.2.2.1 r26.2.2.2.2
        · refine r_iconst (v := 0) C dL_law_326 rfl ?_
          exact r_zret C dL_law_327 rfl rfl
      refine r_if (fun h33 => ?_) (fun h33 => ?_)
      · refine r_tableC (tgt := 328) (off := 288) C dL_law_40 h33 (by decide) (by decide) (by decide) (by decide) ?_
        refine r_aload_n C dL_law_328 rfl rfl ?_
        refine r_gd fun hK36 => ?_
        refine r_bd fun r34 h35 => ?_
        refine r_acallVW (As := []) (st := []) C (mc_X1_day hK36 h35) cv_L_31 hK36 rfl (Nat.le_of_ble_eq_true rfl) (Nat.le_of_ble_eq_true rfl) rfl (Nat.le_of_ble_eq_true rfl) dL_law_329 ?_
        refine r_aload_n C dL_law_332 rfl rfl ?_
        refine r_gd fun hK39 => ?_
        refine r_bd fun r37 h38 => ?_
        refine r_callV (As := []) (st := [.int r34.1]) C (mc_X5_day hK39 h38) cv_L_34 hK39 rfl (Nat.le_of_ble_eq_true rfl) (Nat.le_of_ble_eq_true rfl) rfl (Nat.le_of_ble_eq_true rfl) dL_law_333 ?_
        refine r_icmpeq (tgt := 1097) C dL_law_336 (by decide) (fun h40 => ?_) (fun h40 => ?_)
        · refine r_iinc (v := 7) (ls' := [some (.ref x0), some (.ref x1), some (.ref x2), some (.ref x3), some (.int (x4 + (7 : Int32))), none, none]) C dL_law_1097 rfl rfl (Nat.le_of_ble_eq_true rfl) rfl rfl ?_
          refine r_goto (tgt := 23) C dL_law_1100 (by decide) ?_
          exact ih x0 x1 x2 x3 (x4 + (7 : Int32)) r34.2.1 r37.2 r34.2.2.2.1 r34.2.2.2.2
        · refine r_iconst (v := 0) C dL_law_339 rfl ?_
          exact r_zret C dL_law_340 rfl rfl
      refine r_if (fun h41 => ?_) (fun h41 => ?_)
      · refine r_tableC (tgt := 341) (off := 301) C dL_law_40 h41 (by decide) (by decide) (by decide) (by decide) ?_
        refine r_aload_n C dL_law_341 rfl rfl ?_
        refine r_aload_n C dL_law_342 rfl rfl ?_
        refine r_iload C dL_law_343 rfl ?_
        refine r_iconst (v := 1) C dL_law_345 rfl ?_
        refine r_iadd C dL_law_346 ?_
        refine r_iald C (rg_ra hK1) rfl dL_law_347 fun h42 => ?_
        refine r_aload_n C dL_law_348 rfl rfl ?_
        refine r_iload C dL_law_349 rfl ?_
        refine r_iconst (v := 2) C dL_law_351 rfl ?_
        refine r_iadd C dL_law_352 ?_
        refine r_iald C (rg_ra hK1) rfl dL_law_353 fun h43 => ?_
        refine r_gd fun hK46 => ?_
        refine r_bd fun r44 h45 => ?_
        refine r_callV (As := [.int (gA P 8192 x0 (x4 + (1 : Int32)).toNatClampNeg), .int (gA P 8192 x0 (x4 + (2 : Int32)).toNatClampNeg)]) (st := []) C (mc_X1_cloth hK46 h45) cv_L_35 hK46 rfl (Nat.le_of_ble_eq_true rfl) (Nat.le_of_ble_eq_true rfl) rfl (Nat.le_of_ble_eq_true rfl) dL_law_354 ?_
        refine r_aload_n C dL_law_357 rfl rfl ?_
        refine r_aload_n C dL_law_358 rfl rfl ?_
        refine r_iload C dL_law_359 rfl ?_
        refine r_iconst (v := 1) C dL_law_361 rfl ?_
        refine r_iadd C dL_law_362 ?_
        refine r_iald C (rg_ra hK1) rfl dL_law_363 fun h47 => ?_
        refine r_aload_n C dL_law_364 rfl rfl ?_
        refine r_iload C dL_law_365 rfl ?_
        refine r_iconst (v := 2) C dL_law_367 rfl ?_
        refine r_iadd C dL_law_368 ?_
        refine r_iald C (rg_ra hK1) rfl dL_law_369 fun h48 => ?_
        refine r_gd fun hK51 => ?_
        refine r_bd fun r49 h50 => ?_
        refine r_callV (As := [.int (gA r44.2 8192 x0 (x4 + (1 : Int32)).toNatClampNeg), .int (gA r44.2 8192 x0 (x4 + (2 : Int32)).toNatClampNeg)]) (st := [.int r44.1]) C (mc_X5_cloth hK51 h50) cv_L_39 hK51 rfl (Nat.le_of_ble_eq_true rfl) (Nat.le_of_ble_eq_true rfl) rfl (Nat.le_of_ble_eq_true rfl) dL_law_370 ?_
        refine r_icmpeq (tgt := 1097) C dL_law_373 (by decide) (fun h52 => ?_) (fun h52 => ?_)
        · refine r_iinc (v := 7) (ls' := [some (.ref x0), some (.ref x1), some (.ref x2), some (.ref x3), some (.int (x4 + (7 : Int32))), none, none]) C dL_law_1097 rfl rfl (Nat.le_of_ble_eq_true rfl) rfl rfl ?_
          refine r_goto (tgt := 23) C dL_law_1100 (by decide) ?_
          exact ih x0 x1 x2 x3 (x4 + (7 : Int32)) K r49.2 nx sl
        · refine r_iconst (v := 0) C dL_law_376 rfl ?_
          exact r_zret C dL_law_377 rfl rfl
      refine r_if (fun h53 => ?_) (fun h53 => ?_)
      · refine r_tableC (tgt := 378) (off := 338) C dL_law_40 h53 (by decide) (by decide) (by decide) (by decide) ?_
        refine r_aload_n C dL_law_378 rfl rfl ?_
        refine r_aload_n C dL_law_379 rfl rfl ?_
        refine r_iload C dL_law_380 rfl ?_
        refine r_iconst (v := 1) C dL_law_382 rfl ?_
        refine r_iadd C dL_law_383 ?_
        refine r_iald C (rg_ra hK1) rfl dL_law_384 fun h54 => ?_
        refine r_aload_n C dL_law_385 rfl rfl ?_
        refine r_iload C dL_law_386 rfl ?_
        refine r_iconst (v := 2) C dL_law_388 rfl ?_
        refine r_iadd C dL_law_389 ?_
        refine r_iald C (rg_ra hK1) rfl dL_law_390 fun h55 => ?_
        refine r_gd fun hK58 => ?_
        refine r_bd fun r56 h57 => ?_
        refine r_callV (As := [.int (gA P 8192 x0 (x4 + (1 : Int32)).toNatClampNeg), .int (gA P 8192 x0 (x4 + (2 : Int32)).toNatClampNeg)]) (st := []) C (mc_X1_peg hK58 h57) cv_L_40 hK58 rfl (Nat.le_of_ble_eq_true rfl) (Nat.le_of_ble_eq_true rfl) rfl (Nat.le_of_ble_eq_true rfl) dL_law_391 ?_
        refine r_aload_n C dL_law_394 rfl rfl ?_
        refine r_aload_n C dL_law_395 rfl rfl ?_
        refine r_iload C dL_law_396 rfl ?_
        refine r_iconst (v := 1) C dL_law_398 rfl ?_
        refine r_iadd C dL_law_399 ?_
        refine r_iald C (rg_ra hK1) rfl dL_law_400 fun h59 => ?_
        refine r_aload_n C dL_law_401 rfl rfl ?_
        refine r_iload C dL_law_402 rfl ?_
        refine r_iconst (v := 2) C dL_law_404 rfl ?_
        refine r_iadd C dL_law_405 ?_
        refine r_iald C (rg_ra hK1) rfl dL_law_406 fun h60 => ?_
        refine r_gd fun hK63 => ?_
        refine r_bd fun r61 h62 => ?_
        refine r_callV (As := [.int (gA P 8192 x0 (x4 + (1 : Int32)).toNatClampNeg), .int (gA P 8192 x0 (x4 + (2 : Int32)).toNatClampNeg)]) (st := [.int r56]) C (mc_X5_peg hK63 h62) cv_L_43 hK63 rfl (Nat.le_of_ble_eq_true rfl) (Nat.le_of_ble_eq_true rfl) rfl (Nat.le_of_ble_eq_true rfl) dL_law_407 ?_
        refine r_icmpeq (tgt := 1097) C dL_law_410 (by decide) (fun h64 => ?_) (fun h64 => ?_)
        · refine r_iinc (v := 7) (ls' := [some (.ref x0), some (.ref x1), some (.ref x2), some (.ref x3), some (.int (x4 + (7 : Int32))), none, none]) C dL_law_1097 rfl rfl (Nat.le_of_ble_eq_true rfl) rfl rfl ?_
          refine r_goto (tgt := 23) C dL_law_1100 (by decide) ?_
          exact ih x0 x1 x2 x3 (x4 + (7 : Int32)) K r61.2 nx sl
        · refine r_iconst (v := 0) C dL_law_413 rfl ?_
          exact r_zret C dL_law_414 rfl rfl
      refine r_if (fun h65 => ?_) (fun h65 => ?_)
      · refine r_tableC (tgt := 415) (off := 375) C dL_law_40 h65 (by decide) (by decide) (by decide) (by decide) ?_
        refine r_aload_n C dL_law_415 rfl rfl ?_
        refine r_gd fun hK68 => ?_
        refine r_bd fun r66 h67 => ?_
        refine r_callV (As := []) (st := []) C (mc_X1_free hK68 h67) cv_L_44 hK68 rfl (Nat.le_of_ble_eq_true rfl) (Nat.le_of_ble_eq_true rfl) rfl (Nat.le_of_ble_eq_true rfl) dL_law_416 ?_
        refine r_aload_n C dL_law_419 rfl rfl ?_
        refine r_gd fun hK71 => ?_
        refine r_bd fun r69 h70 => ?_
        refine r_callV (As := []) (st := [.int r66]) C (mc_X5_free hK71 h70) cv_L_47 hK71 rfl (Nat.le_of_ble_eq_true rfl) (Nat.le_of_ble_eq_true rfl) rfl (Nat.le_of_ble_eq_true rfl) dL_law_420 ?_
        refine r_icmpeq (tgt := 1097) C dL_law_423 (by decide) (fun h72 => ?_) (fun h72 => ?_)
        · refine r_iinc (v := 7) (ls' := [some (.ref x0), some (.ref x1), some (.ref x2), some (.ref x3), some (.int (x4 + (7 : Int32))), none, none]) C dL_law_1097 rfl rfl (Nat.le_of_ble_eq_true rfl) rfl rfl ?_
          refine r_goto (tgt := 23) C dL_law_1100 (by decide) ?_
          exact ih x0 x1 x2 x3 (x4 + (7 : Int32)) K r69.2 nx sl
        · refine r_iconst (v := 0) C dL_law_426 rfl ?_
          exact r_zret C dL_law_427 rfl rfl
      refine r_if (fun h73 => ?_) (fun h73 => ?_)
      · refine r_tableC (tgt := 428) (off := 388) C dL_law_40 h73 (by decide) (by decide) (by decide) (by decide) ?_
        refine r_aload_n C dL_law_428 rfl rfl ?_
        refine r_gd fun hK76 => ?_
        refine r_bd fun r74 h75 => ?_
        refine r_callV (As := []) (st := []) C (mc_X1_laws hK76 h75) cv_L_48 hK76 rfl (Nat.le_of_ble_eq_true rfl) (Nat.le_of_ble_eq_true rfl) rfl (Nat.le_of_ble_eq_true rfl) dL_law_429 ?_
        refine r_aload_n C dL_law_432 rfl rfl ?_
        refine r_gd fun hK79 => ?_
        refine r_bd fun r77 h78 => ?_
        refine r_callV (As := []) (st := [.int r74]) C (mc_X5_laws hK79 h78) cv_L_51 hK79 rfl (Nat.le_of_ble_eq_true rfl) (Nat.le_of_ble_eq_true rfl) rfl (Nat.le_of_ble_eq_true rfl) dL_law_433 ?_
        refine r_icmpeq (tgt := 1097) C dL_law_436 (by decide) (fun h80 => ?_) (fun h80 => ?_)
        · refine r_iinc (v := 7) (ls' := [some (.ref x0), some (.ref x1), some (.ref x2), some (.ref x3), some (.int (x4 + (7 : Int32))), none, none]) C dL_law_1097 rfl rfl (Nat.le_of_ble_eq_true rfl) rfl rfl ?_
          refine r_goto (tgt := 23) C dL_law_1100 (by decide) ?_
          exact ih x0 x1 x2 x3 (x4 + (7 : Int32)) K r77.2 nx sl
        · refine r_iconst (v := 0) C dL_law_439 rfl ?_
          exact r_zret C dL_law_440 rfl rfl
      refine r_if (fun h81 => ?_) (fun h81 => ?_)
      · refine r_tableC (tgt := 441) (off := 401) C dL_law_40 h81 (by decide) (by decide) (by decide) (by decide) ?_
        refine r_aload_n C dL_law_441 rfl rfl ?_
        refine r_aload_n C dL_law_442 rfl rfl ?_
        refine r_iload C dL_law_443 rfl ?_
        refine r_iconst (v := 1) C dL_law_445 rfl ?_
        refine r_iadd C dL_law_446 ?_
        refine r_iald C (rg_ra hK1) rfl dL_law_447 fun h82 => ?_
        refine r_aload_n C dL_law_448 rfl rfl ?_
        refine r_iload C dL_law_449 rfl ?_
        refine r_iconst (v := 2) C dL_law_451 rfl ?_
        refine r_iadd C dL_law_452 ?_
        refine r_iald C (rg_ra hK1) rfl dL_law_453 fun h83 => ?_
        refine r_gd fun hK86 => ?_
        refine r_bd fun r84 h85 => ?_
        refine r_acallV (As := [.int (gA P 8192 x0 (x4 + (1 : Int32)).toNatClampNeg), .int (gA P 8192 x0 (x4 + (2 : Int32)).toNatClampNeg)]) (st := []) C (mc_X1_hang hK86 h85) cv_L_52 hK86 rfl (Nat.le_of_ble_eq_true rfl) (Nat.le_of_ble_eq_true rfl) rfl (Nat.le_of_ble_eq_true rfl) dL_law_454 ?_
        refine r_aload_n C dL_law_457 rfl rfl ?_
        refine r_aload_n C dL_law_458 rfl rfl ?_
        refine r_iload C dL_law_459 rfl ?_
        refine r_iconst (v := 1) C dL_law_461 rfl ?_
        refine r_iadd C dL_law_462 ?_
        refine r_gd fun hK87 => ?_
        refine r_iald C (rg_ra hK87) rfl dL_law_463 fun h88 => ?_
        refine r_aload_n C dL_law_464 rfl rfl ?_
        refine r_iload C dL_law_465 rfl ?_
        refine r_iconst (v := 2) C dL_law_467 rfl ?_
        refine r_iadd C dL_law_468 ?_
        refine r_iald C (rg_ra hK87) rfl dL_law_469 fun h89 => ?_
        refine r_gd fun hK92 => ?_
        refine r_bd fun r90 h91 => ?_
        refine r_callV (As := [.int (gA r84.2.2.1 8192 x0 (x4 + (1 : Int32)).toNatClampNeg), .int (gA r84.2.2.1 8192 x0 (x4 + (2 : Int32)).toNatClampNeg)]) (st := [.int r84.1]) C (mc_X5_hang hK92 h91) cv_L_55 hK92 rfl (Nat.le_of_ble_eq_true rfl) (Nat.le_of_ble_eq_true rfl) rfl (Nat.le_of_ble_eq_true rfl) dL_law_470 ?_
        refine r_icmpeq (tgt := 1097) C dL_law_473 (by decide) (fun h93 => ?_) (fun h93 => ?_)
        · refine r_iinc (v := 7) (ls' := [some (.ref x0), some (.ref x1), some (.ref x2), some (.ref x3), some (.int (x4 + (7 : Int32))), none, none]) C dL_law_1097 rfl rfl (Nat.le_of_ble_eq_true rfl) rfl rfl ?_
          refine r_goto (tgt := 23) C dL_law_1100 (by decide) ?_
          exact ih x0 x1 x2 x3 (x4 + (7 : Int32)) r84.2.1 r90.2 r84.2.2.2.1 r84.2.2.2.2
        · refine r_iconst (v := 0) C dL_law_476 rfl ?_
          exact r_zret C dL_law_477 rfl rfl
      refine r_if (fun h94 => ?_) (fun h94 => ?_)
      · refine r_tableC (tgt := 478) (off := 438) C dL_law_40 h94 (by decide) (by decide) (by decide) (by decide) ?_
        refine r_aload_n C dL_law_478 rfl rfl ?_
        refine r_aload_n C dL_law_479 rfl rfl ?_
        refine r_iload C dL_law_480 rfl ?_
        refine r_iconst (v := 1) C dL_law_482 rfl ?_
        refine r_iadd C dL_law_483 ?_
        refine r_iald C (rg_ra hK1) rfl dL_law_484 fun h95 => ?_
        refine r_gd fun hK98 => ?_
        refine r_bd fun r96 h97 => ?_
        refine r_acallV (As := [.int (gA P 8192 x0 (x4 + (1 : Int32)).toNatClampNeg)]) (st := []) C (mc_X1_take hK98 h97) cv_L_56 hK98 rfl (Nat.le_of_ble_eq_true rfl) (Nat.le_of_ble_eq_true rfl) rfl (Nat.le_of_ble_eq_true rfl) dL_law_485 ?_
        refine r_aload_n C dL_law_488 rfl rfl ?_
        refine r_aload_n C dL_law_489 rfl rfl ?_
        refine r_iload C dL_law_490 rfl ?_
        refine r_iconst (v := 1) C dL_law_492 rfl ?_
        refine r_iadd C dL_law_493 ?_
        refine r_gd fun hK99 => ?_
        refine r_iald C (rg_ra hK99) rfl dL_law_494 fun h100 => ?_
        refine r_gd fun hK103 => ?_
        refine r_bd fun r101 h102 => ?_
        refine r_callV (As := [.int (gA r96.2.2.1 8192 x0 (x4 + (1 : Int32)).toNatClampNeg)]) (st := [.int r96.1]) C (mc_X5_take hK103 h102) cv_L_60 hK103 rfl (Nat.le_of_ble_eq_true rfl) (Nat.le_of_ble_eq_true rfl) rfl (Nat.le_of_ble_eq_true rfl) dL_law_495 ?_
        refine r_icmpeq (tgt := 1097) C dL_law_498 (by decide) (fun h104 => ?_) (fun h104 => ?_)
        · refine r_iinc (v := 7) (ls' := [some (.ref x0), some (.ref x1), some (.ref x2), some (.ref x3), some (.int (x4 + (7 : Int32))), none, none]) C dL_law_1097 rfl rfl (Nat.le_of_ble_eq_true rfl) rfl rfl ?_
          refine r_goto (tgt := 23) C dL_law_1100 (by decide) ?_
          exact ih x0 x1 x2 x3 (x4 + (7 : Int32)) r96.2.1 r101.2 r96.2.2.2.1 r96.2.2.2.2
        · refine r_iconst (v := 0) C dL_law_501 rfl ?_
          exact r_zret C dL_law_502 rfl rfl
      refine r_if (fun h105 => ?_) (fun h105 => ?_)
      · refine r_tableC (tgt := 503) (off := 463) C dL_law_40 h105 (by decide) (by decide) (by decide) (by decide) ?_
        refine r_aload_n C dL_law_503 rfl rfl ?_
        refine r_aload_n C dL_law_504 rfl rfl ?_
        refine r_iload C dL_law_505 rfl ?_
        refine r_iconst (v := 1) C dL_law_507 rfl ?_
        refine r_iadd C dL_law_508 ?_
        refine r_iald C (rg_ra hK1) rfl dL_law_509 fun h106 => ?_
        refine r_gd fun hK109 => ?_
        refine r_bd fun r107 h108 => ?_
        refine r_acallV (As := [.int (gA P 8192 x0 (x4 + (1 : Int32)).toNatClampNeg)]) (st := []) C (mc_X1_wash hK109 h108) cv_L_61 hK109 rfl (Nat.le_of_ble_eq_true rfl) (Nat.le_of_ble_eq_true rfl) rfl (Nat.le_of_ble_eq_true rfl) dL_law_510 ?_
        refine r_aload_n C dL_law_513 rfl rfl ?_
        refine r_aload_n C dL_law_514 rfl rfl ?_
        refine r_iload C dL_law_515 rfl ?_
        refine r_iconst (v := 1) C dL_law_517 rfl ?_
        refine r_iadd C dL_law_518 ?_
        refine r_gd fun hK110 => ?_
        refine r_iald C (rg_ra hK110) rfl dL_law_519 fun h111 => ?_
        refine r_gd fun hK114 => ?_
        refine r_bd fun r112 h113 => ?_
        refine r_callV (As := [.int (gA r107.2.2.1 8192 x0 (x4 + (1 : Int32)).toNatClampNeg)]) (st := [.int r107.1]) C (mc_X5_wash hK114 h113) cv_L_65 hK114 rfl (Nat.le_of_ble_eq_true rfl) (Nat.le_of_ble_eq_true rfl) rfl (Nat.le_of_ble_eq_true rfl) dL_law_520 ?_
        refine r_icmpeq (tgt := 1097) C dL_law_523 (by decide) (fun h115 => ?_) (fun h115 => ?_)
        · refine r_iinc (v := 7) (ls' := [some (.ref x0), some (.ref x1), some (.ref x2), some (.ref x3), some (.int (x4 + (7 : Int32))), none, none]) C dL_law_1097 rfl rfl (Nat.le_of_ble_eq_true rfl) rfl rfl ?_
          refine r_goto (tgt := 23) C dL_law_1100 (by decide) ?_
          exact ih x0 x1 x2 x3 (x4 + (7 : Int32)) r107.2.1 r112.2 r107.2.2.2.1 r107.2.2.2.2
        · refine r_iconst (v := 0) C dL_law_526 rfl ?_
          exact r_zret C dL_law_527 rfl rfl
      refine r_if (fun h116 => ?_) (fun h116 => ?_)
      · refine r_tableC (tgt := 528) (off := 488) C dL_law_40 h116 (by decide) (by decide) (by decide) (by decide) ?_
        refine r_aload_n C dL_law_528 rfl rfl ?_
        refine r_aload_n C dL_law_529 rfl rfl ?_
        refine r_iload C dL_law_530 rfl ?_
        refine r_iconst (v := 1) C dL_law_532 rfl ?_
        refine r_iadd C dL_law_533 ?_
        refine r_iald C (rg_ra hK1) rfl dL_law_534 fun h117 => ?_
        refine r_gd fun hK120 => ?_
        refine r_bd fun r118 h119 => ?_
        refine r_acallV (As := [.int (gA P 8192 x0 (x4 + (1 : Int32)).toNatClampNeg)]) (st := []) C (mc_X1_buy hK120 h119) cv_L_66 hK120 rfl (Nat.le_of_ble_eq_true rfl) (Nat.le_of_ble_eq_true rfl) rfl (Nat.le_of_ble_eq_true rfl) dL_law_535 ?_
        refine r_aload_n C dL_law_538 rfl rfl ?_
        refine r_aload_n C dL_law_539 rfl rfl ?_
        refine r_iload C dL_law_540 rfl ?_
        refine r_iconst (v := 1) C dL_law_542 rfl ?_
        refine r_iadd C dL_law_543 ?_
        refine r_gd fun hK121 => ?_
        refine r_iald C (rg_ra hK121) rfl dL_law_544 fun h122 => ?_
        refine r_gd fun hK125 => ?_
        refine r_bd fun r123 h124 => ?_
        refine r_callV (As := [.int (gA r118.2.2.1 8192 x0 (x4 + (1 : Int32)).toNatClampNeg)]) (st := [.int r118.1]) C (mc_X5_buy hK125 h124) cv_L_69 hK125 rfl (Nat.le_of_ble_eq_true rfl) (Nat.le_of_ble_eq_true rfl) rfl (Nat.le_of_ble_eq_true rfl) dL_law_545 ?_
        refine r_icmpeq (tgt := 1097) C dL_law_548 (by decide) (fun h126 => ?_) (fun h126 => ?_)
        · refine r_iinc (v := 7) (ls' := [some (.ref x0), some (.ref x1), some (.ref x2), some (.ref x3), some (.int (x4 + (7 : Int32))), none, none]) C dL_law_1097 rfl rfl (Nat.le_of_ble_eq_true rfl) rfl rfl ?_
          refine r_goto (tgt := 23) C dL_law_1100 (by decide) ?_
          exact ih x0 x1 x2 x3 (x4 + (7 : Int32)) r118.2.1 r123.2 r118.2.2.2.1 r118.2.2.2.2
        · refine r_iconst (v := 0) C dL_law_551 rfl ?_
          exact r_zret C dL_law_552 rfl rfl
      refine r_if (fun h127 => ?_) (fun h127 => ?_)
      · refine r_tableC (tgt := 553) (off := 513) C dL_law_40 h127 (by decide) (by decide) (by decide) (by decide) ?_
        refine r_aload_n C dL_law_553 rfl rfl ?_
        refine r_gd fun hK130 => ?_
        refine r_bd fun r128 h129 => ?_
        refine r_acallV (As := []) (st := []) C (mc_X1_hour hK130 h129) cv_L_70 hK130 rfl (Nat.le_of_ble_eq_true rfl) (Nat.le_of_ble_eq_true rfl) rfl (Nat.le_of_ble_eq_true rfl) dL_law_554 ?_
        refine r_aload_n C dL_law_557 rfl rfl ?_
        refine r_gd fun hK133 => ?_
        refine r_bd fun r131 h132 => ?_
        refine r_callV (As := []) (st := [.int r128.1]) C (mc_X5_hour hK133 h132) cv_L_73 hK133 rfl (Nat.le_of_ble_eq_true rfl) (Nat.le_of_ble_eq_true rfl) rfl (Nat.le_of_ble_eq_true rfl) dL_law_558 ?_
        refine r_icmpeq (tgt := 1097) C dL_law_561 (by decide) (fun h134 => ?_) (fun h134 => ?_)
        · refine r_iinc (v := 7) (ls' := [some (.ref x0), some (.ref x1), some (.ref x2), some (.ref x3), some (.int (x4 + (7 : Int32))), none, none]) C dL_law_1097 rfl rfl (Nat.le_of_ble_eq_true rfl) rfl rfl ?_
          refine r_goto (tgt := 23) C dL_law_1100 (by decide) ?_
          exact ih x0 x1 x2 x3 (x4 + (7 : Int32)) r128.2.1 r131.2 r128.2.2.2.1 r128.2.2.2.2
        · refine r_iconst (v := 0) C dL_law_564 rfl ?_
          exact r_zret C dL_law_565 rfl rfl
      refine r_if (fun h135 => ?_) (fun h135 => ?_)
      · refine r_tableC (tgt := 566) (off := 526) C dL_law_40 h135 (by decide) (by decide) (by decide) (by decide) ?_
        refine r_aload_n C dL_law_566 rfl rfl ?_
        refine r_gd fun hK138 => ?_
        refine r_bd fun r136 h137 => ?_
        refine r_callV (As := []) (st := []) C (mc_X1_undo hK138 h137) cv_L_74 hK138 rfl (Nat.le_of_ble_eq_true rfl) (Nat.le_of_ble_eq_true rfl) rfl (Nat.le_of_ble_eq_true rfl) dL_law_567 ?_
        refine r_aload_n C dL_law_570 rfl rfl ?_
        refine r_gd fun hK141 => ?_
        refine r_bd fun r139 h140 => ?_
        refine r_callV (As := []) (st := [.int r136.1]) C (mc_X5_undo hK141 h140) cv_L_78 hK141 rfl (Nat.le_of_ble_eq_true rfl) (Nat.le_of_ble_eq_true rfl) rfl (Nat.le_of_ble_eq_true rfl) dL_law_571 ?_
        refine r_icmpeq (tgt := 1097) C dL_law_574 (by decide) (fun h142 => ?_) (fun h142 => ?_)
        · refine r_iinc (v := 7) (ls' := [some (.ref x0), some (.ref x1), some (.ref x2), some (.ref x3), some (.int (x4 + (7 : Int32))), none, none]) C dL_law_1097 rfl rfl (Nat.le_of_ble_eq_true rfl) rfl rfl ?_
          refine r_goto (tgt := 23) C dL_law_1100 (by decide) ?_
          exact ih x0 x1 x2 x3 (x4 + (7 : Int32)) K r139.2 nx sl
        · refine r_iconst (v := 0) C dL_law_577 rfl ?_
          exact r_zret C dL_law_578 rfl rfl
      refine r_if (fun h143 => ?_) (fun h143 => ?_)
      · refine r_tableC (tgt := 579) (off := 539) C dL_law_40 h143 (by decide) (by decide) (by decide) (by decide) ?_
        refine r_aload_n C dL_law_579 rfl rfl ?_
        refine r_aload_n C dL_law_580 rfl rfl ?_
        refine r_iload C dL_law_581 rfl ?_
        refine r_iconst (v := 1) C dL_law_583 rfl ?_
        refine r_iadd C dL_law_584 ?_
        refine r_iald C (rg_ra hK1) rfl dL_law_585 fun h144 => ?_
        refine r_gd fun hK147 => ?_
        refine r_bd fun r145 h146 => ?_
        refine r_callV (As := [.int (gA P 8192 x0 (x4 + (1 : Int32)).toNatClampNeg)]) (st := []) C (mc_X1_judged hK147 h146) cv_L_79 hK147 rfl (Nat.le_of_ble_eq_true rfl) (Nat.le_of_ble_eq_true rfl) rfl (Nat.le_of_ble_eq_true rfl) dL_law_586 ?_
        refine r_aload_n C dL_law_589 rfl rfl ?_
        refine r_aload_n C dL_law_590 rfl rfl ?_
        refine r_iload C dL_law_591 rfl ?_
        refine r_iconst (v := 1) C dL_law_593 rfl ?_
        refine r_iadd C dL_law_594 ?_
        refine r_iald C (rg_ra hK1) rfl dL_law_595 fun h148 => ?_
        refine r_gd fun hK151 => ?_
        refine r_bd fun r149 h150 => ?_
        refine r_callV (As := [.int (gA r145.2 8192 x0 (x4 + (1 : Int32)).toNatClampNeg)]) (st := [.int r145.1]) C (mc_X5_judged hK151 h150) cv_L_82 hK151 rfl (Nat.le_of_ble_eq_true rfl) (Nat.le_of_ble_eq_true rfl) rfl (Nat.le_of_ble_eq_true rfl) dL_law_596 ?_
        refine r_icmpeq (tgt := 1097) C dL_law_599 (by decide) (fun h152 => ?_) (fun h152 => ?_)
        · refine r_iinc (v := 7) (ls' := [some (.ref x0), some (.ref x1), some (.ref x2), some (.ref x3), some (.int (x4 + (7 : Int32))), none, none]) C dL_law_1097 rfl rfl (Nat.le_of_ble_eq_true rfl) rfl rfl ?_
          refine r_goto (tgt := 23) C dL_law_1100 (by decide) ?_
          exact ih x0 x1 x2 x3 (x4 + (7 : Int32)) K r149.2 nx sl
        · refine r_iconst (v := 0) C dL_law_602 rfl ?_
          exact r_zret C dL_law_603 rfl rfl
      refine r_if (fun h153 => ?_) (fun h153 => ?_)
      · refine r_tableC (tgt := 604) (off := 564) C dL_law_40 h153 (by decide) (by decide) (by decide) (by decide) ?_
        refine r_aload_n C dL_law_604 rfl rfl ?_
        refine r_aload_n C dL_law_605 rfl rfl ?_
        refine r_iload C dL_law_606 rfl ?_
        refine r_iconst (v := 1) C dL_law_608 rfl ?_
        refine r_iadd C dL_law_609 ?_
        refine r_iald C (rg_ra hK1) rfl dL_law_610 fun h154 => ?_
        refine r_gd fun hK157 => ?_
        refine r_bd fun r155 h156 => ?_
        refine r_callV (As := [.int (gA P 8192 x0 (x4 + (1 : Int32)).toNatClampNeg)]) (st := []) C (mc_X1_holds hK157 h156) cv_L_83 hK157 rfl (Nat.le_of_ble_eq_true rfl) (Nat.le_of_ble_eq_true rfl) rfl (Nat.le_of_ble_eq_true rfl) dL_law_611 ?_
        refine r_aload_n C dL_law_614 rfl rfl ?_
        refine r_aload_n C dL_law_615 rfl rfl ?_
        refine r_iload C dL_law_616 rfl ?_
        refine r_iconst (v := 1) C dL_law_618 rfl ?_
        refine r_iadd C dL_law_619 ?_
        refine r_iald C (rg_ra hK1) rfl dL_law_620 fun h158 => ?_
        refine r_gd fun hK161 => ?_
        refine r_bd fun r159 h160 => ?_
        refine r_callV (As := [.int (gA r155.2 8192 x0 (x4 + (1 : Int32)).toNatClampNeg)]) (st := [.int r155.1]) C (mc_X5_holds hK161 h160) cv_L_86 hK161 rfl (Nat.le_of_ble_eq_true rfl) (Nat.le_of_ble_eq_true rfl) rfl (Nat.le_of_ble_eq_true rfl) dL_law_621 ?_
        refine r_icmpeq (tgt := 1097) C dL_law_624 (by decide) (fun h162 => ?_) (fun h162 => ?_)
        · refine r_iinc (v := 7) (ls' := [some (.ref x0), some (.ref x1), some (.ref x2), some (.ref x3), some (.int (x4 + (7 : Int32))), none, none]) C dL_law_1097 rfl rfl (Nat.le_of_ble_eq_true rfl) rfl rfl ?_
          refine r_goto (tgt := 23) C dL_law_1100 (by decide) ?_
          exact ih x0 x1 x2 x3 (x4 + (7 : Int32)) K r159.2 nx sl
        · refine r_iconst (v := 0) C dL_law_627 rfl ?_
          exact r_zret C dL_law_628 rfl rfl
      refine r_if (fun h163 => ?_) (fun h163 => ?_)
      · refine r_tableC (tgt := 629) (off := 589) C dL_law_40 h163 (by decide) (by decide) (by decide) (by decide) ?_
        refine r_aload_n C dL_law_629 rfl rfl ?_
        refine r_gd fun hK166 => ?_
        refine r_bd fun r164 h165 => ?_
        refine r_callV (As := []) (st := []) C (mc_X1_clashes hK166 h165) cv_L_87 hK166 rfl (Nat.le_of_ble_eq_true rfl) (Nat.le_of_ble_eq_true rfl) rfl (Nat.le_of_ble_eq_true rfl) dL_law_630 ?_
        refine r_aload_n C dL_law_633 rfl rfl ?_
        refine r_gd fun hK169 => ?_
        refine r_bd fun r167 h168 => ?_
        refine r_callV (As := []) (st := [.int r164]) C (mc_X5_clashes hK169 h168) cv_L_90 hK169 rfl (Nat.le_of_ble_eq_true rfl) (Nat.le_of_ble_eq_true rfl) rfl (Nat.le_of_ble_eq_true rfl) dL_law_634 ?_
        refine r_icmpeq (tgt := 1097) C dL_law_637 (by decide) (fun h170 => ?_) (fun h170 => ?_)
        · refine r_iinc (v := 7) (ls' := [some (.ref x0), some (.ref x1), some (.ref x2), some (.ref x3), some (.int (x4 + (7 : Int32))), none, none]) C dL_law_1097 rfl rfl (Nat.le_of_ble_eq_true rfl) rfl rfl ?_
          refine r_goto (tgt := 23) C dL_law_1100 (by decide) ?_
          exact ih x0 x1 x2 x3 (x4 + (7 : Int32)) K r167.2 nx sl
        · refine r_iconst (v := 0) C dL_law_640 rfl ?_
          exact r_zret C dL_law_641 rfl rfl
      refine r_if (fun h171 => ?_) (fun h171 => ?_)
      · refine r_tableC (tgt := 642) (off := 602) C dL_law_40 h171 (by decide) (by decide) (by decide) (by decide) ?_
        refine r_aload_n C dL_law_642 rfl rfl ?_
        refine r_aload_n C dL_law_643 rfl rfl ?_
        refine r_iload C dL_law_644 rfl ?_
        refine r_iconst (v := 1) C dL_law_646 rfl ?_
        refine r_iadd C dL_law_647 ?_
        refine r_iald C (rg_ra hK1) rfl dL_law_648 fun h172 => ?_
        refine r_gd fun hK175 => ?_
        refine r_bd fun r173 h174 => ?_
        refine r_callV (As := [.int (gA P 8192 x0 (x4 + (1 : Int32)).toNatClampNeg)]) (st := []) C (mc_X1_mend hK175 h174) cv_L_91 hK175 rfl (Nat.le_of_ble_eq_true rfl) (Nat.le_of_ble_eq_true rfl) rfl (Nat.le_of_ble_eq_true rfl) dL_law_649 ?_
        refine r_aload_n C dL_law_652 rfl rfl ?_
        refine r_aload_n C dL_law_653 rfl rfl ?_
        refine r_iload C dL_law_654 rfl ?_
        refine r_iconst (v := 1) C dL_law_656 rfl ?_
        refine r_iadd C dL_law_657 ?_
        refine r_iald C (rg_ra hK1) rfl dL_law_658 fun h176 => ?_
        refine r_gd fun hK179 => ?_
        refine r_bd fun r177 h178 => ?_
        refine r_callV (As := [.int (gA P 8192 x0 (x4 + (1 : Int32)).toNatClampNeg)]) (st := [.int r173]) C (mc_X5_mend hK179 h178) cv_L_94 hK179 rfl (Nat.le_of_ble_eq_true rfl) (Nat.le_of_ble_eq_true rfl) rfl (Nat.le_of_ble_eq_true rfl) dL_law_659 ?_
        refine r_icmpeq (tgt := 1097) C dL_law_662 (by decide) (fun h180 => ?_) (fun h180 => ?_)
        · refine r_iinc (v := 7) (ls' := [some (.ref x0), some (.ref x1), some (.ref x2), some (.ref x3), some (.int (x4 + (7 : Int32))), none, none]) C dL_law_1097 rfl rfl (Nat.le_of_ble_eq_true rfl) rfl rfl ?_
          refine r_goto (tgt := 23) C dL_law_1100 (by decide) ?_
          exact ih x0 x1 x2 x3 (x4 + (7 : Int32)) K r177.2 nx sl
        · refine r_iconst (v := 0) C dL_law_665 rfl ?_
          exact r_zret C dL_law_666 rfl rfl
      refine r_if (fun h181 => ?_) (fun h181 => ?_)
      · refine r_tableC (tgt := 667) (off := 627) C dL_law_40 h181 (by decide) (by decide) (by decide) (by decide) ?_
        refine r_aload_n C dL_law_667 rfl rfl ?_
        refine r_aload_n C dL_law_668 rfl rfl ?_
        refine r_iload C dL_law_669 rfl ?_
        refine r_iconst (v := 1) C dL_law_671 rfl ?_
        refine r_iadd C dL_law_672 ?_
        refine r_iald C (rg_ra hK1) rfl dL_law_673 fun h182 => ?_
        refine r_aload_n C dL_law_674 rfl rfl ?_
        refine r_iload C dL_law_675 rfl ?_
        refine r_iconst (v := 2) C dL_law_677 rfl ?_
        refine r_iadd C dL_law_678 ?_
        refine r_iald C (rg_ra hK1) rfl dL_law_679 fun h183 => ?_
        refine r_gd fun hK186 => ?_
        refine r_bd fun r184 h185 => ?_
        refine r_callV (As := [.int (gA P 8192 x0 (x4 + (1 : Int32)).toNatClampNeg), .int (gA P 8192 x0 (x4 + (2 : Int32)).toNatClampNeg)]) (st := []) C (mc_X1_fill hK186 h185) cv_L_95 hK186 rfl (Nat.le_of_ble_eq_true rfl) (Nat.le_of_ble_eq_true rfl) rfl (Nat.le_of_ble_eq_true rfl) dL_law_680 ?_
        refine r_aload_n C dL_law_683 rfl rfl ?_
        refine r_aload_n C dL_law_684 rfl rfl ?_
        refine r_iload C dL_law_685 rfl ?_
        refine r_iconst (v := 1) C dL_law_687 rfl ?_
        refine r_iadd C dL_law_688 ?_
        refine r_iald C (rg_ra hK1) rfl dL_law_689 fun h187 => ?_
        refine r_aload_n C dL_law_690 rfl rfl ?_
        refine r_iload C dL_law_691 rfl ?_
        refine r_iconst (v := 2) C dL_law_693 rfl ?_
        refine r_iadd C dL_law_694 ?_
        refine r_iald C (rg_ra hK1) rfl dL_law_695 fun h188 => ?_
        refine r_gd fun hK191 => ?_
        refine r_bd fun r189 h190 => ?_
        refine r_callV (As := [.int (gA r184.2 8192 x0 (x4 + (1 : Int32)).toNatClampNeg), .int (gA r184.2 8192 x0 (x4 + (2 : Int32)).toNatClampNeg)]) (st := [.int r184.1]) C (mc_X5_fill hK191 h190) cv_L_98 hK191 rfl (Nat.le_of_ble_eq_true rfl) (Nat.le_of_ble_eq_true rfl) rfl (Nat.le_of_ble_eq_true rfl) dL_law_696 ?_
        refine r_icmpeq (tgt := 1097) C dL_law_699 (by decide) (fun h192 => ?_) (fun h192 => ?_)
        · refine r_iinc (v := 7) (ls' := [some (.ref x0), some (.ref x1), some (.ref x2), some (.ref x3), some (.int (x4 + (7 : Int32))), none, none]) C dL_law_1097 rfl rfl (Nat.le_of_ble_eq_true rfl) rfl rfl ?_
          refine r_goto (tgt := 23) C dL_law_1100 (by decide) ?_
          exact ih x0 x1 x2 x3 (x4 + (7 : Int32)) K r189.2 nx sl
        · refine r_iconst (v := 0) C dL_law_702 rfl ?_
          exact r_zret C dL_law_703 rfl rfl
      refine r_if (fun h193 => ?_) (fun h193 => ?_)
      · refine r_tableC (tgt := 704) (off := 664) C dL_law_40 h193 (by decide) (by decide) (by decide) (by decide) ?_
        refine r_aload_n C dL_law_704 rfl rfl ?_
        refine r_aload_n C dL_law_705 rfl rfl ?_
        refine r_iload C dL_law_706 rfl ?_
        refine r_iconst (v := 1) C dL_law_708 rfl ?_
        refine r_iadd C dL_law_709 ?_
        refine r_iald C (rg_ra hK1) rfl dL_law_710 fun h194 => ?_
        refine r_aload_n C dL_law_711 rfl rfl ?_
        refine r_iload C dL_law_712 rfl ?_
        refine r_iconst (v := 2) C dL_law_714 rfl ?_
        refine r_iadd C dL_law_715 ?_
        refine r_iald C (rg_ra hK1) rfl dL_law_716 fun h195 => ?_
        refine r_gd fun hK198 => ?_
        refine r_bd fun r196 h197 => ?_
        refine r_acallV (As := [.int (gA P 8192 x0 (x4 + (1 : Int32)).toNatClampNeg), .int (gA P 8192 x0 (x4 + (2 : Int32)).toNatClampNeg)]) (st := []) C (mc_X1_odds hK198 h197) cv_L_99 hK198 rfl (Nat.le_of_ble_eq_true rfl) (Nat.le_of_ble_eq_true rfl) rfl (Nat.le_of_ble_eq_true rfl) dL_law_717 ?_
        refine r_aload_n C dL_law_720 rfl rfl ?_
        refine r_aload_n C dL_law_721 rfl rfl ?_
        refine r_iload C dL_law_722 rfl ?_
        refine r_iconst (v := 1) C dL_law_724 rfl ?_
        refine r_iadd C dL_law_725 ?_
        refine r_gd fun hK199 => ?_
        refine r_iald C (rg_ra hK199) rfl dL_law_726 fun h200 => ?_
        refine r_aload_n C dL_law_727 rfl rfl ?_
        refine r_iload C dL_law_728 rfl ?_
        refine r_iconst (v := 2) C dL_law_730 rfl ?_
        refine r_iadd C dL_law_731 ?_
        refine r_iald C (rg_ra hK199) rfl dL_law_732 fun h201 => ?_
        refine r_gd fun hK204 => ?_
        refine r_bd fun r202 h203 => ?_
        refine r_callV (As := [.int (gA r196.2.2.1 8192 x0 (x4 + (1 : Int32)).toNatClampNeg), .int (gA r196.2.2.1 8192 x0 (x4 + (2 : Int32)).toNatClampNeg)]) (st := [.int r196.1]) C (mc_X5_odds hK204 h203) cv_L_102 hK204 rfl (Nat.le_of_ble_eq_true rfl) (Nat.le_of_ble_eq_true rfl) rfl (Nat.le_of_ble_eq_true rfl) dL_law_733 ?_
        refine r_icmpeq (tgt := 1097) C dL_law_736 (by decide) (fun h205 => ?_) (fun h205 => ?_)
        · refine r_iinc (v := 7) (ls' := [some (.ref x0), some (.ref x1), some (.ref x2), some (.ref x3), some (.int (x4 + (7 : Int32))), none, none]) C dL_law_1097 rfl rfl (Nat.le_of_ble_eq_true rfl) rfl rfl ?_
          refine r_goto (tgt := 23) C dL_law_1100 (by decide) ?_
          exact ih x0 x1 x2 x3 (x4 + (7 : Int32)) r196.2.1 r202.2 r196.2.2.2.1 r196.2.2.2.2
        · refine r_iconst (v := 0) C dL_law_739 rfl ?_
          exact r_zret C dL_law_740 rfl rfl
      refine r_if (fun h206 => ?_) (fun h206 => ?_)
      · refine r_tableC (tgt := 741) (off := 701) C dL_law_40 h206 (by decide) (by decide) (by decide) (by decide) ?_
        refine r_aload_n C dL_law_741 rfl rfl ?_
        refine r_aload_n C dL_law_742 rfl rfl ?_
        refine r_iload C dL_law_743 rfl ?_
        refine r_iconst (v := 1) C dL_law_745 rfl ?_
        refine r_iadd C dL_law_746 ?_
        refine r_iald C (rg_ra hK1) rfl dL_law_747 fun h207 => ?_
        refine r_gd fun hK210 => ?_
        refine r_bd fun r208 h209 => ?_
        refine r_callV (As := [.int (gA P 8192 x0 (x4 + (1 : Int32)).toNatClampNeg)]) (st := []) C (mc_X1_dry hK210 h209) cv_L_103 hK210 rfl (Nat.le_of_ble_eq_true rfl) (Nat.le_of_ble_eq_true rfl) rfl (Nat.le_of_ble_eq_true rfl) dL_law_748 ?_
        refine r_aload_n C dL_law_751 rfl rfl ?_
        refine r_aload_n C dL_law_752 rfl rfl ?_
        refine r_iload C dL_law_753 rfl ?_
        refine r_iconst (v := 1) C dL_law_755 rfl ?_
        refine r_iadd C dL_law_756 ?_
        refine r_iald C (rg_ra hK1) rfl dL_law_757 fun h211 => ?_
        refine r_gd fun hK214 => ?_
        refine r_bd fun r212 h213 => ?_
        refine r_callV (As := [.int (gA r208.2 8192 x0 (x4 + (1 : Int32)).toNatClampNeg)]) (st := [.int r208.1]) C (mc_X5_dry hK214 h213) cv_L_106 hK214 rfl (Nat.le_of_ble_eq_true rfl) (Nat.le_of_ble_eq_true rfl) rfl (Nat.le_of_ble_eq_true rfl) dL_law_758 ?_
        refine r_icmpeq (tgt := 1097) C dL_law_761 (by decide) (fun h215 => ?_) (fun h215 => ?_)
        · refine r_iinc (v := 7) (ls' := [some (.ref x0), some (.ref x1), some (.ref x2), some (.ref x3), some (.int (x4 + (7 : Int32))), none, none]) C dL_law_1097 rfl rfl (Nat.le_of_ble_eq_true rfl) rfl rfl ?_
          refine r_goto (tgt := 23) C dL_law_1100 (by decide) ?_
          exact ih x0 x1 x2 x3 (x4 + (7 : Int32)) K r212.2 nx sl
        · refine r_iconst (v := 0) C dL_law_764 rfl ?_
          exact r_zret C dL_law_765 rfl rfl
      refine r_if (fun h216 => ?_) (fun h216 => ?_)
      · refine r_tableC (tgt := 766) (off := 726) C dL_law_40 h216 (by decide) (by decide) (by decide) (by decide) ?_
        refine r_aload_n C dL_law_766 rfl rfl ?_
        refine r_aload_n C dL_law_767 rfl rfl ?_
        refine r_iload C dL_law_768 rfl ?_
        refine r_iconst (v := 1) C dL_law_770 rfl ?_
        refine r_iadd C dL_law_771 ?_
        refine r_iald C (rg_ra hK1) rfl dL_law_772 fun h217 => ?_
        refine r_aload_n C dL_law_773 rfl rfl ?_
        refine r_iload C dL_law_774 rfl ?_
        refine r_iconst (v := 2) C dL_law_776 rfl ?_
        refine r_iadd C dL_law_777 ?_
        refine r_iald C (rg_ra hK1) rfl dL_law_778 fun h218 => ?_
        refine r_aload_n C dL_law_779 rfl rfl ?_
        refine r_iload C dL_law_780 rfl ?_
        refine r_iconst (v := 3) C dL_law_782 rfl ?_
        refine r_iadd C dL_law_783 ?_
        refine r_iald C (rg_ra hK1) rfl dL_law_784 fun h219 => ?_
        refine r_gd fun hK222 => ?_
        refine r_bd fun r220 h221 => ?_
        refine r_callV (As := [.int (gA P 8192 x0 (x4 + (1 : Int32)).toNatClampNeg), .int (gA P 8192 x0 (x4 + (2 : Int32)).toNatClampNeg), .int (gA P 8192 x0 (x4 + (3 : Int32)).toNatClampNeg)]) (st := []) C (mc_X1_feel hK222 h221) cv_L_107 hK222 rfl (Nat.le_of_ble_eq_true rfl) (Nat.le_of_ble_eq_true rfl) rfl (Nat.le_of_ble_eq_true rfl) dL_law_785 ?_
        refine r_aload_n C dL_law_788 rfl rfl ?_
        refine r_aload_n C dL_law_789 rfl rfl ?_
        refine r_iload C dL_law_790 rfl ?_
        refine r_iconst (v := 1) C dL_law_792 rfl ?_
        refine r_iadd C dL_law_793 ?_
        refine r_iald C (rg_ra hK1) rfl dL_law_794 fun h223 => ?_
        refine r_aload_n C dL_law_795 rfl rfl ?_
        refine r_iload C dL_law_796 rfl ?_
        refine r_iconst (v := 2) C dL_law_798 rfl ?_
        refine r_iadd C dL_law_799 ?_
        refine r_iald C (rg_ra hK1) rfl dL_law_800 fun h224 => ?_
        refine r_aload_n C dL_law_801 rfl rfl ?_
        refine r_iload C dL_law_802 rfl ?_
        refine r_iconst (v := 3) C dL_law_804 rfl ?_
        refine r_iadd C dL_law_805 ?_
        refine r_iald C (rg_ra hK1) rfl dL_law_806 fun h225 => ?_
        refine r_gd fun hK228 => ?_
        refine r_bd fun r226 h227 => ?_
        refine r_callV (As := [.int (gA r220.2 8192 x0 (x4 + (1 : Int32)).toNatClampNeg), .int (gA r220.2 8192 x0 (x4 + (2 : Int32)).toNatClampNeg), .int (gA r220.2 8192 x0 (x4 + (3 : Int32)).toNatClampNeg)]) (st := [.int r220.1]) C (mc_X5_feel hK228 h227) cv_L_111 hK228 rfl (Nat.le_of_ble_eq_true rfl) (Nat.le_of_ble_eq_true rfl) rfl (Nat.le_of_ble_eq_true rfl) dL_law_807 ?_
        refine r_icmpeq (tgt := 1097) C dL_law_810 (by decide) (fun h229 => ?_) (fun h229 => ?_)
        · refine r_iinc (v := 7) (ls' := [some (.ref x0), some (.ref x1), some (.ref x2), some (.ref x3), some (.int (x4 + (7 : Int32))), none, none]) C dL_law_1097 rfl rfl (Nat.le_of_ble_eq_true rfl) rfl rfl ?_
          refine r_goto (tgt := 23) C dL_law_1100 (by decide) ?_
          exact ih x0 x1 x2 x3 (x4 + (7 : Int32)) K r226.2 nx sl
        · refine r_iconst (v := 0) C dL_law_813 rfl ?_
          exact r_zret C dL_law_814 rfl rfl
      refine r_if (fun h230 => ?_) (fun h230 => ?_)
      · refine r_tableC (tgt := 815) (off := 775) C dL_law_40 h230 (by decide) (by decide) (by decide) (by decide) ?_
        refine r_aload_n C dL_law_815 rfl rfl ?_
        refine r_gd fun hK233 => ?_
        refine r_bd fun r231 h232 => ?_
        refine r_callV (As := []) (st := []) C (mc_X1_starts hK233 h232) cv_L_112 hK233 rfl (Nat.le_of_ble_eq_true rfl) (Nat.le_of_ble_eq_true rfl) rfl (Nat.le_of_ble_eq_true rfl) dL_law_816 ?_
        refine r_aload_n C dL_law_819 rfl rfl ?_
        refine r_gd fun hK236 => ?_
        refine r_bd fun r234 h235 => ?_
        refine r_callV (As := []) (st := [.int r231.1]) C (mc_X5_starts_2 hK236 h235) cv_L_115 hK236 rfl (Nat.le_of_ble_eq_true rfl) (Nat.le_of_ble_eq_true rfl) rfl (Nat.le_of_ble_eq_true rfl) dL_law_820 ?_
        refine r_icmpeq (tgt := 1097) C dL_law_823 (by decide) (fun h237 => ?_) (fun h237 => ?_)
        · refine r_iinc (v := 7) (ls' := [some (.ref x0), some (.ref x1), some (.ref x2), some (.ref x3), some (.int (x4 + (7 : Int32))), none, none]) C dL_law_1097 rfl rfl (Nat.le_of_ble_eq_true rfl) rfl rfl ?_
          refine r_goto (tgt := 23) C dL_law_1100 (by decide) ?_
          exact ih x0 x1 x2 x3 (x4 + (7 : Int32)) K r234.2 nx sl
        · refine r_iconst (v := 0) C dL_law_826 rfl ?_
          exact r_zret C dL_law_827 rfl rfl
      refine r_if (fun h238 => ?_) (fun h238 => ?_)
      · refine r_tableC (tgt := 828) (off := 788) C dL_law_40 h238 (by decide) (by decide) (by decide) (by decide) ?_
        refine r_aload_n C dL_law_828 rfl rfl ?_
        refine r_aload_n C dL_law_829 rfl rfl ?_
        refine r_iload C dL_law_830 rfl ?_
        refine r_iconst (v := 1) C dL_law_832 rfl ?_
        refine r_iadd C dL_law_833 ?_
        refine r_iald C (rg_ra hK1) rfl dL_law_834 fun h239 => ?_
        refine r_gd fun hK242 => ?_
        refine r_bd fun r240 h241 => ?_
        refine r_callV (As := [.int (gA P 8192 x0 (x4 + (1 : Int32)).toNatClampNeg)]) (st := []) C (mc_X1_ask hK242 h241) cv_L_116 hK242 rfl (Nat.le_of_ble_eq_true rfl) (Nat.le_of_ble_eq_true rfl) rfl (Nat.le_of_ble_eq_true rfl) dL_law_835 ?_
        refine r_aload_n C dL_law_838 rfl rfl ?_
        refine r_aload_n C dL_law_839 rfl rfl ?_
        refine r_iload C dL_law_840 rfl ?_
        refine r_iconst (v := 1) C dL_law_842 rfl ?_
        refine r_iadd C dL_law_843 ?_
        refine r_iald C (rg_ra hK1) rfl dL_law_844 fun h243 => ?_
        refine r_gd fun hK246 => ?_
        refine r_bd fun r244 h245 => ?_
        refine r_callV (As := [.int (gA r240.2 8192 x0 (x4 + (1 : Int32)).toNatClampNeg)]) (st := [.int r240.1]) C (mc_X5_ask hK246 h245) cv_L_119 hK246 rfl (Nat.le_of_ble_eq_true rfl) (Nat.le_of_ble_eq_true rfl) rfl (Nat.le_of_ble_eq_true rfl) dL_law_845 ?_
        refine r_icmpeq (tgt := 1097) C dL_law_848 (by decide) (fun h247 => ?_) (fun h247 => ?_)
        · refine r_iinc (v := 7) (ls' := [some (.ref x0), some (.ref x1), some (.ref x2), some (.ref x3), some (.int (x4 + (7 : Int32))), none, none]) C dL_law_1097 rfl rfl (Nat.le_of_ble_eq_true rfl) rfl rfl ?_
          refine r_goto (tgt := 23) C dL_law_1100 (by decide) ?_
          exact ih x0 x1 x2 x3 (x4 + (7 : Int32)) K r244.2 nx sl
        · refine r_iconst (v := 0) C dL_law_851 rfl ?_
          exact r_zret C dL_law_852 rfl rfl
      refine r_if (fun h248 => ?_) (fun h248 => ?_)
      · refine r_tableC (tgt := 853) (off := 813) C dL_law_40 h248 (by decide) (by decide) (by decide) (by decide) ?_
        refine r_aload_n C dL_law_853 rfl rfl ?_
        refine r_aload_n C dL_law_854 rfl rfl ?_
        refine r_iload C dL_law_855 rfl ?_
        refine r_iconst (v := 1) C dL_law_857 rfl ?_
        refine r_iadd C dL_law_858 ?_
        refine r_iald C (rg_ra hK1) rfl dL_law_859 fun h249 => ?_
        refine r_gd fun hK252 => ?_
        refine r_bd fun r250 h251 => ?_
        refine r_callV (As := [.int (gA P 8192 x0 (x4 + (1 : Int32)).toNatClampNeg)]) (st := []) C (mc_X1_change hK252 h251) cv_L_120 hK252 rfl (Nat.le_of_ble_eq_true rfl) (Nat.le_of_ble_eq_true rfl) rfl (Nat.le_of_ble_eq_true rfl) dL_law_860 ?_
        refine r_aload_n C dL_law_863 rfl rfl ?_
        refine r_aload_n C dL_law_864 rfl rfl ?_
        refine r_iload C dL_law_865 rfl ?_
        refine r_iconst (v := 1) C dL_law_867 rfl ?_
        refine r_iadd C dL_law_868 ?_
        refine r_iald C (rg_ra hK1) rfl dL_law_869 fun h253 => ?_
        refine r_gd fun hK256 => ?_
        refine r_bd fun r254 h255 => ?_
        refine r_callV (As := [.int (gA r250.2 8192 x0 (x4 + (1 : Int32)).toNatClampNeg)]) (st := [.int r250.1]) C (mc_X5_change hK256 h255) cv_L_123 hK256 rfl (Nat.le_of_ble_eq_true rfl) (Nat.le_of_ble_eq_true rfl) rfl (Nat.le_of_ble_eq_true rfl) dL_law_870 ?_
        refine r_icmpeq (tgt := 1097) C dL_law_873 (by decide) (fun h257 => ?_) (fun h257 => ?_)
        · refine r_iinc (v := 7) (ls' := [some (.ref x0), some (.ref x1), some (.ref x2), some (.ref x3), some (.int (x4 + (7 : Int32))), none, none]) C dL_law_1097 rfl rfl (Nat.le_of_ble_eq_true rfl) rfl rfl ?_
          refine r_goto (tgt := 23) C dL_law_1100 (by decide) ?_
          exact ih x0 x1 x2 x3 (x4 + (7 : Int32)) K r254.2 nx sl
        · refine r_iconst (v := 0) C dL_law_876 rfl ?_
          exact r_zret C dL_law_877 rfl rfl
      refine r_if (fun h258 => ?_) (fun h258 => ?_)
      · refine r_tableC (tgt := 878) (off := 838) C dL_law_40 h258 (by decide) (by decide) (by decide) (by decide) ?_
        refine r_aload_n C dL_law_878 rfl rfl ?_
        refine r_aload_n C dL_law_879 rfl rfl ?_
        refine r_iload C dL_law_880 rfl ?_
        refine r_iconst (v := 1) C dL_law_882 rfl ?_
        refine r_iadd C dL_law_883 ?_
        refine r_iald C (rg_ra hK1) rfl dL_law_884 fun h259 => ?_
        refine r_aload_n C dL_law_885 rfl rfl ?_
        refine r_iload C dL_law_886 rfl ?_
        refine r_iconst (v := 2) C dL_law_888 rfl ?_
        refine r_iadd C dL_law_889 ?_
        refine r_iald C (rg_ra hK1) rfl dL_law_890 fun h260 => ?_
        refine r_aload_n C dL_law_891 rfl rfl ?_
        refine r_iload C dL_law_892 rfl ?_
        refine r_iconst (v := 3) C dL_law_894 rfl ?_
        refine r_iadd C dL_law_895 ?_
        refine r_iald C (rg_ra hK1) rfl dL_law_896 fun h261 => ?_
        refine r_aload_n C dL_law_897 rfl rfl ?_
        refine r_iload C dL_law_898 rfl ?_
        refine r_iconst (v := 4) C dL_law_900 rfl ?_
        refine r_iadd C dL_law_901 ?_
        refine r_iald C (rg_ra hK1) rfl dL_law_902 fun h262 => ?_
        refine r_aload_n C dL_law_903 rfl rfl ?_
        refine r_bd fun r263 h264 => ?_
        refine r_acallSW (As := [.ref x1, .int (gA P 8192 x0 (x4 + (1 : Int32)).toNatClampNeg), .int (gA P 8192 x0 (x4 + (2 : Int32)).toNatClampNeg), .int (gA P 8192 x0 (x4 + (3 : Int32)).toNatClampNeg), .int (gA P 8192 x0 (x4 + (4 : Int32)).toNatClampNeg), .ref x3]) (st := []) C (mc_X0_rests hfl h264) cv_L_124  rfl (Nat.le_of_ble_eq_true rfl) (Nat.le_of_ble_eq_true rfl) rfl (Nat.le_of_ble_eq_true rfl) dL_law_904 ?_
        refine r_istore (ls' := [some (.ref x0), some (.ref x1), some (.ref x2), some (.ref x3), some (.int x4), some (.int r263.1), none]) C dL_law_907 (Nat.le_of_ble_eq_true rfl) rfl rfl ?_
        refine r_aload_n C dL_law_909 rfl rfl ?_
        refine r_aload_n C dL_law_910 rfl rfl ?_
        refine r_iload C dL_law_911 rfl ?_
        refine r_iconst (v := 1) C dL_law_913 rfl ?_
        refine r_iadd C dL_law_914 ?_
        refine r_gd fun hK265 => ?_
        refine r_iald C (rg_ra hK265) rfl dL_law_915 fun h266 => ?_
        refine r_aload_n C dL_law_916 rfl rfl ?_
        refine r_iload C dL_law_917 rfl ?_
        refine r_iconst (v := 2) C dL_law_919 rfl ?_
        refine r_iadd C dL_law_920 ?_
        refine r_iald C (rg_ra hK265) rfl dL_law_921 fun h267 => ?_
        refine r_aload_n C dL_law_922 rfl rfl ?_
        refine r_iload C dL_law_923 rfl ?_
        refine r_iconst (v := 3) C dL_law_925 rfl ?_
        refine r_iadd C dL_law_926 ?_
        refine r_iald C (rg_ra hK265) rfl dL_law_927 fun h268 => ?_
        refine r_aload_n C dL_law_928 rfl rfl ?_
        refine r_iload C dL_law_929 rfl ?_
        refine r_iconst (v := 4) C dL_law_931 rfl ?_
        refine r_iadd C dL_law_932 ?_
        refine r_iald C (rg_ra hK265) rfl dL_law_933 fun h269 => ?_
        refine r_gd fun hK272 => ?_
        refine r_bd fun r270 h271 => ?_
        refine r_callV (As := [.int (gA r263.2.2.1 8192 x0 (x4 + (1 : Int32)).toNatClampNeg), .int (gA r263.2.2.1 8192 x0 (x4 + (2 : Int32)).toNatClampNeg), .int (gA r263.2.2.1 8192 x0 (x4 + (3 : Int32)).toNatClampNeg), .int (gA r263.2.2.1 8192 x0 (x4 + (4 : Int32)).toNatClampNeg)]) (st := []) C (mc_X5_rests hK272 h271) cv_L_129 hK272 rfl (Nat.le_of_ble_eq_true rfl) (Nat.le_of_ble_eq_true rfl) rfl (Nat.le_of_ble_eq_true rfl) dL_law_934 ?_
        refine r_istore (ls' := [some (.ref x0), some (.ref x1), some (.ref x2), some (.ref x3), some (.int x4), some (.int r263.1), some (.int r270.1)]) C dL_law_937 (Nat.le_of_ble_eq_true rfl) rfl rfl ?_
        refine r_aload_n C dL_law_939 rfl rfl ?_
        refine r_bd fun r273 h274 => ?_
        refine r_callV (As := []) (st := []) C (mc_X5_thrown hK272 h274) cv_L_130 hK272 rfl (Nat.le_of_ble_eq_true rfl) (Nat.le_of_ble_eq_true rfl) rfl (Nat.le_of_ble_eq_true rfl) dL_law_940 ?_
        refine r_iload C dL_law_943 rfl ?_
        refine r_icmpeq (tgt := 950) C dL_law_945 (by decide) (fun h275 => ?_) (fun h275 => ?_)
        · refine r_iload C dL_law_950 rfl ?_
          refine r_ifne (tgt := 967) C dL_law_952 (by decide) (fun h276 => ?_) (fun h276 => ?_)
          · refine r_goto (tgt := 1097) C dL_law_967 (by decide) ?_
            refine r_iinc (v := 7) (ls' := [some (.ref x0), some (.ref x1), some (.ref x2), some (.ref x3), some (.int (x4 + (7 : Int32))), some (.int r263.1), some (.int r270.1)]) C dL_law_1097 rfl rfl (Nat.le_of_ble_eq_true rfl) rfl rfl ?_
            refine r_goto (tgt := 23) C dL_law_1100 (by decide) ?_
            refine r_mask [true, true, true, true, true, false, false] (ls' := [some (.ref x0), some (.ref x1), some (.ref x2), some (.ref x3), some (.int (x4 + (7 : Int32))), none, none]) rfl ?_
            exact ih x0 x1 x2 x3 (x4 + (7 : Int32)) r263.2.1 r270.2 r263.2.2.2.1 r263.2.2.2.2
          · refine r_aload_n C dL_law_955 rfl rfl ?_
            refine r_iconst (v := 0) C dL_law_956 rfl ?_
            refine r_gd fun hK277 => ?_
            refine r_lald C (rg_sa (ek := 2) hK277) rfl dL_law_957 fun h278 => ?_
            refine r_iload C dL_law_958 rfl ?_
            refine r_i2l C dL_law_960 ?_
            refine r_lcmp C dL_law_961 ?_
            refine r_ifeq (tgt := 967) C dL_law_962 (by decide) (fun h279 => ?_) (fun h279 => ?_)
            · refine r_goto (tgt := 1097) C dL_law_967 (by decide) ?_
              refine r_iinc (v := 7) (ls' := [some (.ref x0), some (.ref x1), some (.ref x2), some (.ref x3), some (.int (x4 + (7 : Int32))), some (.int r263.1), some (.int r270.1)]) C dL_law_1097 rfl rfl (Nat.le_of_ble_eq_true rfl) rfl rfl ?_
              refine r_goto (tgt := 23) C dL_law_1100 (by decide) ?_
              refine r_mask [true, true, true, true, true, false, false] (ls' := [some (.ref x0), some (.ref x1), some (.ref x2), some (.ref x3), some (.int (x4 + (7 : Int32))), none, none]) rfl ?_
              exact ih x0 x1 x2 x3 (x4 + (7 : Int32)) r263.2.1 r270.2 r263.2.2.2.1 r263.2.2.2.2
            · refine r_iconst (v := 0) C dL_law_965 rfl ?_
              exact r_zret C dL_law_966 rfl rfl
        · refine r_iconst (v := 0) C dL_law_948 rfl ?_
          exact r_zret C dL_law_949 rfl rfl
      refine r_if (fun h280 => ?_) (fun h280 => ?_)
      · refine r_tableC (tgt := 970) (off := 930) C dL_law_40 h280 (by decide) (by decide) (by decide) (by decide) ?_
        refine r_aload_n C dL_law_970 rfl rfl ?_
        refine r_aload_n C dL_law_971 rfl rfl ?_
        refine r_iload C dL_law_972 rfl ?_
        refine r_iconst (v := 1) C dL_law_974 rfl ?_
        refine r_iadd C dL_law_975 ?_
        refine r_iald C (rg_ra hK1) rfl dL_law_976 fun h281 => ?_
        refine r_aload_n C dL_law_977 rfl rfl ?_
        refine r_iload C dL_law_978 rfl ?_
        refine r_iconst (v := 2) C dL_law_980 rfl ?_
        refine r_iadd C dL_law_981 ?_
        refine r_iald C (rg_ra hK1) rfl dL_law_982 fun h282 => ?_
        refine r_aload_n C dL_law_983 rfl rfl ?_
        refine r_iload C dL_law_984 rfl ?_
        refine r_iconst (v := 3) C dL_law_986 rfl ?_
        refine r_iadd C dL_law_987 ?_
        refine r_iald C (rg_ra hK1) rfl dL_law_988 fun h283 => ?_
        refine r_gd fun hK286 => ?_
        refine r_bd fun r284 h285 => ?_
        refine r_callV (As := [.int (gA P 8192 x0 (x4 + (1 : Int32)).toNatClampNeg), .int (gA P 8192 x0 (x4 + (2 : Int32)).toNatClampNeg), .int (gA P 8192 x0 (x4 + (3 : Int32)).toNatClampNeg)]) (st := []) C (mc_X1_decades hK286 h285) cv_L_133 hK286 rfl (Nat.le_of_ble_eq_true rfl) (Nat.le_of_ble_eq_true rfl) rfl (Nat.le_of_ble_eq_true rfl) dL_law_989 ?_
        refine r_aload_n C dL_law_992 rfl rfl ?_
        refine r_aload_n C dL_law_993 rfl rfl ?_
        refine r_iload C dL_law_994 rfl ?_
        refine r_iconst (v := 1) C dL_law_996 rfl ?_
        refine r_iadd C dL_law_997 ?_
        refine r_iald C (rg_ra hK1) rfl dL_law_998 fun h287 => ?_
        refine r_aload_n C dL_law_999 rfl rfl ?_
        refine r_iload C dL_law_1000 rfl ?_
        refine r_iconst (v := 2) C dL_law_1002 rfl ?_
        refine r_iadd C dL_law_1003 ?_
        refine r_iald C (rg_ra hK1) rfl dL_law_1004 fun h288 => ?_
        refine r_aload_n C dL_law_1005 rfl rfl ?_
        refine r_iload C dL_law_1006 rfl ?_
        refine r_iconst (v := 3) C dL_law_1008 rfl ?_
        refine r_iadd C dL_law_1009 ?_
        refine r_iald C (rg_ra hK1) rfl dL_law_1010 fun h289 => ?_
        refine r_gd fun hK292 => ?_
        refine r_bd fun r290 h291 => ?_
        refine r_callV (As := [.int (gA r284.2 8192 x0 (x4 + (1 : Int32)).toNatClampNeg), .int (gA r284.2 8192 x0 (x4 + (2 : Int32)).toNatClampNeg), .int (gA r284.2 8192 x0 (x4 + (3 : Int32)).toNatClampNeg)]) (st := [.int r284.1]) C (mc_X5_decades hK292 h291) cv_L_137 hK292 rfl (Nat.le_of_ble_eq_true rfl) (Nat.le_of_ble_eq_true rfl) rfl (Nat.le_of_ble_eq_true rfl) dL_law_1011 ?_
        refine r_icmpeq (tgt := 1097) C dL_law_1014 (by decide) (fun h293 => ?_) (fun h293 => ?_)
        · refine r_iinc (v := 7) (ls' := [some (.ref x0), some (.ref x1), some (.ref x2), some (.ref x3), some (.int (x4 + (7 : Int32))), none, none]) C dL_law_1097 rfl rfl (Nat.le_of_ble_eq_true rfl) rfl rfl ?_
          refine r_goto (tgt := 23) C dL_law_1100 (by decide) ?_
          exact ih x0 x1 x2 x3 (x4 + (7 : Int32)) K r290.2 nx sl
        · refine r_iconst (v := 0) C dL_law_1017 rfl ?_
          exact r_zret C dL_law_1018 rfl rfl
      refine r_if (fun h294 => ?_) (fun h294 => ?_)
      · refine r_tableC (tgt := 1019) (off := 979) C dL_law_40 h294 (by decide) (by decide) (by decide) (by decide) ?_
        refine r_aload_n C dL_law_1019 rfl rfl ?_
        refine r_aload_n C dL_law_1020 rfl rfl ?_
        refine r_iload C dL_law_1021 rfl ?_
        refine r_iconst (v := 1) C dL_law_1023 rfl ?_
        refine r_iadd C dL_law_1024 ?_
        refine r_iald C (rg_ra hK1) rfl dL_law_1025 fun h295 => ?_
        refine r_aload_n C dL_law_1026 rfl rfl ?_
        refine r_iload C dL_law_1027 rfl ?_
        refine r_iconst (v := 2) C dL_law_1029 rfl ?_
        refine r_iadd C dL_law_1030 ?_
        refine r_iald C (rg_ra hK1) rfl dL_law_1031 fun h296 => ?_
        refine r_ifeq (tgt := 1039) C dL_law_1032 (by decide) (fun h297 => ?_) (fun h297 => ?_)
        · refine r_iconst (v := 0) C dL_law_1039 rfl ?_
          exact wfL_law_b1040 C hfl ih x0 x1 x2 x3 x4 x1 (gA P 8192 x0 (x4 + (1 : Int32)).toNatClampNeg) (0 : Int32) K P nx sl
        · refine r_iconst (v := 1) C dL_law_1035 rfl ?_
          refine r_goto (tgt := 1040) C dL_law_1036 (by decide) ?_
          exact wfL_law_b1040 C hfl ih x0 x1 x2 x3 x4 x1 (gA P 8192 x0 (x4 + (1 : Int32)).toNatClampNeg) (1 : Int32) K P nx sl
      refine r_if (fun h298 => ?_) (fun h298 => ?_)
      · refine r_tableC (tgt := 1072) (off := 1032) C dL_law_40 h298 (by decide) (by decide) (by decide) (by decide) ?_
        refine r_aload_n C dL_law_1072 rfl rfl ?_
        refine r_aload_n C dL_law_1073 rfl rfl ?_
        refine r_iload C dL_law_1074 rfl ?_
        refine r_iconst (v := 1) C dL_law_1076 rfl ?_
        refine r_iadd C dL_law_1077 ?_
        refine r_iald C (rg_ra hK1) rfl dL_law_1078 fun h299 => ?_
        refine r_gd fun hK302 => ?_
        refine r_bd fun r300 h301 => ?_
        refine r_callV (As := [.int (gA P 8192 x0 (x4 + (1 : Int32)).toNatClampNeg)]) (st := []) C (mc_X1_count hK302 h301) cv_L_143 hK302 rfl (Nat.le_of_ble_eq_true rfl) (Nat.le_of_ble_eq_true rfl) rfl (Nat.le_of_ble_eq_true rfl) dL_law_1079 ?_
        refine r_aload_n C dL_law_1082 rfl rfl ?_
        refine r_aload_n C dL_law_1083 rfl rfl ?_
        refine r_iload C dL_law_1084 rfl ?_
        refine r_iconst (v := 1) C dL_law_1086 rfl ?_
        refine r_iadd C dL_law_1087 ?_
        refine r_iald C (rg_ra hK1) rfl dL_law_1088 fun h303 => ?_
        refine r_gd fun hK306 => ?_
        refine r_bd fun r304 h305 => ?_
        refine r_callV (As := [.int (gA P 8192 x0 (x4 + (1 : Int32)).toNatClampNeg)]) (st := [.int r300]) C (mc_X5_count hK306 h305) cv_L_146 hK306 rfl (Nat.le_of_ble_eq_true rfl) (Nat.le_of_ble_eq_true rfl) rfl (Nat.le_of_ble_eq_true rfl) dL_law_1089 ?_
        refine r_icmpeq (tgt := 1097) C dL_law_1092 (by decide) (fun h307 => ?_) (fun h307 => ?_)
        · refine r_iinc (v := 7) (ls' := [some (.ref x0), some (.ref x1), some (.ref x2), some (.ref x3), some (.int (x4 + (7 : Int32))), none, none]) C dL_law_1097 rfl rfl (Nat.le_of_ble_eq_true rfl) rfl rfl ?_
          refine r_goto (tgt := 23) C dL_law_1100 (by decide) ?_
          exact ih x0 x1 x2 x3 (x4 + (7 : Int32)) K r304.2 nx sl
        · refine r_iconst (v := 0) C dL_law_1095 rfl ?_
          exact r_zret C dL_law_1096 rfl rfl
      refine r_tableD (tgt := 1097) (n := 28) C dL_law_40 (mm_fa h5 (mm_fa h25 (mm_fa h33 (mm_fa h41 (mm_fa h53 (mm_fa h65 (mm_fa h73 (mm_fa h81 (mm_fa h94 (mm_fa h105 (mm_fa h116 (mm_fa h127 (mm_fa h135 (mm_fa h143 (mm_fa h153 (mm_fa h163 (mm_fa h171 (mm_fa h181 (mm_fa h193 (mm_fa h206 (mm_fa h216 (mm_fa h230 (mm_fa h238 (mm_fa h248 (mm_fa h258 (mm_fa h280 (mm_fa h294 (mm_fa h298 (mm_fn))))))))))))))))))))))))))))) (by decide +kernel) (by decide) (by decide) ?_
      refine r_iinc (v := 7) (ls' := [some (.ref x0), some (.ref x1), some (.ref x2), some (.ref x3), some (.int (x4 + (7 : Int32))), none, none]) C dL_law_1097 rfl rfl (Nat.le_of_ble_eq_true rfl) rfl rfl ?_
      refine r_goto (tgt := 23) C dL_law_1100 (by decide) ?_
      exact ih x0 x1 x2 x3 (x4 + (7 : Int32)) K P nx sl
def fL_law (x0 : Nat) (K : mm_K) (P : mm_P) (nx sl : Nat) : Option (Int32 × mm_S) :=
  mm_mo mm_waI (nx + 1) (sl + 26) <|
  mm_lt (mm_kn K nx 33 0) fun K1 =>
  mm_lt (mm_fresh P nx) fun P2 =>
  mm_bd (fX1_init nx K1 P2 (nx + 1) (sl + 26)) fun r4 =>
  mm_mo mm_waI r4.2.2.1 r4.2.2.2 <|
  mm_mo mm_waI (r4.2.2.1 + 1) (r4.2.2.2 + 38) <|
  mm_lt (mm_kn r4.1 r4.2.2.1 37 0) fun K6 =>
  mm_lt (mm_fresh r4.2.1 r4.2.2.1) fun P7 =>
  mm_bd (fX5_init r4.2.2.1 K6 P7 (r4.2.2.1 + 1) (r4.2.2.2 + 38)) fun r9 =>
  mm_mo mm_waI r9.2.2.1 r9.2.2.2 <|
  mm_mo mm_waI (r9.2.2.1 + 1) (r9.2.2.2 + 1) <|
  mm_lt (mm_kn r9.1 r9.2.2.1 66 1) fun K11 =>
  mm_lt (mm_fresh r9.2.1 r9.2.2.1) fun P12 =>
  fL_law_b23 mm_NF x0 nx r4.2.2.1 r9.2.2.1 (0 : Int32) K11 P12 (r9.2.2.1 + 1) (r9.2.2.2 + 1)
set_option maxHeartbeats 4000000 in
theorem wL_law {E : mm_E} (C : mm_Cx E RX0 cL_law 7 (some .boolean) 8192 100000) (hfl : (eL E).stackTraces = false) (x0 : Nat) (K : mm_K) (P : mm_P) (nx sl : Nat) : mm_V E (mm_waI) 0 [some (.ref x0), none, none, none, none, none, none] [] K P nx sl (fL_law x0 K P nx sl) := by
  unfold fL_law
  refine r_new C nl_L_8 dL_law_0 ?_
  refine r_ltK fun K1 e3 => ?_
  refine r_ltP fun P2 => ?_
  refine r_dup C dL_law_3 rfl ?_
  refine r_bd fun r4 h5 => ?_
  refine r_acallIv (As := []) (st := [.ref nx]) C (mc_X1_init (by rw [e3]; exact mm_kn_1) h5) cv_L_15  rfl (Nat.le_of_ble_eq_true rfl) (Nat.le_of_ble_eq_true rfl) rfl (Nat.le_of_ble_eq_true rfl) dL_law_4 ?_
  refine r_astore_n (ls' := [some (.ref x0), some (.ref nx), none, none, none, none, none]) C dL_law_7 rfl (Nat.le_of_ble_eq_true rfl) rfl rfl ?_
  refine r_new C nl_L_16 dL_law_8 ?_
  refine r_ltK fun K6 e8 => ?_
  refine r_ltP fun P7 => ?_
  refine r_dup C dL_law_11 rfl ?_
  refine r_bd fun r9 h10 => ?_
  refine r_acallIv (As := []) (st := [.ref r4.2.2.1]) C (mc_X5_init (by rw [e8]; exact mm_kn_1) h10) cv_L_18  rfl (Nat.le_of_ble_eq_true rfl) (Nat.le_of_ble_eq_true rfl) rfl (Nat.le_of_ble_eq_true rfl) dL_law_12 ?_
  refine r_astore_n (ls' := [some (.ref x0), some (.ref nx), some (.ref r4.2.2.1), none, none, none, none]) C dL_law_15 rfl (Nat.le_of_ble_eq_true rfl) rfl rfl ?_
  refine r_iconst (v := 1) C dL_law_16 rfl ?_
  refine mm_newa (ek := 2) C (by decide) q1778 rfl (by decide) (N := 1) (by decide) (by decide) dL_law_17 ?_
  refine r_ltK fun K11 e13 => ?_
  refine r_ltP fun P12 => ?_
  refine r_astore_n (ls' := [some (.ref x0), some (.ref nx), some (.ref r4.2.2.1), some (.ref r9.2.2.1), none, none, none]) C dL_law_19 rfl (Nat.le_of_ble_eq_true rfl) rfl rfl ?_
  refine r_iconst (v := 0) C dL_law_20 rfl ?_
  refine r_istore (ls' := [some (.ref x0), some (.ref nx), some (.ref r4.2.2.1), some (.ref r9.2.2.1), some (.int (0 : Int32)), none, none]) C dL_law_21 (Nat.le_of_ble_eq_true rfl) rfl rfl ?_
  exact wfL_law_b23 C hfl mm_NF x0 nx r4.2.2.1 r9.2.2.1 (0 : Int32) K11 P12 (r9.2.2.1 + 1) (r9.2.2.2 + 1)
