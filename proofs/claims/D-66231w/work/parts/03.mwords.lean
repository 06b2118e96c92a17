set_option maxRecDepth 100000 in
theorem mTb_ok_0 : ∀ q ∈ (mTb.drop 0).take 20, ∀ w ∈ mWd q, w ∈ lw_tbl := wAll_ok (is := [[629], [632], [824], [835], [859], [889], [922], [929], [936], [943], [950], [957], [964], [988], [995], [1034], [1041], [1052], [1059], [1070]]) (by decide +kernel)
set_option maxRecDepth 100000 in
theorem mTb_ok_1 : ∀ q ∈ (mTb.drop 20).take 15, ∀ w ∈ mWd q, w ∈ lw_tbl := wAll_ok (is := [[117], [125], [385], [388], [391], [560], [577], [591], [626], [671], [676], [695], [699], [703], [708]]) (by decide +kernel)
set_option maxRecDepth 100000 in
theorem mTb_ok_2 : ∀ q ∈ (mTb.drop 35).take 20, ∀ w ∈ mWd q, w ∈ lw_tbl := wAll_ok (is := [[712], [715], [718], [736], [739], [758], [762], [765], [770], [774], [778], [782], [786], [790], [794], [801], [828], [832], [839], [843]]) (by decide +kernel)
set_option maxRecDepth 100000 in
theorem mTb_ok_3 : ∀ q ∈ (mTb.drop 55).take 11, ∀ w ∈ mWd q, w ∈ lw_tbl := wAll_ok (is := [[847], [851], [855], [863], [867], [871], [882], [885], [893], [897], [901]]) (by decide +kernel)
set_option maxRecDepth 100000 in
theorem mTb_ok_4 : ∀ q ∈ (mTb.drop 66).take 8, ∀ w ∈ mWd q, w ∈ lw_tbl := wAll_ok (is := [[908], [912], [915], [918], [926], [933], [940], [947]]) (by decide +kernel)
set_option maxRecDepth 100000 in
theorem mTb_ok_5 : ∀ q ∈ (mTb.drop 74).take 5, ∀ w ∈ mWd q, w ∈ lw_tbl := wAll_ok (is := [[954], [961], [968], [992], [999]]) (by decide +kernel)
set_option maxRecDepth 100000 in
theorem mTb_ok_6 : ∀ q ∈ (mTb.drop 79).take 14, ∀ w ∈ mWd q, w ∈ lw_tbl := wAll_ok (is := [[1003], [1006], [1038], [1045], [1049], [1056], [1063], [1074], [130], [231], [548], [587], [797], [805]]) (by decide +kernel)
set_option maxRecDepth 100000 in
theorem mTb_ok_7 : ∀ q ∈ (mTb.drop 93).take 10, ∀ w ∈ mWd q, w ∈ lw_tbl := wAll_ok (is := [[1079], [147], [301], [306], [395], [399], [403], [440], [472], [485]]) (by decide +kernel)
set_option maxRecDepth 100000 in
theorem mTb_ok_8 : ∀ q ∈ (mTb.drop 103).take 9, ∀ w ∈ mWd q, w ∈ lw_tbl := wAll_ok (is := [[534], [538], [555], [564], [568], [810], [814], [875], [879]]) (by decide +kernel)
set_option maxRecDepth 100000 in
theorem mTb_ok_9 : ∀ q ∈ (mTb.drop 112).take 13, ∀ w ∈ mWd q, w ∈ lw_tbl := wAll_ok (is := [[184], [1010], [1014], [1018], [1023], [1027], [1031], [1067], [310], [375], [415], [420], [424]]) (by decide +kernel)
set_option maxRecDepth 100000 in
theorem mTb_ok_10 : ∀ q ∈ (mTb.drop 125).take 18, ∀ w ∈ mWd q, w ∈ lw_tbl := wAll_ok (is := [[428], [432], [436], [444], [448], [452], [456], [460], [481], [581], [819], [978], [407], [413], [478], [489], [512], [519]]) (by decide +kernel)
set_option maxRecDepth 100000 in
theorem mTb_ok_11 : ∀ q ∈ (mTb.drop 143).take 13, ∀ w ∈ mWd q, w ∈ lw_tbl := wAll_ok (is := [[523], [530], [552], [574], [975], [984], [313], [381], [468], [544], [1085], [1089], [1139]]) (by decide +kernel)
set_option maxRecDepth 100000 in
theorem mTb_ok_12 : ∀ q ∈ (mTb.drop 156).take 11, ∀ w ∈ mWd q, w ∈ lw_tbl := wAll_ok (is := [[1143], [1147], [1151], [1154], [1158], [1162], [1166], [1170], [1174], [1178], [1182]]) (by decide +kernel)
set_option maxRecDepth 100000 in
theorem mTb_ok_13 : ∀ q ∈ (mTb.drop 167).take 8, ∀ w ∈ mWd q, w ∈ lw_tbl := wAll_ok (is := [[1186], [1190], [1194], [1198], [1202], [1206], [1210], [1214]]) (by decide +kernel)
set_option maxRecDepth 100000 in
theorem mTb_ok_14 : ∀ q ∈ (mTb.drop 175).take 6, ∀ w ∈ mWd q, w ∈ lw_tbl := wAll_ok (is := [[1218], [1222], [1226], [1230], [1234], [1238]]) (by decide +kernel)
set_option maxRecDepth 100000 in
theorem mTb_ok_15 : ∀ q ∈ (mTb.drop 181).take 7, ∀ w ∈ mWd q, w ∈ lw_tbl := wAll_ok (is := [[1242], [1246], [1250], [1254], [1258], [1262], [1266]]) (by decide +kernel)
set_option maxRecDepth 100000 in
theorem mTb_ok_16 : ∀ q ∈ (mTb.drop 188).take 5, ∀ w ∈ mWd q, w ∈ lw_tbl := wAll_ok (is := [[1270], [1274], [1278], [1282], [1285]]) (by decide +kernel)
set_option maxRecDepth 100000 in
theorem mTb_ok_17 : ∀ q ∈ (mTb.drop 193).take 7, ∀ w ∈ mWd q, w ∈ lw_tbl := wAll_ok (is := [[1289], [1293], [1297], [1301], [1305], [1309], [1313]]) (by decide +kernel)
set_option maxRecDepth 100000 in
theorem mTb_ok_18 : ∀ q ∈ (mTb.drop 200).take 6, ∀ w ∈ mWd q, w ∈ lw_tbl := wAll_ok (is := [[1317], [1322], [1326], [1329], [1333], [1337]]) (by decide +kernel)
set_option maxRecDepth 100000 in
theorem mTb_ok_19 : ∀ q ∈ (mTb.drop 206).take 5, ∀ w ∈ mWd q, w ∈ lw_tbl := wAll_ok (is := [[1341], [1345], [1349], [1353], [1357]]) (by decide +kernel)
set_option maxRecDepth 100000 in
theorem mTb_ok_20 : ∀ q ∈ (mTb.drop 211).take 5, ∀ w ∈ mWd q, w ∈ lw_tbl := wAll_ok (is := [[1361], [1365], [1369], [1373], [1377]]) (by decide +kernel)
set_option maxRecDepth 100000 in
theorem mTb_ok_21 : ∀ q ∈ (mTb.drop 216).take 7, ∀ w ∈ mWd q, w ∈ lw_tbl := wAll_ok (is := [[1381], [1385], [1389], [1393], [1396], [1400], [1404]]) (by decide +kernel)
set_option maxRecDepth 100000 in
theorem mTb_ok_22 : ∀ q ∈ (mTb.drop 223).take 10, ∀ w ∈ mWd q, w ∈ lw_tbl := wAll_ok (is := [[1408], [1412], [1416], [1420], [1424], [1428], [1432], [1436], [904], [120]]) (by decide +kernel)
/-- every method of the table but the last one (the law's entry) has its word -/
theorem mTb_ok : ∀ (y : Nat) (q : MethodName × ByteArray × Nat × Option FieldType × List (Nat × Nat × Nat × Nat) × Nat), y < 233 → mTb[y]? = some q → ∀ w ∈ mWd q, w ∈ lw_tbl := by
  intro y q hy hq
  have key : ∀ (a n : Nat), a ≤ y → y < a + n → q ∈ (mTb.drop a).take n := fun a n h1 h2 => List.mem_of_getElem? (i := y - a) (by rw [List.getElem?_take, if_pos (by omega), List.getElem?_drop, show a + (y - a) = y by omega]; exact hq)
  by_cases h0 : y < 20
  · exact mTb_ok_0 q (key 0 20 (by omega) (by omega))
  by_cases h1 : y < 35
  · exact mTb_ok_1 q (key 20 15 (by omega) (by omega))
  by_cases h2 : y < 55
  · exact mTb_ok_2 q (key 35 20 (by omega) (by omega))
  by_cases h3 : y < 66
  · exact mTb_ok_3 q (key 55 11 (by omega) (by omega))
  by_cases h4 : y < 74
  · exact mTb_ok_4 q (key 66 8 (by omega) (by omega))
  by_cases h5 : y < 79
  · exact mTb_ok_5 q (key 74 5 (by omega) (by omega))
  by_cases h6 : y < 93
  · exact mTb_ok_6 q (key 79 14 (by omega) (by omega))
  by_cases h7 : y < 103
  · exact mTb_ok_7 q (key 93 10 (by omega) (by omega))
  by_cases h8 : y < 112
  · exact mTb_ok_8 q (key 103 9 (by omega) (by omega))
  by_cases h9 : y < 125
  · exact mTb_ok_9 q (key 112 13 (by omega) (by omega))
  by_cases h10 : y < 143
  · exact mTb_ok_10 q (key 125 18 (by omega) (by omega))
  by_cases h11 : y < 156
  · exact mTb_ok_11 q (key 143 13 (by omega) (by omega))
  by_cases h12 : y < 167
  · exact mTb_ok_12 q (key 156 11 (by omega) (by omega))
  by_cases h13 : y < 175
  · exact mTb_ok_13 q (key 167 8 (by omega) (by omega))
  by_cases h14 : y < 181
  · exact mTb_ok_14 q (key 175 6 (by omega) (by omega))
  by_cases h15 : y < 188
  · exact mTb_ok_15 q (key 181 7 (by omega) (by omega))
  by_cases h16 : y < 193
  · exact mTb_ok_16 q (key 188 5 (by omega) (by omega))
  by_cases h17 : y < 200
  · exact mTb_ok_17 q (key 193 7 (by omega) (by omega))
  by_cases h18 : y < 206
  · exact mTb_ok_18 q (key 200 6 (by omega) (by omega))
  by_cases h19 : y < 211
  · exact mTb_ok_19 q (key 206 5 (by omega) (by omega))
  by_cases h20 : y < 216
  · exact mTb_ok_20 q (key 211 5 (by omega) (by omega))
  by_cases h21 : y < 223
  · exact mTb_ok_21 q (key 216 7 (by omega) (by omega))
  by_cases h22 : y < 233
  · exact mTb_ok_22 q (key 223 10 (by omega) (by omega))
  omega
