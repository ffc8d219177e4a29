set_option maxRecDepth 100000
theorem fa_7 : mFa 7 5 0 := ⟨q1356, rfl, rfl⟩
theorem fa_13 : mFa 13 6 1 := ⟨q1357, rfl, rfl⟩
theorem fa_16 : mFa 16 7 2 := ⟨q1358, rfl, rfl⟩
theorem fa_19 : mFa 19 8 3 := ⟨q1359, rfl, rfl⟩
theorem fa_22 : mFa 22 9 4 := ⟨q1360, rfl, rfl⟩
theorem fa_25 : mFa 25 10 5 := ⟨q1361, rfl, rfl⟩
theorem fa_28 : mFa 28 11 6 := ⟨q1362, rfl, rfl⟩
theorem fa_31 : mFa 31 12 7 := ⟨q1363, rfl, rfl⟩
theorem fa_34 : mFa 34 13 8 := ⟨q1364, rfl, rfl⟩
theorem fa_37 : mFa 37 14 9 := ⟨q1365, rfl, rfl⟩
theorem fa_40 : mFa 40 15 10 := ⟨q1366, rfl, rfl⟩
theorem fa_43 : mFa 43 16 11 := ⟨q1367, rfl, rfl⟩
theorem fa_46 : mFa 46 17 12 := ⟨q1368, rfl, rfl⟩
theorem fa_49 : mFa 49 18 13 := ⟨q1369, rfl, rfl⟩
theorem fa_52 : mFa 52 19 14 := ⟨q1370, rfl, rfl⟩
theorem fa_55 : mFa 55 22 15 := ⟨q1373, rfl, rfl⟩
theorem fa_58 : mFa 58 23 16 := ⟨q1374, rfl, rfl⟩
theorem fa_61 : mFa 61 24 17 := ⟨q1375, rfl, rfl⟩
theorem fa_64 : mFa 64 25 18 := ⟨q1376, rfl, rfl⟩
theorem fa_67 : mFa 67 26 19 := ⟨q1377, rfl, rfl⟩
theorem fa_70 : mFa 70 27 20 := ⟨q1378, rfl, rfl⟩
theorem fa_74 : mFa 74 37 21 := ⟨q1388, rfl, rfl⟩
theorem fa_77 : mFa 77 38 22 := ⟨q1389, rfl, rfl⟩
theorem fa_80 : mFa 80 39 23 := ⟨q1390, rfl, rfl⟩
theorem fa_83 : mFa 83 40 24 := ⟨q1391, rfl, rfl⟩
theorem fa_86 : mFa 86 41 25 := ⟨q1392, rfl, rfl⟩
theorem fa_89 : mFa 89 42 26 := ⟨q1393, rfl, rfl⟩
theorem fa_92 : mFa 92 43 27 := ⟨q1394, rfl, rfl⟩
theorem fa_95 : mFa 95 45 28 := ⟨q1396, rfl, rfl⟩
theorem fa_98 : mFa 98 46 29 := ⟨q1397, rfl, rfl⟩
theorem fa_101 : mFa 101 47 30 := ⟨q1398, rfl, rfl⟩
theorem fa_104 : mFa 104 48 31 := ⟨q1399, rfl, rfl⟩
theorem fa_107 : mFa 107 49 32 := ⟨q1400, rfl, rfl⟩
theorem fa_110 : mFa 110 50 33 := ⟨q1401, rfl, rfl⟩
theorem fa_113 : mFa 113 51 34 := ⟨q1402, rfl, rfl⟩
theorem fa_116 : mFa 116 52 35 := ⟨q1403, rfl, rfl⟩
theorem fa_119 : mFa 119 53 36 := ⟨q1404, rfl, rfl⟩
theorem fa_122 : mFa 122 54 37 := ⟨q1405, rfl, rfl⟩
theorem fa_126 : mFa 126 55 38 := ⟨q1406, rfl, rfl⟩
theorem fa_129 : mFa 129 56 39 := ⟨q1407, rfl, rfl⟩
theorem fm_132 : mFs 132 58 := ⟨q1409, rfl, rfl, rfl, rfl⟩
theorem fa_136 : mFa 136 59 40 := ⟨q1410, rfl, rfl⟩
theorem fa_139 : mFa 139 60 41 := ⟨q1411, rfl, rfl⟩
theorem fa_142 : mFa 142 61 42 := ⟨q1412, rfl, rfl⟩
theorem fa_145 : mFa 145 62 43 := ⟨q1413, rfl, rfl⟩
theorem fa_148 : mFa 148 63 44 := ⟨q1414, rfl, rfl⟩
theorem fa_151 : mFa 151 64 45 := ⟨q1415, rfl, rfl⟩
theorem fa_154 : mFa 154 65 46 := ⟨q1416, rfl, rfl⟩
theorem fa_157 : mFa 157 66 47 := ⟨q1417, rfl, rfl⟩
theorem fa_160 : mFa 160 67 48 := ⟨q1418, rfl, rfl⟩
theorem fa_163 : mFa 163 70 49 := ⟨q1421, rfl, rfl⟩
theorem fa_166 : mFa 166 71 50 := ⟨q1422, rfl, rfl⟩
theorem fa_169 : mFa 169 72 51 := ⟨q1423, rfl, rfl⟩
theorem fa_172 : mFa 172 73 52 := ⟨q1424, rfl, rfl⟩
theorem fa_175 : mFa 175 74 53 := ⟨q1425, rfl, rfl⟩
theorem fa_178 : mFa 178 75 54 := ⟨q1426, rfl, rfl⟩
theorem fa_181 : mFa 181 76 55 := ⟨q1427, rfl, rfl⟩
theorem fa_184 : mFa 184 77 56 := ⟨q1428, rfl, rfl⟩
theorem fa_187 : mFa 187 78 57 := ⟨q1429, rfl, rfl⟩
theorem fa_190 : mFa 190 81 58 := ⟨q1432, rfl, rfl⟩
theorem fa_193 : mFa 193 82 59 := ⟨q1433, rfl, rfl⟩
theorem fa_196 : mFa 196 83 60 := ⟨q1434, rfl, rfl⟩
theorem fa_199 : mFa 199 84 61 := ⟨q1435, rfl, rfl⟩
theorem fa_202 : mFa 202 85 62 := ⟨q1436, rfl, rfl⟩
theorem fa_205 : mFa 205 86 63 := ⟨q1437, rfl, rfl⟩
theorem fa_208 : mFa 208 87 64 := ⟨q1438, rfl, rfl⟩
theorem fa_211 : mFa 211 88 65 := ⟨q1439, rfl, rfl⟩
theorem fa_214 : mFa 214 91 66 := ⟨q1442, rfl, rfl⟩
theorem fa_217 : mFa 217 92 67 := ⟨q1443, rfl, rfl⟩
theorem fa_220 : mFa 220 93 68 := ⟨q1444, rfl, rfl⟩
theorem fa_223 : mFa 223 94 69 := ⟨q1445, rfl, rfl⟩
theorem fa_226 : mFa 226 95 70 := ⟨q1446, rfl, rfl⟩
theorem fa_229 : mFa 229 96 71 := ⟨q1447, rfl, rfl⟩
theorem fa_232 : mFa 232 97 72 := ⟨q1448, rfl, rfl⟩
theorem fa_235 : mFa 235 98 73 := ⟨q1449, rfl, rfl⟩
theorem fa_238 : mFa 238 99 74 := ⟨q1450, rfl, rfl⟩
theorem fa_241 : mFa 241 102 75 := ⟨q1453, rfl, rfl⟩
theorem fa_244 : mFa 244 103 76 := ⟨q1454, rfl, rfl⟩
theorem fa_247 : mFa 247 104 77 := ⟨q1455, rfl, rfl⟩
theorem fa_250 : mFa 250 105 78 := ⟨q1456, rfl, rfl⟩
theorem fa_253 : mFa 253 106 79 := ⟨q1457, rfl, rfl⟩
theorem fa_256 : mFa 256 107 80 := ⟨q1458, rfl, rfl⟩
theorem fa_259 : mFa 259 108 81 := ⟨q1459, rfl, rfl⟩
theorem fa_262 : mFa 262 109 82 := ⟨q1460, rfl, rfl⟩
theorem fa_265 : mFa 265 110 83 := ⟨q1461, rfl, rfl⟩
theorem fm_272 : mFs 272 0 := ⟨q1351, rfl, rfl, rfl, rfl⟩
theorem fm_275 : mFs 275 1 := ⟨q1352, rfl, rfl, rfl, rfl⟩
theorem fm_282 : mFs 282 3 := ⟨q1354, rfl, rfl, rfl, rfl⟩
theorem fm_285 : mFs 285 4 := ⟨q1355, rfl, rfl, rfl, rfl⟩
theorem fm_288 : mFs 288 90 := ⟨q1441, rfl, rfl, rfl, rfl⟩
theorem fm_291 : mFs 291 2 := ⟨q1353, rfl, rfl, rfl, rfl⟩
theorem fm_311 : mFs 311 20 := ⟨q1371, rfl, rfl, rfl, rfl⟩
theorem fm_334 : mFs 334 21 := ⟨q1372, rfl, rfl, rfl, rfl⟩
theorem fm_341 : mFs 341 28 := ⟨q1379, rfl, rfl, rfl, rfl⟩
theorem fm_348 : mFs 348 29 := ⟨q1380, rfl, rfl, rfl, rfl⟩
theorem fm_351 : mFs 351 30 := ⟨q1381, rfl, rfl, rfl, rfl⟩
theorem fm_358 : mFs 358 31 := ⟨q1382, rfl, rfl, rfl, rfl⟩
theorem fm_364 : mFs 364 32 := ⟨q1383, rfl, rfl, rfl, rfl⟩
theorem fm_371 : mFs 371 34 := ⟨q1385, rfl, rfl, rfl, rfl⟩
theorem fm_375 : mFs 375 33 := ⟨q1384, rfl, rfl, rfl, rfl⟩
theorem fm_378 : mFs 378 35 := ⟨q1386, rfl, rfl, rfl, rfl⟩
theorem fm_429 : mFs 429 36 := ⟨q1387, rfl, rfl, rfl, rfl⟩
theorem fm_441 : mFs 441 44 := ⟨q1395, rfl, rfl, rfl, rfl⟩
theorem fm_470 : mFs 470 57 := ⟨q1408, rfl, rfl, rfl, rfl⟩
theorem fm_491 : mFs 491 68 := ⟨q1419, rfl, rfl, rfl, rfl⟩
theorem fm_512 : mFs 512 69 := ⟨q1420, rfl, rfl, rfl, rfl⟩
theorem fm_521 : mFs 521 79 := ⟨q1430, rfl, rfl, rfl, rfl⟩
theorem fm_524 : mFs 524 80 := ⟨q1431, rfl, rfl, rfl, rfl⟩
theorem fm_540 : mFs 540 89 := ⟨q1440, rfl, rfl, rfl, rfl⟩
theorem fm_552 : mFs 552 100 := ⟨q1451, rfl, rfl, rfl, rfl⟩
theorem fm_555 : mFs 555 101 := ⟨q1452, rfl, rfl, rfl, rfl⟩
theorem ax_0 : mAf 0 0 100 := ⟨rfl, rfl, rfl⟩
theorem ax_1 : mAf 1 0 100 := ⟨rfl, rfl, rfl⟩
theorem ax_2 : mAf 2 0 30 := ⟨rfl, rfl, rfl⟩
theorem ax_3 : mAf 3 0 30 := ⟨rfl, rfl, rfl⟩
theorem ax_4 : mAf 4 0 30 := ⟨rfl, rfl, rfl⟩
theorem ax_5 : mAf 5 0 100 := ⟨rfl, rfl, rfl⟩
theorem ax_6 : mAf 6 0 100 := ⟨rfl, rfl, rfl⟩
theorem ax_7 : mAf 7 0 100 := ⟨rfl, rfl, rfl⟩
theorem ax_8 : mAf 8 0 100 := ⟨rfl, rfl, rfl⟩
theorem ax_9 : mAf 9 0 100 := ⟨rfl, rfl, rfl⟩
theorem ax_10 : mAf 10 0 100 := ⟨rfl, rfl, rfl⟩
theorem ax_11 : mAf 11 0 100 := ⟨rfl, rfl, rfl⟩
theorem ax_12 : mAf 12 0 100 := ⟨rfl, rfl, rfl⟩
theorem ax_13 : mAf 13 0 100 := ⟨rfl, rfl, rfl⟩
theorem ax_14 : mAf 14 0 100 := ⟨rfl, rfl, rfl⟩
theorem ax_15 : mAf 15 0 200 := ⟨rfl, rfl, rfl⟩
theorem ax_16 : mAf 16 0 200 := ⟨rfl, rfl, rfl⟩
theorem ax_17 : mAf 17 0 200 := ⟨rfl, rfl, rfl⟩
theorem ax_18 : mAf 18 0 200 := ⟨rfl, rfl, rfl⟩
theorem ax_19 : mAf 19 0 200 := ⟨rfl, rfl, rfl⟩
theorem ax_20 : mAf 20 1 400 := ⟨rfl, rfl, rfl⟩
theorem ax_21 : mAf 21 0 180 := ⟨rfl, rfl, rfl⟩
theorem ax_22 : mAf 22 0 180 := ⟨rfl, rfl, rfl⟩
theorem ax_23 : mAf 23 0 10 := ⟨rfl, rfl, rfl⟩
theorem ax_24 : mAf 24 0 10 := ⟨rfl, rfl, rfl⟩
theorem ax_25 : mAf 25 0 10 := ⟨rfl, rfl, rfl⟩
theorem ax_26 : mAf 26 0 10 := ⟨rfl, rfl, rfl⟩
theorem ax_27 : mAf 27 0 10 := ⟨rfl, rfl, rfl⟩
theorem ax_28 : mAf 28 0 3600 := ⟨rfl, rfl, rfl⟩
theorem ax_29 : mAf 29 0 20 := ⟨rfl, rfl, rfl⟩
theorem ax_30 : mAf 30 0 20 := ⟨rfl, rfl, rfl⟩
theorem ax_31 : mAf 31 0 20 := ⟨rfl, rfl, rfl⟩
theorem ax_32 : mAf 32 0 200 := ⟨rfl, rfl, rfl⟩
theorem ax_33 : mAf 33 0 200 := ⟨rfl, rfl, rfl⟩
theorem ax_34 : mAf 34 0 200 := ⟨rfl, rfl, rfl⟩
theorem ax_35 : mAf 35 0 200 := ⟨rfl, rfl, rfl⟩
theorem ax_36 : mAf 36 0 200 := ⟨rfl, rfl, rfl⟩
theorem ax_37 : mAf 37 2 200 := ⟨rfl, rfl, rfl⟩
theorem ax_38 : mAf 38 0 180 := ⟨rfl, rfl, rfl⟩
theorem ax_39 : mAf 39 0 5 := ⟨rfl, rfl, rfl⟩
theorem ax_40 : mAf 40 0 150 := ⟨rfl, rfl, rfl⟩
theorem ax_41 : mAf 41 0 150 := ⟨rfl, rfl, rfl⟩
theorem ax_42 : mAf 42 0 150 := ⟨rfl, rfl, rfl⟩
theorem ax_43 : mAf 43 0 150 := ⟨rfl, rfl, rfl⟩
theorem ax_44 : mAf 44 0 150 := ⟨rfl, rfl, rfl⟩
theorem ax_45 : mAf 45 0 150 := ⟨rfl, rfl, rfl⟩
theorem ax_46 : mAf 46 0 150 := ⟨rfl, rfl, rfl⟩
theorem ax_47 : mAf 47 0 150 := ⟨rfl, rfl, rfl⟩
theorem ax_48 : mAf 48 0 150 := ⟨rfl, rfl, rfl⟩
theorem ax_49 : mAf 49 0 60 := ⟨rfl, rfl, rfl⟩
theorem ax_50 : mAf 50 0 60 := ⟨rfl, rfl, rfl⟩
theorem ax_51 : mAf 51 0 60 := ⟨rfl, rfl, rfl⟩
theorem ax_52 : mAf 52 0 100 := ⟨rfl, rfl, rfl⟩
theorem ax_53 : mAf 53 0 8 := ⟨rfl, rfl, rfl⟩
theorem ax_54 : mAf 54 0 256 := ⟨rfl, rfl, rfl⟩
theorem ax_55 : mAf 55 2 60 := ⟨rfl, rfl, rfl⟩
theorem ax_56 : mAf 56 2 60 := ⟨rfl, rfl, rfl⟩
theorem ax_57 : mAf 57 0 480 := ⟨rfl, rfl, rfl⟩
theorem ax_58 : mAf 58 0 30 := ⟨rfl, rfl, rfl⟩
theorem ax_59 : mAf 59 0 30 := ⟨rfl, rfl, rfl⟩
theorem ax_60 : mAf 60 0 100 := ⟨rfl, rfl, rfl⟩
theorem ax_61 : mAf 61 0 100 := ⟨rfl, rfl, rfl⟩
theorem ax_62 : mAf 62 0 100 := ⟨rfl, rfl, rfl⟩
theorem ax_63 : mAf 63 0 100 := ⟨rfl, rfl, rfl⟩
theorem ax_64 : mAf 64 0 100 := ⟨rfl, rfl, rfl⟩
theorem ax_65 : mAf 65 2 100 := ⟨rfl, rfl, rfl⟩
theorem ax_66 : mAf 66 0 8 := ⟨rfl, rfl, rfl⟩
theorem ax_67 : mAf 67 0 8 := ⟨rfl, rfl, rfl⟩
theorem ax_68 : mAf 68 0 40 := ⟨rfl, rfl, rfl⟩
theorem ax_69 : mAf 69 0 40 := ⟨rfl, rfl, rfl⟩
theorem ax_70 : mAf 70 0 8 := ⟨rfl, rfl, rfl⟩
theorem ax_71 : mAf 71 0 8 := ⟨rfl, rfl, rfl⟩
theorem ax_72 : mAf 72 0 40 := ⟨rfl, rfl, rfl⟩
theorem ax_73 : mAf 73 0 40 := ⟨rfl, rfl, rfl⟩
theorem ax_74 : mAf 74 0 100 := ⟨rfl, rfl, rfl⟩
theorem ax_75 : mAf 75 0 100 := ⟨rfl, rfl, rfl⟩
theorem ax_76 : mAf 76 0 100 := ⟨rfl, rfl, rfl⟩
theorem ax_77 : mAf 77 0 100 := ⟨rfl, rfl, rfl⟩
theorem ax_78 : mAf 78 0 100 := ⟨rfl, rfl, rfl⟩
theorem ax_79 : mAf 79 0 9 := ⟨rfl, rfl, rfl⟩
theorem ax_80 : mAf 80 0 9 := ⟨rfl, rfl, rfl⟩
theorem ax_81 : mAf 81 0 9 := ⟨rfl, rfl, rfl⟩
theorem ax_82 : mAf 82 0 30 := ⟨rfl, rfl, rfl⟩
theorem ax_83 : mAf 83 0 30 := ⟨rfl, rfl, rfl⟩
theorem kc_bipush_10 : (Int8.ofInt 10).toInt32 = 10 := by decide
theorem kc_bipush_100 : (Int8.ofInt 100).toInt32 = 100 := by decide
theorem kc_bipush_102 : (Int8.ofInt 102).toInt32 = 102 := by decide
theorem kc_bipush_104 : (Int8.ofInt 104).toInt32 = 104 := by decide
theorem kc_bipush_107 : (Int8.ofInt 107).toInt32 = 107 := by decide
theorem kc_bipush_109 : (Int8.ofInt 109).toInt32 = 109 := by decide
theorem kc_bipush_11 : (Int8.ofInt 11).toInt32 = 11 := by decide
theorem kc_bipush_110 : (Int8.ofInt 110).toInt32 = 110 := by decide
theorem kc_bipush_112 : (Int8.ofInt 112).toInt32 = 112 := by decide
theorem kc_bipush_118 : (Int8.ofInt 118).toInt32 = 118 := by decide
theorem kc_bipush_119 : (Int8.ofInt 119).toInt32 = 119 := by decide
theorem kc_bipush_12 : (Int8.ofInt 12).toInt32 = 12 := by decide
theorem kc_bipush_120 : (Int8.ofInt 120).toInt32 = 120 := by decide
theorem kc_bipush_124 : (Int8.ofInt 124).toInt32 = 124 := by decide
theorem kc_bipush_13 : (Int8.ofInt 13).toInt32 = 13 := by decide
theorem kc_bipush_14 : (Int8.ofInt 14).toInt32 = 14 := by decide
theorem kc_bipush_15 : (Int8.ofInt 15).toInt32 = 15 := by decide
theorem kc_bipush_19 : (Int8.ofInt 19).toInt32 = 19 := by decide
theorem kc_bipush_20 : (Int8.ofInt 20).toInt32 = 20 := by decide
theorem kc_bipush_29 : (Int8.ofInt 29).toInt32 = 29 := by decide
theorem kc_bipush_30 : (Int8.ofInt 30).toInt32 = 30 := by decide
theorem kc_bipush_33 : (Int8.ofInt 33).toInt32 = 33 := by decide
theorem kc_bipush_37 : (Int8.ofInt 37).toInt32 = 37 := by decide
theorem kc_bipush_38 : (Int8.ofInt 38).toInt32 = 38 := by decide
theorem kc_bipush_40 : (Int8.ofInt 40).toInt32 = 40 := by decide
theorem kc_bipush_41 : (Int8.ofInt 41).toInt32 = 41 := by decide
theorem kc_bipush_42 : (Int8.ofInt 42).toInt32 = 42 := by decide
theorem kc_bipush_43 : (Int8.ofInt 43).toInt32 = 43 := by decide
theorem kc_bipush_45 : (Int8.ofInt 45).toInt32 = 45 := by decide
theorem kc_bipush_46 : (Int8.ofInt 46).toInt32 = 46 := by decide
theorem kc_bipush_47 : (Int8.ofInt 47).toInt32 = 47 := by decide
theorem kc_bipush_48 : (Int8.ofInt 48).toInt32 = 48 := by decide
theorem kc_bipush_57 : (Int8.ofInt 57).toInt32 = 57 := by decide
theorem kc_bipush_59 : (Int8.ofInt 59).toInt32 = 59 := by decide
theorem kc_bipush_6 : (Int8.ofInt 6).toInt32 = 6 := by decide
theorem kc_bipush_60 : (Int8.ofInt 60).toInt32 = 60 := by decide
theorem kc_bipush_61 : (Int8.ofInt 61).toInt32 = 61 := by decide
theorem kc_bipush_62 : (Int8.ofInt 62).toInt32 = 62 := by decide
theorem kc_bipush_7 : (Int8.ofInt 7).toInt32 = 7 := by decide
theorem kc_bipush_8 : (Int8.ofInt 8).toInt32 = 8 := by decide
theorem kc_bipush_9 : (Int8.ofInt 9).toInt32 = 9 := by decide
theorem kc_bipush_91 : (Int8.ofInt 91).toInt32 = 91 := by decide
theorem kc_bipush_93 : (Int8.ofInt 93).toInt32 = 93 := by decide
theorem kc_bipush_97 : (Int8.ofInt 97).toInt32 = 97 := by decide
theorem kc_bipush_99 : (Int8.ofInt 99).toInt32 = 99 := by decide
theorem kc_bipush_m2 : (Int8.ofInt (-2)).toInt32 = (-2) := by decide
theorem kc_iconst_0 : Int32.ofInt 0 = 0 := by decide
theorem kc_iconst_1 : Int32.ofInt 1 = 1 := by decide
theorem kc_iconst_2 : Int32.ofInt 2 = 2 := by decide
theorem kc_iconst_3 : Int32.ofInt 3 = 3 := by decide
theorem kc_iconst_4 : Int32.ofInt 4 = 4 := by decide
theorem kc_iconst_5 : Int32.ofInt 5 = 5 := by decide
theorem kc_iconst_m1 : Int32.ofInt (-1) = (-1) := by decide
theorem kc_sipush_1000 : (Int16.ofInt 1000).toInt32 = 1000 := by decide
theorem kc_sipush_10000 : (Int16.ofInt 10000).toInt32 = 10000 := by decide
theorem kc_sipush_150 : (Int16.ofInt 150).toInt32 = 150 := by decide
theorem kc_sipush_160 : (Int16.ofInt 160).toInt32 = 160 := by decide
theorem kc_sipush_180 : (Int16.ofInt 180).toInt32 = 180 := by decide
theorem kc_sipush_200 : (Int16.ofInt 200).toInt32 = 200 := by decide
theorem kc_sipush_255 : (Int16.ofInt 255).toInt32 = 255 := by decide
theorem kc_sipush_400 : (Int16.ofInt 400).toInt32 = 400 := by decide
theorem kc_sipush_9999 : (Int16.ofInt 9999).toInt32 = 9999 := by decide
theorem kc_sipush_m1000 : (Int16.ofInt (-1000)).toInt32 = (-1000) := by decide
theorem cs_X1_305 : sCw RX1 305 yX1_isLayer cX1_isLayer 1 (some .boolean) 1 := ⟨lw_S q1720 q1721 q103 q1722, by decide +kernel, by decide⟩
theorem cs_X1_278 : sCw RX1 278 yX1_in cX1_in 3 (some .boolean) 3 := ⟨lw_S q1689 q1690 q103 q1691, by decide +kernel, by decide⟩
theorem cm_559 : mCw 559 yX1_costs cX1_costs 4 (some .int) 1 := ⟨lw_V q2092 q2094 qs98 q103 q2095, by decide +kernel, by decide⟩
theorem cm_562 : mCw 562 yX1_saved cX1_saved 6 (some .int) 1 := ⟨lw_V q2096 q2098 qs99 q103 q2099, by decide +kernel, by decide⟩
theorem cm_268 : mCw 268 yX1_begins cX1_begins 4 none 2 := ⟨lw_V q1347 q1349 qs41 q103 q1350, by decide +kernel, by decide⟩
theorem cm_381 : mCw 381 yX1_top cX1_top 1 (some .int) 0 := ⟨lw_V q1852 q1854 qs66 q103 q1855, by decide +kernel, by decide⟩
theorem cm_384 : mCw 384 yX1_says cX1_says 3 none 2 := ⟨lw_V q1838 q1840 qs64 q103 q1841, by decide +kernel, by decide⟩
theorem cm_530 : mCw 530 yX1_draws cX1_draws 5 (some .int) 4 := ⟨lw_V q2019 q2021 qs92 q103 q2022, by decide +kernel, by decide⟩
theorem cm_527 : mCw 527 yX1_isWall cX1_isWall 2 (some .boolean) 1 := ⟨lw_V q2015 q2017 qs91 q103 q2018, by decide +kernel, by decide⟩
theorem cm_344 : mCw 344 yX1_types cX1_types 3 none 1 := ⟨lw_V q1778 q1780 qs52 q103 q1781, by decide +kernel, by decide⟩
theorem cm_494 : mCw 494 yX1_isThing cX1_isThing 2 (some .boolean) 1 := ⟨lw_V q1959 q1961 qs83 q103 q1962, by decide +kernel, by decide⟩
theorem cm_482 : mCw 482 yX1_isFind cX1_isFind 2 (some .boolean) 1 := ⟨lw_V q1911 q1913 qs77 q103 q1914, by decide +kernel, by decide⟩
theorem cm_294 : mCw 294 yX1_isCell cX1_isCell 2 (some .boolean) 1 := ⟨lw_V q1704 q1706 qs43 q103 q1707, by decide +kernel, by decide⟩
theorem cm_543 : mCw 543 yX1_hours cX1_hours 5 (some .boolean) 0 := ⟨lw_V q2051 q2053 qs95 q103 q2054, by decide +kernel, by decide⟩
theorem cm_354 : mCw 354 yX1_byteHere cX1_byteHere 1 (some .int) 0 := ⟨lw_V q1790 q1792 qs54 q103 q1793, by decide +kernel, by decide⟩
theorem cs_X1_320 : sCw RX1 320 yX1_isWeek cX1_isWeek 1 (some .boolean) 1 := ⟨lw_S q1739 q1740 q103 q1741, by decide +kernel, by decide⟩
theorem cs_X1_450 : sCw RX1 450 yX1_reckon cX1_reckon 3 (some .int) 3 := ⟨lw_S q1896 q1897 q103 q1898, by decide +kernel, by decide⟩
theorem cm_331 : mCw 331 yX1_isPlace cX1_isPlace 2 (some .boolean) 1 := ⟨lw_V q1762 q1764 qs50 q103 q1765, by decide +kernel, by decide⟩
theorem cm_361 : mCw 361 yX1_wrong cX1_wrong 3 (some .boolean) 2 := ⟨lw_V q1797 q1799 qs55 q103 q1800, by decide +kernel, by decide⟩
theorem cm_534 : mCw 534 yX1_looksAt cX1_looksAt 6 (some .int) 2 := ⟨lw_V q2031 q2033 qs93 q103 q2034, by decide +kernel, by decide⟩
theorem cm_537 : mCw 537 yX1_shows cX1_shows 3 (some .boolean) 2 := ⟨lw_V q2035 q2037 qs94 q103 q2038, by decide +kernel, by decide⟩
theorem cm_308 : mCw 308 yX1_isDig cX1_isDig 2 (some .boolean) 1 := ⟨lw_V q1727 q1729 qs45 q103 q1730, by decide +kernel, by decide⟩
theorem cm_298 : mCw 298 yX1_isRectangle cX1_isRectangle 3 (some .boolean) 2 := ⟨lw_V q1700 q1702 qs42 q103 q1703, by decide +kernel, by decide⟩
theorem cm_302 : mCw 302 yX1_isIn cX1_isIn 4 (some .boolean) 3 := ⟨lw_V q1708 q1710 qs44 q103 q1711, by decide +kernel, by decide⟩
theorem cm_337 : mCw 337 yX1_meaningOf cX1_meaningOf 5 (some .int) 3 := ⟨lw_V q1770 q1772 qs51 q103 q1773, by decide +kernel, by decide⟩
theorem cm_367 : mCw 367 yX1_isDigit cX1_isDigit 1 (some .boolean) 0 := ⟨lw_V q1808 q1810 qs57 q103 q1811, by decide +kernel, by decide⟩
theorem cm_447 : mCw 447 yX1_isForce cX1_isForce 3 (some .boolean) 2 := ⟨lw_V q1888 q1890 qs74 q103 q1891, by decide +kernel, by decide⟩
theorem cm_546 : mCw 546 yX1_isBorder cX1_isBorder 2 (some .boolean) 1 := ⟨lw_V q2067 q2069 qs96 q103 q2070, by decide +kernel, by decide⟩
theorem cm_549 : mCw 549 yX1_areBeside cX1_areBeside 3 (some .boolean) 2 := ⟨lw_V q2071 q2073 qs97 q103 q2074, by decide +kernel, by decide⟩
theorem cm_314 : mCw 314 yX1_isKnown cX1_isKnown 3 (some .boolean) 2 := ⟨lw_V q1746 q1748 qs48 q103 q1749, by decide +kernel, by decide⟩
theorem cm_317 : mCw 317 yX1_has cX1_has 4 (some .boolean) 3 := ⟨lw_V q1750 q1752 qs49 q103 q1753, by decide +kernel, by decide⟩
theorem cm_473 : mCw 473 yX1_meets cX1_meets 4 (some .boolean) 2 := ⟨lw_V q1923 q1925 qs80 q103 q1926, by decide +kernel, by decide⟩
theorem cm_453 : mCw 453 yX1_strikes cX1_strikes 5 none 1 := ⟨lw_V q1884 q1886 qs73 q103 q1887, by decide +kernel, by decide⟩
theorem cm_456 : mCw 456 yX1_isTrue cX1_isTrue 7 (some .boolean) 1 := ⟨lw_V q1892 q1894 qs75 q103 q1895, by decide +kernel, by decide⟩
theorem cm_387 : mCw 387 yX1_opens cX1_opens 2 (some .boolean) 1 := ⟨lw_V q1820 q1822 qs60 q103 q1823, by decide +kernel, by decide⟩
theorem cm_391 : mCw 391 yX1_readsNumber cX1_readsNumber 3 (some .boolean) 1 := ⟨lw_V q1804 q1806 qs56 q103 q1807, by decide +kernel, by decide⟩
theorem cs_X1_394 : sCw RX1 394 yX1_factOf cX1_factOf 1 (some .int) 1 := ⟨lw_S q1842 q1843 q103 q1844, by decide +kernel, by decide⟩
theorem cm_459 : mCw 459 yX1_setsFacts cX1_setsFacts 6 none 5 := ⟨lw_V q1876 q1878 qs71 q103 q1879, by decide +kernel, by decide⟩
theorem cm_463 : mCw 463 yX1_numberBy cX1_numberBy 6 (some .int) 2 := ⟨lw_V q1880 q1882 qs72 q103 q1883, by decide +kernel, by decide⟩
theorem cm_327 : mCw 327 yX1_groundOf cX1_groundOf 12 (some .int) 4 := ⟨lw_V q1742 q1744 qs47 q103 q1745, by decide +kernel, by decide⟩
theorem cm_565 : mCw 565 yX1_tapeNumber cX1_tapeNumber 4 (some .int) 1 := ⟨lw_V q2108 q2110 qs100 q103 q2111, by decide +kernel, by decide⟩
theorem cm_497 : mCw 497 yX1_agreeing cX1_agreeing 5 (some .int) 2 := ⟨lw_V q1975 q1977 qs86 q103 q1978, by decide +kernel, by decide⟩
theorem cm_323 : mCw 323 yX1_isGround cX1_isGround 5 (some .boolean) 4 := ⟨lw_V q1735 q1737 qs46 q103 q1738, by decide +kernel, by decide⟩
theorem cm_467 : mCw 467 yX1_numberings cX1_numberings 5 (some .int) 0 := ⟨lw_V q1899 q1901 qs76 q103 q1902, by decide +kernel, by decide⟩
theorem cm_398 : mCw 398 yX1_readsFactor cX1_readsFactor 2 (some .boolean) 0 := ⟨lw_V q1833 q1835 qs63 q103 q1836, by decide +kernel, by decide⟩
theorem cs_X1_401 : sCw RX1 401 yX1_sumSign cX1_sumSign 1 (some .int) 1 := ⟨lw_S q1845 q1846 q103 q1847, by decide +kernel, by decide⟩
theorem cm_404 : mCw 404 yX1_closesSums cX1_closesSums 2 none 1 := ⟨lw_V q1848 q1850 qs65 q103 q1851, by decide +kernel, by decide⟩
theorem cm_408 : mCw 408 yX1_hasOpenSum cX1_hasOpenSum 3 (some .boolean) 1 := ⟨lw_V q1856 q1858 qs67 q103 q1859, by decide +kernel, by decide⟩
theorem cm_500 : mCw 500 yX1_couldBe cX1_couldBe 3 (some .boolean) 2 := ⟨lw_V q1971 q1973 qs85 q103 q1974, by decide +kernel, by decide⟩
theorem cm_476 : mCw 476 yX1_isDug cX1_isDug 6 (some .boolean) 4 := ⟨lw_V q1919 q1921 qs79 q103 q1922, by decide +kernel, by decide⟩
theorem cm_479 : mCw 479 yX1_isMeant cX1_isMeant 6 (some .boolean) 3 := ⟨lw_V q1927 q1929 qs81 q103 q1930, by decide +kernel, by decide⟩
theorem cm_411 : mCw 411 yX1_readsSum cX1_readsSum 3 (some .boolean) 0 := ⟨lw_V q1829 q1831 qs62 q103 q1832, by decide +kernel, by decide⟩
theorem cm_414 : mCw 414 yX1_endsPiece cX1_endsPiece 1 none 0 := ⟨lw_V q1860 q1862 qs68 q103 q1863, by decide +kernel, by decide⟩
theorem cm_503 : mCw 503 yX1_isLike cX1_isLike 3 (some .boolean) 2 := ⟨lw_V q1967 q1969 qs84 q103 q1970, by decide +kernel, by decide⟩
theorem cm_506 : mCw 506 yX1_hearsFinds cX1_hearsFinds 4 (some .boolean) 1 := ⟨lw_V q1983 q1985 qs87 q103 q1986, by decide +kernel, by decide⟩
theorem cm_509 : mCw 509 yX1_bestFrom cX1_bestFrom 8 (some .int) 2 := ⟨lw_V q1987 q1989 qs88 q103 q1990, by decide +kernel, by decide⟩
theorem cm_485 : mCw 485 yX1_mayBe cX1_mayBe 6 (some .int) 2 := ⟨lw_V q1915 q1917 qs78 q103 q1918, by decide +kernel, by decide⟩
theorem cm_417 : mCw 417 yX1_readsCompared cX1_readsCompared 2 (some .boolean) 0 := ⟨lw_V q1825 q1827 qs61 q103 q1828, by decide +kernel, by decide⟩
theorem cm_420 : mCw 420 yX1_lands cX1_lands 3 none 1 := ⟨lw_V q1864 q1866 qs69 q103 q1867, by decide +kernel, by decide⟩
theorem cm_423 : mCw 423 yX1_jumps cX1_jumps 2 none 1 := ⟨lw_V q1868 q1870 qs70 q103 q1871, by decide +kernel, by decide⟩
theorem cm_488 : mCw 488 yX1_sureOf cX1_sureOf 5 (some .int) 1 := ⟨lw_V q1935 q1937 qs82 q103 q1938, by decide +kernel, by decide⟩
theorem cm_515 : mCw 515 yX1_isLost cX1_isLost 3 (some .boolean) 1 := ⟨lw_V q1999 q2001 qs89 q103 q2002, by decide +kernel, by decide⟩
theorem cm_518 : mCw 518 yX1_wouldHave cX1_wouldHave 4 (some .boolean) 2 := ⟨lw_V q2003 q2005 qs90 q103 q2006, by decide +kernel, by decide⟩
theorem cs_X1_426 : sCw RX1 426 yX1_isLetter cX1_isLetter 1 (some .boolean) 1 := ⟨lw_S q1794 q1795 q103 q1796, by decide +kernel, by decide⟩
theorem cs_X1_432 : sCw RX1 432 yX1_mostOf cX1_mostOf 1 (some .int) 1 := ⟨lw_S q1801 q1802 q103 q1803, by decide +kernel, by decide⟩
theorem cm_435 : mCw 435 yX1_takes cX1_takes 2 (some .boolean) 1 := ⟨lw_V q1812 q1814 qs58 q103 q1815, by decide +kernel, by decide⟩
theorem cm_438 : mCw 438 yX1_readsCondition cX1_readsCondition 1 (some .boolean) 0 := ⟨lw_V q1816 q1818 qs59 q103 q1819, by decide +kernel, by decide⟩
theorem cm_444 : mCw 444 yX1_readsClause cX1_readsClause 3 (some .boolean) 0 := ⟨lw_V q1786 q1788 qs53 q103 q1789, by decide +kernel, by decide⟩
