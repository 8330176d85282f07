/-! SnailPostModel: the layout, the facts of its fields and calls -/
set_option maxRecDepth 100000
abbrev csM : List Nat := [0, 0, 4, 5, 6, 7, 0, 8, 0, 0, 0, 0, 1, 0, 0, 0, 9, 0, 10, 11, 0, 12, 13, 0, 0, 14, 15, 0, 16, 17, 0, 1, 1, 18, 19, 20, 21, 22, 23, 24, 25, 26, 27, 28, 0, 0, 0, 29, 30, 31, 32, 33, 34, 35, 36, 1, 37, 38, 39, 0]
def kdM : Nat → sn_Kd := fun k => match k with
  | 0 => .inl (20, csM)
  | 1 => .inr (0, 7, 0)
  | 2 => .inr (0, 5680, 0)
  | 3 => .inr (0, 11360, 0)
  | 4 => .inr (1, 2, 0)
  | 5 => .inr (0, 400, 0)
  | 6 => .inr (0, 96, 0)
  | 7 => .inr (0, 400, 0)
  | 8 => .inr (0, 400, 0)
  | 9 => .inr (0, 400, 0)
  | 10 => .inr (0, 400, 0)
  | 11 => .inr (3, 10, 1)
  | 12 => .inr (3, 3, 1)
  | 13 => .inr (3, 13, 1)
  | 14 => .inr (3, 400, 1)
  | 15 => .inr (0, 6, 0)
  | 16 => .inr (0, 6, 0)
  | 17 => .inr (1, 6, 0)
  | 18 => .inr (0, 96, 0)
  | 19 => .inr (0, 6, 0)
  | 20 => .inr (0, 360, 0)
  | 21 => .inr (0, 36, 0)
  | 22 => .inr (0, 36, 0)
  | 23 => .inr (0, 576, 0)
  | 24 => .inr (0, 5, 0)
  | 25 => .inr (0, 5, 0)
  | 26 => .inr (0, 6, 0)
  | 27 => .inr (0, 5, 0)
  | 28 => .inr (0, 5, 0)
  | 29 => .inr (0, 6, 0)
  | 30 => .inr (0, 8, 0)
  | 31 => .inr (0, 64, 0)
  | 32 => .inr (0, 64, 0)
  | 33 => .inr (0, 64, 0)
  | 34 => .inr (0, 6, 0)
  | 35 => .inr (0, 6, 0)
  | 36 => .inr (0, 6, 0)
  | _ => .inr (0, 0, 0)
def LoM : sn_Lo := (37, kdM, clX, tyXl, XX)
theorem LoM_X (w : sn_W) : sn_XO (LoM.2.2.2.2 w) := XX_O w
theorem atM_0 : sn_At LoM 0 (.inl (20, csM)) := ⟨by decide, rfl⟩
/-- refusals -/
theorem atM_1 : sn_At LoM 1 (.inr (0, 7, 0)) := ⟨by decide, rfl⟩
/-- row -/
theorem atM_2 : sn_At LoM 2 (.inr (0, 5680, 0)) := ⟨by decide, rfl⟩
/-- images -/
theorem atM_3 : sn_At LoM 3 (.inr (0, 11360, 0)) := ⟨by decide, rfl⟩
/-- isKept -/
theorem atM_4 : sn_At LoM 4 (.inr (1, 2, 0)) := ⟨by decide, rfl⟩
/-- tape -/
theorem atM_5 : sn_At LoM 5 (.inr (0, 400, 0)) := ⟨by decide, rfl⟩
/-- nClause -/
theorem atM_6 : sn_At LoM 6 (.inr (0, 96, 0)) := ⟨by decide, rfl⟩
/-- nOp -/
theorem atM_7 : sn_At LoM 7 (.inr (0, 400, 0)) := ⟨by decide, rfl⟩
/-- nArg -/
theorem atM_8 : sn_At LoM 8 (.inr (0, 400, 0)) := ⟨by decide, rfl⟩
/-- pile -/
theorem atM_9 : sn_At LoM 9 (.inr (0, 400, 0)) := ⟨by decide, rfl⟩
/-- pileAt -/
theorem atM_10 : sn_At LoM 10 (.inr (0, 400, 0)) := ⟨by decide, rfl⟩
/-- words -/
theorem atM_11 : sn_At LoM 11 (.inr (3, 10, 1)) := ⟨by decide, rfl⟩
/-- headWords -/
theorem atM_12 : sn_At LoM 12 (.inr (3, 3, 1)) := ⟨by decide, rfl⟩
/-- set -/
theorem atM_13 : sn_At LoM 13 (.inr (3, 13, 1)) := ⟨by decide, rfl⟩
/-- rest -/
theorem atM_14 : sn_At LoM 14 (.inr (3, 400, 1)) := ⟨by decide, rfl⟩
/-- at -/
theorem atM_15 : sn_At LoM 15 (.inr (0, 6, 0)) := ⟨by decide, rfl⟩
/-- came -/
theorem atM_16 : sn_At LoM 16 (.inr (0, 6, 0)) := ⟨by decide, rfl⟩
/-- eaten -/
theorem atM_17 : sn_At LoM 17 (.inr (1, 6, 0)) := ⟨by decide, rfl⟩
/-- been -/
theorem atM_18 : sn_At LoM 18 (.inr (0, 96, 0)) := ⟨by decide, rfl⟩
/-- stayed -/
theorem atM_19 : sn_At LoM 19 (.inr (0, 6, 0)) := ⟨by decide, rfl⟩
/-- places -/
theorem atM_20 : sn_At LoM 20 (.inr (0, 360, 0)) := ⟨by decide, rfl⟩
/-- keptAt -/
theorem atM_21 : sn_At LoM 21 (.inr (0, 36, 0)) := ⟨by decide, rfl⟩
/-- keptCame -/
theorem atM_22 : sn_At LoM 22 (.inr (0, 36, 0)) := ⟨by decide, rfl⟩
/-- keptBeen -/
theorem atM_23 : sn_At LoM 23 (.inr (0, 576, 0)) := ⟨by decide, rfl⟩
/-- tried -/
theorem atM_24 : sn_At LoM 24 (.inr (0, 5, 0)) := ⟨by decide, rfl⟩
/-- chosen -/
theorem atM_25 : sn_At LoM 25 (.inr (0, 5, 0)) := ⟨by decide, rfl⟩
/-- bests -/
theorem atM_26 : sn_At LoM 26 (.inr (0, 6, 0)) := ⟨by decide, rfl⟩
/-- firsts -/
theorem atM_27 : sn_At LoM 27 (.inr (0, 5, 0)) := ⟨by decide, rfl⟩
/-- trying -/
theorem atM_28 : sn_At LoM 28 (.inr (0, 5, 0)) := ⟨by decide, rfl⟩
/-- steps -/
theorem atM_29 : sn_At LoM 29 (.inr (0, 6, 0)) := ⟨by decide, rfl⟩
/-- shells -/
theorem atM_30 : sn_At LoM 30 (.inr (0, 8, 0)) := ⟨by decide, rfl⟩
/-- waysTo -/
theorem atM_31 : sn_At LoM 31 (.inr (0, 64, 0)) := ⟨by decide, rfl⟩
/-- waysOn -/
theorem atM_32 : sn_At LoM 32 (.inr (0, 64, 0)) := ⟨by decide, rfl⟩
/-- waysAhead -/
theorem atM_33 : sn_At LoM 33 (.inr (0, 64, 0)) := ⟨by decide, rfl⟩
/-- eatenBehind -/
theorem atM_34 : sn_At LoM 34 (.inr (0, 6, 0)) := ⟨by decide, rfl⟩
/-- endCame -/
theorem atM_35 : sn_At LoM 35 (.inr (0, 6, 0)) := ⟨by decide, rfl⟩
/-- endAt -/
theorem atM_36 : sn_At LoM 36 (.inr (0, 6, 0)) := ⟨by decide, rfl⟩
/-- refusals -/
theorem fmX9_7 : sn_Fc LoM RX9 7 20 csM 2 4 true (tyX9 2) := ⟨RX9, TX9, 60, tyX9, in_X9, tyX9_ok, nmX9, rfl, by decide, rfl, q1455, rfl, tyX9_ok 2 (by decide)⟩
/-- row -/
theorem fmX9_13 : sn_Fc LoM RX9 13 20 csM 3 5 true (tyX9 3) := ⟨RX9, TX9, 60, tyX9, in_X9, tyX9_ok, nmX9, rfl, by decide, rfl, q1456, rfl, tyX9_ok 3 (by decide)⟩
/-- images -/
theorem fmX9_16 : sn_Fc LoM RX9 16 20 csM 4 6 true (tyX9 4) := ⟨RX9, TX9, 60, tyX9, in_X9, tyX9_ok, nmX9, rfl, by decide, rfl, q1457, rfl, tyX9_ok 4 (by decide)⟩
/-- isKept -/
theorem fmX9_19 : sn_Fc LoM RX9 19 20 csM 5 7 true (tyX9 5) := ⟨RX9, TX9, 60, tyX9, in_X9, tyX9_ok, nmX9, rfl, by decide, rfl, q1458, rfl, tyX9_ok 5 (by decide)⟩
/-- tape -/
theorem fmX9_23 : sn_Fc LoM RX9 23 20 csM 7 8 true (tyX9 7) := ⟨RX9, TX9, 60, tyX9, in_X9, tyX9_ok, nmX9, rfl, by decide, rfl, q1460, rfl, tyX9_ok 7 (by decide)⟩
/-- fault -/
theorem fmX9_26 : sn_Fc LoM RX9 26 20 csM 13 0 false (tyX9 13) := ⟨RX9, TX9, 60, tyX9, in_X9, tyX9_ok, nmX9, rfl, by decide, rfl, q1466, rfl, tyX9_ok 13 (by decide)⟩
/-- nClause -/
theorem fmX9_30 : sn_Fc LoM RX9 30 20 csM 16 9 true (tyX9 16) := ⟨RX9, TX9, 60, tyX9, in_X9, tyX9_ok, nmX9, rfl, by decide, rfl, q1469, rfl, tyX9_ok 16 (by decide)⟩
/-- nOp -/
theorem fmX9_33 : sn_Fc LoM RX9 33 20 csM 18 10 true (tyX9 18) := ⟨RX9, TX9, 60, tyX9, in_X9, tyX9_ok, nmX9, rfl, by decide, rfl, q1471, rfl, tyX9_ok 18 (by decide)⟩
/-- nArg -/
theorem fmX9_36 : sn_Fc LoM RX9 36 20 csM 19 11 true (tyX9 19) := ⟨RX9, TX9, 60, tyX9, in_X9, tyX9_ok, nmX9, rfl, by decide, rfl, q1472, rfl, tyX9_ok 19 (by decide)⟩
/-- pile -/
theorem fmX9_39 : sn_Fc LoM RX9 39 20 csM 21 12 true (tyX9 21) := ⟨RX9, TX9, 60, tyX9, in_X9, tyX9_ok, nmX9, rfl, by decide, rfl, q1474, rfl, tyX9_ok 21 (by decide)⟩
/-- pileAt -/
theorem fmX9_42 : sn_Fc LoM RX9 42 20 csM 22 13 true (tyX9 22) := ⟨RX9, TX9, 60, tyX9, in_X9, tyX9_ok, nmX9, rfl, by decide, rfl, q1475, rfl, tyX9_ok 22 (by decide)⟩
/-- words -/
theorem fmX9_65 : sn_Fc LoM RX9 65 20 csM 25 14 true (tyX9 25) := ⟨RX9, TX9, 60, tyX9, in_X9, tyX9_ok, nmX9, rfl, by decide, rfl, q1478, rfl, tyX9_ok 25 (by decide)⟩
/-- headWords -/
theorem fmX9_75 : sn_Fc LoM RX9 75 20 csM 26 15 true (tyX9 26) := ⟨RX9, TX9, 60, tyX9, in_X9, tyX9_ok, nmX9, rfl, by decide, rfl, q1479, rfl, tyX9_ok 26 (by decide)⟩
/-- set -/
theorem fmX9_78 : sn_Fc LoM RX9 78 20 csM 28 16 true (tyX9 28) := ⟨RX9, TX9, 60, tyX9, in_X9, tyX9_ok, nmX9, rfl, by decide, rfl, q1481, rfl, tyX9_ok 28 (by decide)⟩
/-- rest -/
theorem fmX9_81 : sn_Fc LoM RX9 81 20 csM 29 17 true (tyX9 29) := ⟨RX9, TX9, 60, tyX9, in_X9, tyX9_ok, nmX9, rfl, by decide, rfl, q1482, rfl, tyX9_ok 29 (by decide)⟩
/-- at -/
theorem fmX9_84 : sn_Fc LoM RX9 84 20 csM 33 18 true (tyX9 33) := ⟨RX9, TX9, 60, tyX9, in_X9, tyX9_ok, nmX9, rfl, by decide, rfl, q1486, rfl, tyX9_ok 33 (by decide)⟩
/-- came -/
theorem fmX9_87 : sn_Fc LoM RX9 87 20 csM 34 19 true (tyX9 34) := ⟨RX9, TX9, 60, tyX9, in_X9, tyX9_ok, nmX9, rfl, by decide, rfl, q1487, rfl, tyX9_ok 34 (by decide)⟩
/-- eaten -/
theorem fmX9_90 : sn_Fc LoM RX9 90 20 csM 35 20 true (tyX9 35) := ⟨RX9, TX9, 60, tyX9, in_X9, tyX9_ok, nmX9, rfl, by decide, rfl, q1488, rfl, tyX9_ok 35 (by decide)⟩
/-- been -/
theorem fmX9_93 : sn_Fc LoM RX9 93 20 csM 36 21 true (tyX9 36) := ⟨RX9, TX9, 60, tyX9, in_X9, tyX9_ok, nmX9, rfl, by decide, rfl, q1489, rfl, tyX9_ok 36 (by decide)⟩
/-- stayed -/
theorem fmX9_96 : sn_Fc LoM RX9 96 20 csM 37 22 true (tyX9 37) := ⟨RX9, TX9, 60, tyX9, in_X9, tyX9_ok, nmX9, rfl, by decide, rfl, q1490, rfl, tyX9_ok 37 (by decide)⟩
/-- places -/
theorem fmX9_99 : sn_Fc LoM RX9 99 20 csM 38 23 true (tyX9 38) := ⟨RX9, TX9, 60, tyX9, in_X9, tyX9_ok, nmX9, rfl, by decide, rfl, q1491, rfl, tyX9_ok 38 (by decide)⟩
/-- keptAt -/
theorem fmX9_102 : sn_Fc LoM RX9 102 20 csM 39 24 true (tyX9 39) := ⟨RX9, TX9, 60, tyX9, in_X9, tyX9_ok, nmX9, rfl, by decide, rfl, q1492, rfl, tyX9_ok 39 (by decide)⟩
/-- keptCame -/
theorem fmX9_105 : sn_Fc LoM RX9 105 20 csM 40 25 true (tyX9 40) := ⟨RX9, TX9, 60, tyX9, in_X9, tyX9_ok, nmX9, rfl, by decide, rfl, q1493, rfl, tyX9_ok 40 (by decide)⟩
/-- keptBeen -/
theorem fmX9_108 : sn_Fc LoM RX9 108 20 csM 41 26 true (tyX9 41) := ⟨RX9, TX9, 60, tyX9, in_X9, tyX9_ok, nmX9, rfl, by decide, rfl, q1494, rfl, tyX9_ok 41 (by decide)⟩
/-- tried -/
theorem fmX9_111 : sn_Fc LoM RX9 111 20 csM 42 27 true (tyX9 42) := ⟨RX9, TX9, 60, tyX9, in_X9, tyX9_ok, nmX9, rfl, by decide, rfl, q1495, rfl, tyX9_ok 42 (by decide)⟩
/-- chosen -/
theorem fmX9_114 : sn_Fc LoM RX9 114 20 csM 43 28 true (tyX9 43) := ⟨RX9, TX9, 60, tyX9, in_X9, tyX9_ok, nmX9, rfl, by decide, rfl, q1496, rfl, tyX9_ok 43 (by decide)⟩
/-- bests -/
theorem fmX9_117 : sn_Fc LoM RX9 117 20 csM 47 29 true (tyX9 47) := ⟨RX9, TX9, 60, tyX9, in_X9, tyX9_ok, nmX9, rfl, by decide, rfl, q1500, rfl, tyX9_ok 47 (by decide)⟩
/-- firsts -/
theorem fmX9_120 : sn_Fc LoM RX9 120 20 csM 48 30 true (tyX9 48) := ⟨RX9, TX9, 60, tyX9, in_X9, tyX9_ok, nmX9, rfl, by decide, rfl, q1501, rfl, tyX9_ok 48 (by decide)⟩
/-- trying -/
theorem fmX9_123 : sn_Fc LoM RX9 123 20 csM 49 31 true (tyX9 49) := ⟨RX9, TX9, 60, tyX9, in_X9, tyX9_ok, nmX9, rfl, by decide, rfl, q1502, rfl, tyX9_ok 49 (by decide)⟩
/-- steps -/
theorem fmX9_126 : sn_Fc LoM RX9 126 20 csM 50 32 true (tyX9 50) := ⟨RX9, TX9, 60, tyX9, in_X9, tyX9_ok, nmX9, rfl, by decide, rfl, q1503, rfl, tyX9_ok 50 (by decide)⟩
/-- shells -/
theorem fmX9_129 : sn_Fc LoM RX9 129 20 csM 51 33 true (tyX9 51) := ⟨RX9, TX9, 60, tyX9, in_X9, tyX9_ok, nmX9, rfl, by decide, rfl, q1504, rfl, tyX9_ok 51 (by decide)⟩
/-- waysTo -/
theorem fmX9_132 : sn_Fc LoM RX9 132 20 csM 52 34 true (tyX9 52) := ⟨RX9, TX9, 60, tyX9, in_X9, tyX9_ok, nmX9, rfl, by decide, rfl, q1505, rfl, tyX9_ok 52 (by decide)⟩
/-- waysOn -/
theorem fmX9_135 : sn_Fc LoM RX9 135 20 csM 53 35 true (tyX9 53) := ⟨RX9, TX9, 60, tyX9, in_X9, tyX9_ok, nmX9, rfl, by decide, rfl, q1506, rfl, tyX9_ok 53 (by decide)⟩
/-- waysAhead -/
theorem fmX9_138 : sn_Fc LoM RX9 138 20 csM 54 36 true (tyX9 54) := ⟨RX9, TX9, 60, tyX9, in_X9, tyX9_ok, nmX9, rfl, by decide, rfl, q1507, rfl, tyX9_ok 54 (by decide)⟩
/-- eatenBehind -/
theorem fmX9_141 : sn_Fc LoM RX9 141 20 csM 56 37 true (tyX9 56) := ⟨RX9, TX9, 60, tyX9, in_X9, tyX9_ok, nmX9, rfl, by decide, rfl, q1509, rfl, tyX9_ok 56 (by decide)⟩
/-- endCame -/
theorem fmX9_144 : sn_Fc LoM RX9 144 20 csM 57 38 true (tyX9 57) := ⟨RX9, TX9, 60, tyX9, in_X9, tyX9_ok, nmX9, rfl, by decide, rfl, q1510, rfl, tyX9_ok 57 (by decide)⟩
/-- endAt -/
theorem fmX9_147 : sn_Fc LoM RX9 147 20 csM 58 39 true (tyX9 58) := ⟨RX9, TX9, 60, tyX9, in_X9, tyX9_ok, nmX9, rfl, by decide, rfl, q1511, rfl, tyX9_ok 58 (by decide)⟩
/-- thrown -/
theorem fmX9_150 : sn_Fc LoM RX9 150 20 csM 0 0 false (tyX9 0) := ⟨RX9, TX9, 60, tyX9, in_X9, tyX9_ok, nmX9, rfl, by decide, rfl, q1453, rfl, tyX9_ok 0 (by decide)⟩
/-- status -/
theorem fmX9_153 : sn_Fc LoM RX9 153 20 csM 1 0 false (tyX9 1) := ⟨RX9, TX9, 60, tyX9, in_X9, tyX9_ok, nmX9, rfl, by decide, rfl, q1454, rfl, tyX9_ok 1 (by decide)⟩
/-- taped -/
theorem fmX9_206 : sn_Fc LoM RX9 206 20 csM 8 0 false (tyX9 8) := ⟨RX9, TX9, 60, tyX9, in_X9, tyX9_ok, nmX9, rfl, by decide, rfl, q1461, rfl, tyX9_ok 8 (by decide)⟩
/-- spilt -/
theorem fmX9_209 : sn_Fc LoM RX9 209 20 csM 6 0 false (tyX9 6) := ⟨RX9, TX9, 60, tyX9, in_X9, tyX9_ok, nmX9, rfl, by decide, rfl, q1459, rfl, tyX9_ok 6 (by decide)⟩
/-- to -/
theorem fmX9_216 : sn_Fc LoM RX9 216 20 csM 10 0 false (tyX9 10) := ⟨RX9, TX9, 60, tyX9, in_X9, tyX9_ok, nmX9, rfl, by decide, rfl, q1463, rfl, tyX9_ok 10 (by decide)⟩
/-- bad -/
theorem fmX9_219 : sn_Fc LoM RX9 219 20 csM 14 0 false (tyX9 14) := ⟨RX9, TX9, 60, tyX9, in_X9, tyX9_ok, nmX9, rfl, by decide, rfl, q1467, rfl, tyX9_ok 14 (by decide)⟩
/-- from -/
theorem fmX9_226 : sn_Fc LoM RX9 226 20 csM 9 0 false (tyX9 9) := ⟨RX9, TX9, 60, tyX9, in_X9, tyX9_ok, nmX9, rfl, by decide, rfl, q1462, rfl, tyX9_ok 9 (by decide)⟩
/-- worth -/
theorem fmX9_229 : sn_Fc LoM RX9 229 20 csM 12 1 false (tyX9 12) := ⟨RX9, TX9, 60, tyX9, in_X9, tyX9_ok, nmX9, rfl, by decide, rfl, q1465, rfl, tyX9_ok 12 (by decide)⟩
/-- sort -/
theorem fmX9_239 : sn_Fc LoM RX9 239 20 csM 11 0 false (tyX9 11) := ⟨RX9, TX9, 60, tyX9, in_X9, tyX9_ok, nmX9, rfl, by decide, rfl, q1464, rfl, tyX9_ok 11 (by decide)⟩
/-- nCode -/
theorem fmX9_258 : sn_Fc LoM RX9 258 20 csM 17 0 false (tyX9 17) := ⟨RX9, TX9, 60, tyX9, in_X9, tyX9_ok, nmX9, rfl, by decide, rfl, q1470, rfl, tyX9_ok 17 (by decide)⟩
/-- piled -/
theorem fmX9_261 : sn_Fc LoM RX9 261 20 csM 23 0 false (tyX9 23) := ⟨RX9, TX9, 60, tyX9, in_X9, tyX9_ok, nmX9, rfl, by decide, rfl, q1476, rfl, tyX9_ok 23 (by decide)⟩
/-- opened -/
theorem fmX9_279 : sn_Fc LoM RX9 279 20 csM 24 0 false (tyX9 24) := ⟨RX9, TX9, 60, tyX9, in_X9, tyX9_ok, nmX9, rfl, by decide, rfl, q1477, rfl, tyX9_ok 24 (by decide)⟩
/-- nLeaves -/
theorem fmX9_285 : sn_Fc LoM RX9 285 20 csM 20 0 false (tyX9 20) := ⟨RX9, TX9, 60, tyX9, in_X9, tyX9_ok, nmX9, rfl, by decide, rfl, q1473, rfl, tyX9_ok 20 (by decide)⟩
/-- nClauses -/
theorem fmX9_333 : sn_Fc LoM RX9 333 20 csM 15 0 false (tyX9 15) := ⟨RX9, TX9, 60, tyX9, in_X9, tyX9_ok, nmX9, rfl, by decide, rfl, q1468, rfl, tyX9_ok 15 (by decide)⟩
/-- broken -/
theorem fmX9_347 : sn_Fc LoM RX9 347 20 csM 30 0 false (tyX9 30) := ⟨RX9, TX9, 60, tyX9, in_X9, tyX9_ok, nmX9, rfl, by decide, rfl, q1483, rfl, tyX9_ok 30 (by decide)⟩
/-- law -/
theorem fmX9_350 : sn_Fc LoM RX9 350 20 csM 27 0 false (tyX9 27) := ⟨RX9, TX9, 60, tyX9, in_X9, tyX9_ok, nmX9, rfl, by decide, rfl, q1480, rfl, tyX9_ok 27 (by decide)⟩
/-- value -/
theorem fmX9_361 : sn_Fc LoM RX9 361 20 csM 31 1 false (tyX9 31) := ⟨RX9, TX9, 60, tyX9, in_X9, tyX9_ok, nmX9, rfl, by decide, rfl, q1484, rfl, tyX9_ok 31 (by decide)⟩
/-- sum -/
theorem fmX9_367 : sn_Fc LoM RX9 367 20 csM 32 1 false (tyX9 32) := ⟨RX9, TX9, 60, tyX9, in_X9, tyX9_ok, nmX9, rfl, by decide, rfl, q1485, rfl, tyX9_ok 32 (by decide)⟩
/-- mostCome -/
theorem fmX9_414 : sn_Fc LoM RX9 414 20 csM 44 0 false (tyX9 44) := ⟨RX9, TX9, 60, tyX9, in_X9, tyX9_ok, nmX9, rfl, by decide, rfl, q1497, rfl, tyX9_ok 44 (by decide)⟩
/-- leastSum -/
theorem fmX9_417 : sn_Fc LoM RX9 417 20 csM 45 0 false (tyX9 45) := ⟨RX9, TX9, 60, tyX9, in_X9, tyX9_ok, nmX9, rfl, by decide, rfl, q1498, rfl, tyX9_ok 45 (by decide)⟩
/-- asGood -/
theorem fmX9_420 : sn_Fc LoM RX9 420 20 csM 46 0 false (tyX9 46) := ⟨RX9, TX9, 60, tyX9, in_X9, tyX9_ok, nmX9, rfl, by decide, rfl, q1499, rfl, tyX9_ok 46 (by decide)⟩
/-- state -/
theorem fmX9_485 : sn_Fc LoM RX9 485 20 csM 55 1 false (tyX9 55) := ⟨RX9, TX9, 60, tyX9, in_X9, tyX9_ok, nmX9, rfl, by decide, rfl, q1508, rfl, tyX9_ok 55 (by decide)⟩
/-- nHunted -/
theorem fmX9_494 : sn_Fc LoM RX9 494 20 csM 59 0 false (tyX9 59) := ⟨RX9, TX9, 60, tyX9, in_X9, tyX9_ok, nmX9, rfl, by decide, rfl, q1512, rfl, tyX9_ok 59 (by decide)⟩
theorem kb_21 : (Int8.ofInt 21).toInt32 = 21 := by decide
theorem kb_22 : (Int8.ofInt 22).toInt32 = 22 := by decide
theorem kb_23 : (Int8.ofInt 23).toInt32 = 23 := by decide
theorem kb_25 : (Int8.ofInt 25).toInt32 = 25 := by decide
theorem kb_26 : (Int8.ofInt 26).toInt32 = 26 := by decide
theorem kb_27 : (Int8.ofInt 27).toInt32 = 27 := by decide
theorem kb_28 : (Int8.ofInt 28).toInt32 = 28 := by decide
theorem kb_29 : (Int8.ofInt 29).toInt32 = 29 := by decide
theorem kb_30 : (Int8.ofInt 30).toInt32 = 30 := by decide
theorem kb_40 : (Int8.ofInt 40).toInt32 = 40 := by decide
theorem kb_41 : (Int8.ofInt 41).toInt32 = 41 := by decide
theorem kb_52 : (Int8.ofInt 52).toInt32 = 52 := by decide
theorem kb_61 : (Int8.ofInt 61).toInt32 = 61 := by decide
theorem kb_74 : (Int8.ofInt 74).toInt32 = 74 := by decide
theorem kb_80 : (Int8.ofInt 80).toInt32 = 80 := by decide
theorem kb_91 : (Int8.ofInt 91).toInt32 = 91 := by decide
theorem kb_93 : (Int8.ofInt 93).toInt32 = 93 := by decide
theorem kb_98 : (Int8.ofInt 98).toInt32 = 98 := by decide
theorem ks_176 : (Int16.ofInt 176).toInt32 = 176 := by decide
theorem ks_280 : (Int16.ofInt 280).toInt32 = 280 := by decide
theorem ks_900 : (Int16.ofInt 900).toInt32 = 900 := by decide
theorem cvX9_156 : sn_Cv LoM RX9 156 yX9_was cX9_was 2 (some .int) 1 20 := ⟨RX9, TX9, 60, lw_V q1662 q1664 qs50 q117 q1665, rfl, by decide +kernel⟩
theorem cvX9_164 : sn_Cv LoM RX9 164 yX9_tell cX9_tell 2 (some .int) 1 20 := ⟨RX9, TX9, 60, lw_V q1641 q1643 qs48 q117 q1644, rfl, by decide +kernel⟩
theorem cvX9_169 : sn_Cv LoM RX9 169 yX9_ofSnail cX9_ofSnail 3 (some .int) 2 20 := ⟨RX9, TX9, 60, lw_V q1674 q1676 qs52 q117 q1677, rfl, by decide +kernel⟩
theorem cvX9_179 : sn_Cv LoM RX9 179 yX9_change cX9_change 4 (some .int) 2 20 := ⟨RX9, TX9, 60, lw_V q1658 q1660 qs49 q117 q1661, rfl, by decide +kernel⟩
theorem cvX9_182 : sn_Cv LoM RX9 182 yX9_isOfSnails cX9_isOfSnails 4 (some .boolean) 1 20 := ⟨RX9, TX9, 60, lw_V q1670 q1672 qs51 q117 q1673, rfl, by decide +kernel⟩
theorem cvX9_197 : sn_Cv LoM RX9 197 yX9_isSnail cX9_isSnail 2 (some .boolean) 1 20 := ⟨RX9, TX9, 60, lw_V q1697 q1699 qs53 q117 q1700, rfl, by decide +kernel⟩
theorem cvX9_212 : sn_Cv LoM RX9 212 yX9_four cX9_four 3 none 1 20 := ⟨RX9, TX9, 60, lw_V q1732 q1734 qs54 q117 q1735, rfl, by decide +kernel⟩
theorem cvX9_223 : sn_Cv LoM RX9 223 yX9_next cX9_next 1 none 0 20 := ⟨RX9, TX9, 60, lw_V q1752 q1754 qs56 q117 q1755, rfl, by decide +kernel⟩
theorem cvX9_254 : sn_Cv LoM RX9 254 yX9_must cX9_must 2 none 1 20 := ⟨RX9, TX9, 60, lw_V q1776 q1778 qs59 q117 q1779, rfl, by decide +kernel⟩
theorem cvX9_267 : sn_Cv LoM RX9 267 yX9_emit cX9_emit 3 none 2 20 := ⟨RX9, TX9, 60, lw_V q1814 q1816 qs68 q117 q1817, rfl, by decide +kernel⟩
theorem cvX9_275 : sn_Cv LoM RX9 275 yX9_isWord cX9_isWord 3 (some .boolean) 1 20 := ⟨RX9, TX9, 60, lw_V q1772 q1774 qs58 q117 q1775, rfl, by decide +kernel⟩
theorem cvX9_282 : sn_Cv LoM RX9 282 yX9_push cX9_push 3 none 2 20 := ⟨RX9, TX9, 60, lw_V q1789 q1791 qs62 q117 q1792, rfl, by decide +kernel⟩
theorem cvX9_288 : sn_Cv LoM RX9 288 yX9_isSign cX9_isSign 2 (some .boolean) 1 20 := ⟨RX9, TX9, 60, lw_V q1793 q1795 qs63 q117 q1796, rfl, by decide +kernel⟩
theorem cvX9_291 : sn_Cv LoM RX9 291 yX9_openBracket cX9_openBracket 2 none 1 20 := ⟨RX9, TX9, 60, lw_V q1797 q1799 qs64 q117 q1800, rfl, by decide +kernel⟩
theorem cvX9_294 : sn_Cv LoM RX9 294 yX9_partAt cX9_partAt 3 (some .int) 0 20 := ⟨RX9, TX9, 60, lw_V q1805 q1807 qs66 q117 q1808, rfl, by decide +kernel⟩
theorem cvX9_300 : sn_Cv LoM RX9 300 yX9_leaf cX9_leaf 4 none 3 20 := ⟨RX9, TX9, 60, lw_V q1810 q1812 qs67 q117 q1813, rfl, by decide +kernel⟩
theorem cvX9_306 : sn_Cv LoM RX9 306 yX9_readPart cX9_readPart 3 (some .int) 0 20 := ⟨RX9, TX9, 60, lw_V q1801 q1803 qs65 q117 q1804, rfl, by decide +kernel⟩
theorem cvX9_309 : sn_Cv LoM RX9 309 yX9_settle cX9_settle 2 none 1 20 := ⟨RX9, TX9, 60, lw_V q1825 q1827 qs70 q117 q1828, rfl, by decide +kernel⟩
theorem cvX9_312 : sn_Cv LoM RX9 312 yX9_inner cX9_inner 3 (some .int) 0 20 := ⟨RX9, TX9, 60, lw_V q1829 q1831 qs71 q117 q1832, rfl, by decide +kernel⟩
theorem cvX9_315 : sn_Cv LoM RX9 315 yX9_isCompared cX9_isCompared 2 (some .boolean) 0 20 := ⟨RX9, TX9, 60, lw_V q1833 q1835 qs72 q117 q1836, rfl, by decide +kernel⟩
theorem cvX9_323 : sn_Cv LoM RX9 323 yX9_readPlain cX9_readPlain 1 (some .int) 0 20 := ⟨RX9, TX9, 60, lw_V q1784 q1786 qs61 q117 q1787, rfl, by decide +kernel⟩
theorem cvX9_326 : sn_Cv LoM RX9 326 yX9_behindSum cX9_behindSum 4 (some .int) 1 20 := ⟨RX9, TX9, 60, lw_V q1818 q1820 qs69 q117 q1821, rfl, by decide +kernel⟩
theorem cvX9_330 : sn_Cv LoM RX9 330 yX9_behindTest cX9_behindTest 2 (some .int) 0 20 := ⟨RX9, TX9, 60, lw_V q1839 q1841 qs73 q117 q1842, rfl, by decide +kernel⟩
theorem cvX9_336 : sn_Cv LoM RX9 336 yX9_readExpression cX9_readExpression 3 none 1 20 := ⟨RX9, TX9, 60, lw_V q1780 q1782 qs60 q117 q1783, rfl, by decide +kernel⟩
theorem cvX9_341 : sn_Cv LoM RX9 341 yX9_begin cX9_begin 1 none 0 20 := ⟨RX9, TX9, 60, lw_V q1748 q1750 qs55 q117 q1751, rfl, by decide +kernel⟩
theorem cvX9_344 : sn_Cv LoM RX9 344 yX9_readClause cX9_readClause 4 none 0 20 := ⟨RX9, TX9, 60, lw_V q1768 q1770 qs57 q117 q1771, rfl, by decide +kernel⟩
theorem cvX9_353 : sn_Cv LoM RX9 353 yX9_reckon cX9_reckon 6 (some .long) 3 20 := ⟨RX9, TX9, 60, lw_V q1896 q1898 qs82 q117 q1899, rfl, by decide +kernel⟩
theorem cvX9_364 : sn_Cv LoM RX9 364 yX9_reckonAll cX9_reckonAll 7 none 2 20 := ⟨RX9, TX9, 60, lw_V q1892 q1894 qs81 q117 q1895, rfl, by decide +kernel⟩
theorem cvX9_376 : sn_Cv LoM RX9 376 yX9_lightIn cX9_lightIn 4 (some .int) 2 20 := ⟨RX9, TX9, 60, lw_V q1875 q1877 qs79 q117 q1878, rfl, by decide +kernel⟩
theorem cvX9_382 : sn_Cv LoM RX9 382 yX9_isSo cX9_isSo 2 (some .boolean) 1 20 := ⟨RX9, TX9, 60, lw_V q1888 q1890 qs80 q117 q1891, rfl, by decide +kernel⟩
theorem cvX9_385 : sn_Cv LoM RX9 385 yX9_tells cX9_tells 13 (some .long) 6 20 := ⟨RX9, TX9, 60, lw_V q1871 q1873 qs78 q117 q1874, rfl, by decide +kernel⟩
theorem cvX9_389 : sn_Cv LoM RX9 389 yX9_creep cX9_creep 15 none 3 20 := ⟨RX9, TX9, 60, lw_V q1867 q1869 qs77 q117 q1870, rfl, by decide +kernel⟩
theorem cvX9_393 : sn_Cv LoM RX9 393 yX9_luresOf cX9_luresOf 5 (some .long) 4 20 := ⟨RX9, TX9, 60, lw_V q1902 q1904 qs83 q117 q1905, rfl, by decide +kernel⟩
theorem cvX9_401 : sn_Cv LoM RX9 401 yX9_dawn cX9_dawn 2 none 0 20 := ⟨RX9, TX9, 60, lw_V q1859 q1861 qs75 q117 q1862, rfl, by decide +kernel⟩
theorem cvX9_404 : sn_Cv LoM RX9 404 yX9_runHour cX9_runHour 5 none 2 20 := ⟨RX9, TX9, 60, lw_V q1863 q1865 qs76 q117 q1866, rfl, by decide +kernel⟩
theorem cvX9_409 : sn_Cv LoM RX9 409 yX9_runPlan cX9_runPlan 2 none 0 20 := ⟨RX9, TX9, 60, lw_V q1855 q1857 qs74 q117 q1858, rfl, by decide +kernel⟩
theorem cvX9_423 : sn_Cv LoM RX9 423 yX9_keepGarden cX9_keepGarden 3 none 1 20 := ⟨RX9, TX9, 60, lw_V q1929 q1931 qs86 q117 q1932, rfl, by decide +kernel⟩
theorem cvX9_426 : sn_Cv LoM RX9 426 yX9_backTo cX9_backTo 3 none 1 20 := ⟨RX9, TX9, 60, lw_V q1933 q1935 qs87 q117 q1936, rfl, by decide +kernel⟩
theorem cvX9_429 : sn_Cv LoM RX9 429 yX9_weigh cX9_weigh 6 none 1 20 := ⟨RX9, TX9, 60, lw_V q1937 q1939 qs88 q117 q1940, rfl, by decide +kernel⟩
theorem cvX9_432 : sn_Cv LoM RX9 432 yX9_nextPlan cX9_nextPlan 3 (some .int) 1 20 := ⟨RX9, TX9, 60, lw_V q1944 q1946 qs89 q117 q1947, rfl, by decide +kernel⟩
theorem cvX9_438 : sn_Cv LoM RX9 438 yX9_arePlanned cX9_arePlanned 3 (some .boolean) 2 20 := ⟨RX9, TX9, 60, lw_V q1921 q1923 qs84 q117 q1924, rfl, by decide +kernel⟩
theorem cvX9_441 : sn_Cv LoM RX9 441 yX9_findBest cX9_findBest 5 none 2 20 := ⟨RX9, TX9, 60, lw_V q1925 q1927 qs85 q117 q1928, rfl, by decide +kernel⟩
theorem cvX9_445 : sn_Cv LoM RX9 445 yX9_settleDuel cX9_settleDuel 7 none 3 20 := ⟨RX9, TX9, 60, lw_V q1957 q1959 qs90 q117 q1960, rfl, by decide +kernel⟩
theorem cvX9_448 : sn_Cv LoM RX9 448 yX9_noSteps cX9_noSteps 2 none 0 20 := ⟨RX9, TX9, 60, lw_V q1973 q1975 qs93 q117 q1976, rfl, by decide +kernel⟩
theorem cvX9_451 : sn_Cv LoM RX9 451 yX9_put1 cX9_put1 5 none 1 20 := ⟨RX9, TX9, 60, lw_V q1977 q1979 qs94 q117 q1980, rfl, by decide +kernel⟩
theorem cvX9_454 : sn_Cv LoM RX9 454 yX9_areKnown cX9_areKnown 4 (some .boolean) 1 20 := ⟨RX9, TX9, 60, lw_V q1981 q1983 qs95 q117 q1984, rfl, by decide +kernel⟩
theorem cvX9_457 : sn_Cv LoM RX9 457 yX9_isKnown cX9_isKnown 4 (some .boolean) 1 20 := ⟨RX9, TX9, 60, lw_V q1985 q1987 qs96 q117 q1988, rfl, by decide +kernel⟩
theorem cvX9_460 : sn_Cv LoM RX9 460 yX9_allSnails cX9_allSnails 1 (some .int) 0 20 := ⟨RX9, TX9, 60, lw_V q1965 q1967 qs91 q117 q1968, rfl, by decide +kernel⟩
theorem cvX9_463 : sn_Cv LoM RX9 463 yX9_isRead cX9_isRead 3 (some .boolean) 1 20 := ⟨RX9, TX9, 60, lw_V q1969 q1971 qs92 q117 q1972, rfl, by decide +kernel⟩
theorem cvX9_466 : sn_Cv LoM RX9 466 yX9_oddsOf cX9_oddsOf 9 (some .long) 1 20 := ⟨RX9, TX9, 60, lw_V q1997 q1999 qs97 q117 q2000, rfl, by decide +kernel⟩
theorem cvX9_470 : sn_Cv LoM RX9 470 yX9_areSafe cX9_areSafe 7 (some .boolean) 3 20 := ⟨RX9, TX9, 60, lw_V q2018 q2020 qs99 q117 q2021, rfl, by decide +kernel⟩
theorem cvX9_476 : sn_Cv LoM RX9 476 yX9_findShells cX9_findShells 8 (some .boolean) 3 20 := ⟨RX9, TX9, 60, lw_V q2014 q2016 qs98 q117 q2017, rfl, by decide +kernel⟩
theorem cvX9_479 : sn_Cv LoM RX9 479 yX9_canPass cX9_canPass 5 (some .boolean) 2 20 := ⟨RX9, TX9, 60, lw_V q2038 q2040 qs101 q117 q2041, rfl, by decide +kernel⟩
theorem cvX9_482 : sn_Cv LoM RX9 482 yX9_findOrders cX9_findOrders 4 none 0 20 := ⟨RX9, TX9, 60, lw_V q2034 q2036 qs100 q117 q2037, rfl, by decide +kernel⟩
theorem csX9_160 : sn_Cs RX9 160 yX9_in cX9_in 6 (some .boolean) 3 := ⟨lw_S q1638 q1639 q117 q1640, by decide +kernel⟩
theorem csX9_173 : sn_Cs RX9 173 yX9_isCell cX9_isCell 1 (some .boolean) 1 := ⟨lw_S q1653 q1654 q117 q1655, by decide +kernel⟩
theorem csX9_193 : sn_Cs RX9 193 yX9_fits cX9_fits 2 (some .boolean) 2 := ⟨lw_S q1692 q1693 q117 q1694, by decide +kernel⟩
theorem csX9_233 : sn_Cs RX9 233 yX9_isSmall cX9_isSmall 1 (some .boolean) 1 := ⟨lw_S q1756 q1757 q117 q1758, by decide +kernel⟩
theorem csX9_236 : sn_Cs RX9 236 yX9_isDigit cX9_isDigit 1 (some .boolean) 1 := ⟨lw_S q1759 q1760 q117 q1761, by decide +kernel⟩
theorem csX9_264 : sn_Cs RX9 264 yX9_binds cX9_binds 1 (some .int) 1 := ⟨lw_S q1822 q1823 q117 q1824, by decide +kernel⟩
theorem csX9_370 : sn_Cs RX9 370 yX9_size cX9_size 1 (some .int) 1 := ⟨lw_S q1882 q1883 q117 q1884, by decide +kernel⟩
theorem csX9_373 : sn_Cs RX9 373 yX9_apart cX9_apart 2 (some .int) 2 := ⟨lw_S q1879 q1880 q117 q1881, by decide +kernel⟩
theorem csX9_379 : sn_Cs RX9 379 yX9_bits cX9_bits 3 (some .int) 1 := ⟨lw_S q1885 q1886 q117 q1887, by decide +kernel⟩
theorem csX9_435 : sn_Cs RX9 435 yX9_is cX9_is 2 (some .boolean) 2 := ⟨lw_S q1941 q1942 q117 q1943, by decide +kernel⟩
