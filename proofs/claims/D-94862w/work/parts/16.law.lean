/-! THE LAW's WALK: its cases, its loop -/
set_option maxRecDepth 100000
def RL : String := "SnailPostLaw"
theorem cvL_13 {X : sn_W → (Nat → Prop) → State → Heap → Prop} : sn_Cv (LoW X) RL 13 yX0_damp cX0_damp 3 (some .int) 2 0 := ⟨RX0, TX0, 28, lw_V q680 q681 q682 q103 q683, rfl, by decide +kernel⟩
theorem cvL_17 {X : sn_W → (Nat → Prop) → State → Heap → Prop} : sn_Cv (LoW X) RL 17 yX9_damp cX9_damp 3 (some .int) 2 20 := ⟨RX9, TX9, 60, lw_V q1649 q1650 q1651 q117 q1652, rfl, by decide +kernel⟩
theorem cvL_18 {X : sn_W → (Nat → Prop) → State → Heap → Prop} : sn_Cv (LoW X) RL 18 yX0_salt cX0_salt 4 (some .int) 2 0 := ⟨RX0, TX0, 28, lw_V q691 q692 q693 q103 q694, rfl, by decide +kernel⟩
theorem cvL_21 {X : sn_W → (Nat → Prop) → State → Heap → Prop} : sn_Cv (LoW X) RL 21 yX9_salt cX9_salt 3 (some .int) 2 20 := ⟨RX9, TX9, 60, lw_V q1666 q1667 q1668 q117 q1669, rfl, by decide +kernel⟩
theorem cvL_22 {X : sn_W → (Nat → Prop) → State → Heap → Prop} : sn_Cv (LoW X) RL 22 yX0_of cX0_of 3 (some .int) 2 0 := ⟨RX0, TX0, 28, lw_V q703 q704 q705 q103 q706, rfl, by decide +kernel⟩
theorem cvL_25 {X : sn_W → (Nat → Prop) → State → Heap → Prop} : sn_Cv (LoW X) RL 25 yX9_of cX9_of 3 (some .int) 2 20 := ⟨RX9, TX9, 60, lw_V q1678 q1679 q1680 q117 q1681, rfl, by decide +kernel⟩
theorem cvL_26 {X : sn_W → (Nat → Prop) → State → Heap → Prop} : sn_Cv (LoW X) RL 26 yX0_snail cX0_snail 6 (some .int) 4 0 := ⟨RX0, TX0, 28, lw_V q707 q708 q709 q103 q710, rfl, by decide +kernel⟩
theorem cvL_30 {X : sn_W → (Nat → Prop) → State → Heap → Prop} : sn_Cv (LoW X) RL 30 yX9_snail cX9_snail 7 (some .int) 4 20 := ⟨RX9, TX9, 60, lw_V q1682 q1683 q1684 q117 q1685, rfl, by decide +kernel⟩
theorem cvL_31 {X : sn_W → (Nat → Prop) → State → Heap → Prop} : sn_Cv (LoW X) RL 31 yX0_put cX0_put 4 (some .int) 3 0 := ⟨RX0, TX0, 28, lw_V q714 q715 q716 q103 q717, rfl, by decide +kernel⟩
theorem cvL_35 {X : sn_W → (Nat → Prop) → State → Heap → Prop} : sn_Cv (LoW X) RL 35 yX9_put cX9_put 4 (some .int) 3 20 := ⟨RX9, TX9, 60, lw_V q1688 q1689 q1690 q117 q1691, rfl, by decide +kernel⟩
theorem cvL_36 {X : sn_W → (Nat → Prop) → State → Heap → Prop} : sn_Cv (LoW X) RL 36 yX0_fact cX0_fact 3 (some .int) 2 0 := ⟨RX0, TX0, 28, lw_V q722 q723 q724 q103 q725, rfl, by decide +kernel⟩
theorem cvL_39 {X : sn_W → (Nat → Prop) → State → Heap → Prop} : sn_Cv (LoW X) RL 39 yX9_fact cX9_fact 3 (some .int) 2 20 := ⟨RX9, TX9, 60, lw_V q1701 q1702 q1703 q117 q1704, rfl, by decide +kernel⟩
theorem cvL_40 {X : sn_W → (Nat → Prop) → State → Heap → Prop} : sn_Cv (LoW X) RL 40 yX0_spot cX0_spot 2 (some .int) 1 0 := ⟨RX0, TX0, 28, lw_V q726 q727 q728 q103 q729, rfl, by decide +kernel⟩
theorem cvL_44 {X : sn_W → (Nat → Prop) → State → Heap → Prop} : sn_Cv (LoW X) RL 44 yX9_spot cX9_spot 3 (some .int) 1 20 := ⟨RX9, TX9, 60, lw_V q1706 q1707 q1708 q117 q1709, rfl, by decide +kernel⟩
theorem cvL_45 {X : sn_W → (Nat → Prop) → State → Heap → Prop} : sn_Cv (LoW X) RL 45 yX0_plan cX0_plan 3 (some .int) 2 0 := ⟨RX0, TX0, 28, lw_V q730 q731 q732 q103 q733, rfl, by decide +kernel⟩
theorem cvL_48 {X : sn_W → (Nat → Prop) → State → Heap → Prop} : sn_Cv (LoW X) RL 48 yX9_plan cX9_plan 3 (some .int) 2 20 := ⟨RX9, TX9, 60, lw_V q1710 q1711 q1712 q117 q1713, rfl, by decide +kernel⟩
theorem cvL_49 {X : sn_W → (Nat → Prop) → State → Heap → Prop} : sn_Cv (LoW X) RL 49 yX0_terms cX0_terms 3 (some .int) 2 0 := ⟨RX0, TX0, 28, lw_V q737 q738 q739 q103 q740, rfl, by decide +kernel⟩
theorem cvL_52 {X : sn_W → (Nat → Prop) → State → Heap → Prop} : sn_Cv (LoW X) RL 52 yX9_terms cX9_terms 4 (some .int) 2 20 := ⟨RX9, TX9, 60, lw_V q1714 q1715 q1716 q117 q1717, rfl, by decide +kernel⟩
theorem cvL_53 {X : sn_W → (Nat → Prop) → State → Heap → Prop} : sn_Cv (LoW X) RL 53 yX0_feed cX0_feed 6 (some .int) 5 0 := ⟨RX0, TX0, 28, lw_V q741 q742 q743 q103 q744, rfl, by decide +kernel⟩
theorem cvL_57 {X : sn_W → (Nat → Prop) → State → Heap → Prop} : sn_Cv (LoW X) RL 57 yX9_feed cX9_feed 6 (some .int) 5 20 := ⟨RX9, TX9, 60, lw_V q1728 q1729 q1730 q117 q1731, rfl, by decide +kernel⟩
theorem cvL_58 {X : sn_W → (Nat → Prop) → State → Heap → Prop} : sn_Cv (LoW X) RL 58 yX0_end cX0_end 2 (some .int) 1 0 := ⟨RX0, TX0, 28, lw_V q749 q750 q751 q103 q752, rfl, by decide +kernel⟩
theorem cvL_61 {X : sn_W → (Nat → Prop) → State → Heap → Prop} : sn_Cv (LoW X) RL 61 yX9_end cX9_end 2 (some .int) 1 20 := ⟨RX9, TX9, 60, lw_V q1736 q1737 q1738 q117 q1739, rfl, by decide +kernel⟩
theorem cvL_62 {X : sn_W → (Nat → Prop) → State → Heap → Prop} : sn_Cv (LoW X) RL 62 yX0_row cX0_row 6 (some .int) 0 0 := ⟨RX0, TX0, 28, lw_V q753 q754 q755 q103 q756, rfl, by decide +kernel⟩
theorem cvL_66 {X : sn_W → (Nat → Prop) → State → Heap → Prop} : sn_Cv (LoW X) RL 66 yX9_row cX9_row 6 (some .int) 0 20 := ⟨RX9, TX9, 60, lw_V q1720 q1721 q1722 q117 q1723, rfl, by decide +kernel⟩
theorem cvL_67 {X : sn_W → (Nat → Prop) → State → Heap → Prop} : sn_Cv (LoW X) RL 67 yX0_spilt cX0_spilt 1 (some .int) 0 0 := ⟨RX0, TX0, 28, lw_V q757 q758 q759 q103 q760, rfl, by decide +kernel⟩
theorem cvL_70 {X : sn_W → (Nat → Prop) → State → Heap → Prop} : sn_Cv (LoW X) RL 70 yX9_spilt cX9_spilt 1 (some .int) 0 20 := ⟨RX9, TX9, 60, lw_V q1724 q1725 q1726 q117 q1727, rfl, by decide +kernel⟩
theorem cvL_71 {X : sn_W → (Nat → Prop) → State → Heap → Prop} : sn_CvW (LoW X) RL 71 yX0_law cX0_law 4 (some .int) [(45, 49, 52, 204)] 0 0 := ⟨RX0, TX0, 28, lw_VW q761 q762 q763 q103 q764, rfl, by decide +kernel⟩
theorem cvL_74 {X : sn_W → (Nat → Prop) → State → Heap → Prop} : sn_Cv (LoW X) RL 74 yX9_law cX9_law 3 (some .int) 0 20 := ⟨RX9, TX9, 60, lw_V q1744 q1745 q1746 q117 q1747, rfl, by decide +kernel⟩
theorem cvL_75 {X : sn_W → (Nat → Prop) → State → Heap → Prop} : sn_Cv (LoW X) RL 75 yX0_fault cX0_fault 1 (some .int) 0 0 := ⟨RX0, TX0, 28, lw_V q1096 q1097 q1098 q103 q1099, rfl, by decide +kernel⟩
theorem cvL_78 {X : sn_W → (Nat → Prop) → State → Heap → Prop} : sn_Cv (LoW X) RL 78 yX9_fault cX9_fault 1 (some .int) 0 20 := ⟨RX9, TX9, 60, lw_V q1740 q1741 q1742 q117 q1743, rfl, by decide +kernel⟩
theorem cvL_79 {X : sn_W → (Nat → Prop) → State → Heap → Prop} : sn_Cv (LoW X) RL 79 yX0_force cX0_force 3 (some .int) 1 0 := ⟨RX0, TX0, 28, lw_V q1100 q1101 q1102 q103 q1103, rfl, by decide +kernel⟩
theorem cvL_82 {X : sn_W → (Nat → Prop) → State → Heap → Prop} : sn_Cv (LoW X) RL 82 yX9_force cX9_force 2 (some .int) 1 20 := ⟨RX9, TX9, 60, lw_V q1846 q1847 q1848 q117 q1849, rfl, by decide +kernel⟩
theorem cvL_83 {X : sn_W → (Nat → Prop) → State → Heap → Prop} : sn_Cv (LoW X) RL 83 yX0_where cX0_where 3 (some .int) 2 0 := ⟨RX0, TX0, 28, lw_V q1104 q1105 q1106 q103 q1107, rfl, by decide +kernel⟩
theorem cvL_86 {X : sn_W → (Nat → Prop) → State → Heap → Prop} : sn_Cv (LoW X) RL 86 yX9_where cX9_where 3 (some .int) 2 20 := ⟨RX9, TX9, 60, lw_V q1850 q1851 q1852 q117 q1853, rfl, by decide +kernel⟩
theorem cvL_87 {X : sn_W → (Nat → Prop) → State → Heap → Prop} : sn_Cv (LoW X) RL 87 yX0_day cX0_day 5 (some .int) 2 0 := ⟨RX0, TX0, 28, lw_V q1218 q1219 q1220 q103 q1221, rfl, by decide +kernel⟩
theorem cvL_90 {X : sn_W → (Nat → Prop) → State → Heap → Prop} : sn_Cv (LoW X) RL 90 yX9_day cX9_day 5 (some .int) 2 20 := ⟨RX9, TX9, 60, lw_V q1908 q1909 q1910 q117 q1911, rfl, by decide +kernel⟩
theorem cvL_91 {X : sn_W → (Nat → Prop) → State → Heap → Prop} : sn_Cv (LoW X) RL 91 yX0_trail cX0_trail 2 (some .int) 1 0 := ⟨RX0, TX0, 28, lw_V q1222 q1223 q1224 q103 q1225, rfl, by decide +kernel⟩
theorem cvL_94 {X : sn_W → (Nat → Prop) → State → Heap → Prop} : sn_Cv (LoW X) RL 94 yX9_trail cX9_trail 2 (some .int) 1 20 := ⟨RX9, TX9, 60, lw_V q1913 q1914 q1915 q117 q1916, rfl, by decide +kernel⟩
theorem cvL_95 {X : sn_W → (Nat → Prop) → State → Heap → Prop} : sn_Cv (LoW X) RL 95 yX0_best cX0_best 4 (some .int) 3 0 := ⟨RX0, TX0, 28, lw_V q1226 q1227 q1228 q103 q1229, rfl, by decide +kernel⟩
theorem cvL_98 {X : sn_W → (Nat → Prop) → State → Heap → Prop} : sn_Cv (LoW X) RL 98 yX9_best cX9_best 4 (some .int) 3 20 := ⟨RX9, TX9, 60, lw_V q1917 q1918 q1919 q117 q1920, rfl, by decide +kernel⟩
theorem cvL_99 {X : sn_W → (Nat → Prop) → State → Heap → Prop} : sn_Cv (LoW X) RL 99 yX0_light cX0_light 4 (some .int) 2 0 := ⟨RX0, TX0, 28, lw_V q1267 q1268 q1269 q103 q1270, rfl, by decide +kernel⟩
theorem cvL_102 {X : sn_W → (Nat → Prop) → State → Heap → Prop} : sn_Cv (LoW X) RL 102 yX9_light cX9_light 4 (some .int) 2 20 := ⟨RX9, TX9, 60, lw_V q1948 q1949 q1950 q117 q1951, rfl, by decide +kernel⟩
theorem cvL_103 {X : sn_W → (Nat → Prop) → State → Heap → Prop} : sn_Cv (LoW X) RL 103 yX0_duel cX0_duel 4 (some .int) 3 0 := ⟨RX0, TX0, 28, lw_V q1271 q1272 q1273 q103 q1274, rfl, by decide +kernel⟩
theorem cvL_106 {X : sn_W → (Nat → Prop) → State → Heap → Prop} : sn_Cv (LoW X) RL 106 yX9_duel cX9_duel 6 (some .int) 3 20 := ⟨RX9, TX9, 60, lw_V q1952 q1953 q1954 q117 q1955, rfl, by decide +kernel⟩
theorem cvL_107 {X : sn_W → (Nat → Prop) → State → Heap → Prop} : sn_Cv (LoW X) RL 107 yX0_read cX0_read 2 (some .int) 1 0 := ⟨RX0, TX0, 28, lw_V q1282 q1283 q1284 q103 q1285, rfl, by decide +kernel⟩
theorem cvL_110 {X : sn_W → (Nat → Prop) → State → Heap → Prop} : sn_Cv (LoW X) RL 110 yX9_read cX9_read 2 (some .int) 1 20 := ⟨RX9, TX9, 60, lw_V q1961 q1962 q1963 q117 q1964, rfl, by decide +kernel⟩
theorem cvL_111 {X : sn_W → (Nat → Prop) → State → Heap → Prop} : sn_Cv (LoW X) RL 111 yX0_safe cX0_safe 3 (some .int) 0 0 := ⟨RX0, TX0, 28, lw_V q1312 q1313 q1314 q103 q1315, rfl, by decide +kernel⟩
theorem cvL_114 {X : sn_W → (Nat → Prop) → State → Heap → Prop} : sn_Cv (LoW X) RL 114 yX9_safe cX9_safe 4 (some .int) 0 20 := ⟨RX9, TX9, 60, lw_V q1989 q1990 q1991 q117 q1992, rfl, by decide +kernel⟩
theorem cvL_115 {X : sn_W → (Nat → Prop) → State → Heap → Prop} : sn_Cv (LoW X) RL 115 yX0_odds cX0_odds 1 (some .long) 0 0 := ⟨RX0, TX0, 28, lw_V q1318 q1319 q1320 q103 q1321, rfl, by decide +kernel⟩
theorem cvL_119 {X : sn_W → (Nat → Prop) → State → Heap → Prop} : sn_Cv (LoW X) RL 119 yX9_odds cX9_odds 1 (some .long) 0 20 := ⟨RX9, TX9, 60, lw_V q1993 q1994 q1995 q117 q1996, rfl, by decide +kernel⟩
theorem cvL_120 {X : sn_W → (Nat → Prop) → State → Heap → Prop} : sn_Cv (LoW X) RL 120 yX0_keys cX0_keys 3 (some .int) 0 0 := ⟨RX0, TX0, 28, lw_V q1326 q1327 q1328 q103 q1329, rfl, by decide +kernel⟩
theorem cvL_123 {X : sn_W → (Nat → Prop) → State → Heap → Prop} : sn_Cv (LoW X) RL 123 yX9_keys cX9_keys 3 (some .int) 0 20 := ⟨RX9, TX9, 60, lw_V q2001 q2002 q2003 q117 q2004, rfl, by decide +kernel⟩
theorem cvL_124 {X : sn_W → (Nat → Prop) → State → Heap → Prop} : sn_Cv (LoW X) RL 124 yX0_send cX0_send 10 (some .int) 1 0 := ⟨RX0, TX0, 28, lw_V q1330 q1331 q1332 q103 q1333, rfl, by decide +kernel⟩
theorem cvL_127 {X : sn_W → (Nat → Prop) → State → Heap → Prop} : sn_Cv (LoW X) RL 127 yX9_send cX9_send 12 (some .int) 1 20 := ⟨RX9, TX9, 60, lw_V q2005 q2006 q2007 q117 q2008, rfl, by decide +kernel⟩
theorem cvL_128 {X : sn_W → (Nat → Prop) → State → Heap → Prop} : sn_Cv (LoW X) RL 128 yX0_shells cX0_shells 4 (some .int) 3 0 := ⟨RX0, TX0, 28, lw_V q1335 q1336 q1337 q103 q1338, rfl, by decide +kernel⟩
theorem cvL_131 {X : sn_W → (Nat → Prop) → State → Heap → Prop} : sn_Cv (LoW X) RL 131 yX9_shells cX9_shells 5 (some .int) 3 20 := ⟨RX9, TX9, 60, lw_V q2009 q2010 q2011 q117 q2012, rfl, by decide +kernel⟩
theorem cvL_132 {X : sn_W → (Nat → Prop) → State → Heap → Prop} : sn_Cv (LoW X) RL 132 yX0_cross cX0_cross 3 (some .int) 2 0 := ⟨RX0, TX0, 28, lw_V q1357 q1358 q1359 q103 q1360, rfl, by decide +kernel⟩
theorem cvL_135 {X : sn_W → (Nat → Prop) → State → Heap → Prop} : sn_Cv (LoW X) RL 135 yX9_cross cX9_cross 4 (some .int) 2 20 := ⟨RX9, TX9, 60, lw_V q2022 q2023 q2024 q117 q2025, rfl, by decide +kernel⟩
theorem cvL_136 {X : sn_W → (Nat → Prop) → State → Heap → Prop} : sn_Cv (LoW X) RL 136 yX0_drop cX0_drop 3 (some .int) 1 0 := ⟨RX0, TX0, 28, lw_V q1361 q1362 q1363 q103 q1364, rfl, by decide +kernel⟩
theorem cvL_139 {X : sn_W → (Nat → Prop) → State → Heap → Prop} : sn_Cv (LoW X) RL 139 yX9_drop cX9_drop 3 (some .int) 1 20 := ⟨RX9, TX9, 60, lw_V q2026 q2027 q2028 q117 q2029, rfl, by decide +kernel⟩
theorem cvL_140 {X : sn_W → (Nat → Prop) → State → Heap → Prop} : sn_Cv (LoW X) RL 140 yX0_orders cX0_orders 2 (some .int) 1 0 := ⟨RX0, TX0, 28, lw_V q1365 q1366 q1367 q103 q1368, rfl, by decide +kernel⟩
theorem cvL_143 {X : sn_W → (Nat → Prop) → State → Heap → Prop} : sn_Cv (LoW X) RL 143 yX9_orders cX9_orders 5 (some .int) 1 20 := ⟨RX9, TX9, 60, lw_V q2030 q2031 q2032 q117 q2033, rfl, by decide +kernel⟩
theorem cvL_144 {X : sn_W → (Nat → Prop) → State → Heap → Prop} : sn_Cv (LoW X) RL 144 yX0_sure cX0_sure 3 (some .int) 1 0 := ⟨RX0, TX0, 28, lw_V q1387 q1388 q1389 q103 q1390, rfl, by decide +kernel⟩
theorem cvL_147 {X : sn_W → (Nat → Prop) → State → Heap → Prop} : sn_Cv (LoW X) RL 147 yX9_sure cX9_sure 6 (some .int) 1 20 := ⟨RX9, TX9, 60, lw_V q2042 q2043 q2044 q117 q2045, rfl, by decide +kernel⟩
theorem cvL_148 {X : sn_W → (Nat → Prop) → State → Heap → Prop} : sn_Cv (LoW X) RL 148 yX0_ahead cX0_ahead 3 (some .int) 2 0 := ⟨RX0, TX0, 28, lw_V q1394 q1395 q1396 q103 q1397, rfl, by decide +kernel⟩
theorem cvL_151 {X : sn_W → (Nat → Prop) → State → Heap → Prop} : sn_Cv (LoW X) RL 151 yX9_ahead cX9_ahead 7 (some .int) 2 20 := ⟨RX9, TX9, 60, lw_V q2046 q2047 q2048 q117 q2049, rfl, by decide +kernel⟩
theorem cvL_152 {X : sn_W → (Nat → Prop) → State → Heap → Prop} : sn_Cv (LoW X) RL 152 yX0_hunt cX0_hunt 4 (some .int) 1 0 := ⟨RX0, TX0, 28, lw_V q1398 q1399 q1400 q103 q1401, rfl, by decide +kernel⟩
theorem cvL_155 {X : sn_W → (Nat → Prop) → State → Heap → Prop} : sn_Cv (LoW X) RL 155 yX9_hunt cX9_hunt 7 (some .int) 1 20 := ⟨RX9, TX9, 60, lw_V q2050 q2051 q2052 q117 q2053, rfl, by decide +kernel⟩
theorem cvL_156 {X : sn_W → (Nat → Prop) → State → Heap → Prop} : sn_Cv (LoW X) RL 156 yX0_hunted cX0_hunted 3 (some .int) 2 0 := ⟨RX0, TX0, 28, lw_V q1422 q1423 q1424 q103 q1425, rfl, by decide +kernel⟩
theorem cvL_159 {X : sn_W → (Nat → Prop) → State → Heap → Prop} : sn_Cv (LoW X) RL 159 yX9_hunted cX9_hunted 3 (some .int) 2 20 := ⟨RX9, TX9, 60, lw_V q2057 q2058 q2059 q117 q2060, rfl, by decide +kernel⟩
theorem cvL_160 {X : sn_W → (Nat → Prop) → State → Heap → Prop} : sn_Cv (LoW X) RL 160 yX0_image cX0_image 2 (some .int) 1 0 := ⟨RX0, TX0, 28, lw_V q574 q575 q576 q103 q577, rfl, by decide +kernel⟩
theorem cvL_163 {X : sn_W → (Nat → Prop) → State → Heap → Prop} : sn_Cv (LoW X) RL 163 yX9_image cX9_image 3 (some .int) 1 20 := ⟨RX9, TX9, 60, lw_V q1634 q1635 q1636 q117 q1637, rfl, by decide +kernel⟩
theorem cvL_164 {X : sn_W → (Nat → Prop) → State → Heap → Prop} : sn_Cv (LoW X) RL 164 yX0_back cX0_back 2 (some .int) 1 0 := ⟨RX0, TX0, 28, lw_V q672 q673 q674 q103 q675, rfl, by decide +kernel⟩
theorem cvL_167 {X : sn_W → (Nat → Prop) → State → Heap → Prop} : sn_Cv (LoW X) RL 167 yX9_back cX9_back 3 (some .int) 1 20 := ⟨RX9, TX9, 60, lw_V q1645 q1646 q1647 q117 q1648, rfl, by decide +kernel⟩
theorem cvL_168 {X : sn_W → (Nat → Prop) → State → Heap → Prop} : sn_Cv (LoW X) RL 168 yX0_count cX0_count 5 (some .int) 1 0 := ⟨RX0, TX0, 28, lw_V q1426 q1427 q1428 q103 q1429, rfl, by decide +kernel⟩
theorem cvL_171 {X : sn_W → (Nat → Prop) → State → Heap → Prop} : sn_Cv (LoW X) RL 171 yX9_count cX9_count 5 (some .int) 1 20 := ⟨RX9, TX9, 60, lw_V q2061 q2062 q2063 q117 q2064, rfl, by decide +kernel⟩
theorem cvL_172 {X : sn_W → (Nat → Prop) → State → Heap → Prop} : sn_Cv (LoW X) RL 172 yX0_status cX0_status 1 (some .int) 0 0 := ⟨RX0, TX0, 28, lw_V q1430 q1431 q1432 q103 q1433, rfl, by decide +kernel⟩
theorem cvL_175 {X : sn_W → (Nat → Prop) → State → Heap → Prop} : sn_Cv (LoW X) RL 175 yX9_status cX9_status 1 (some .int) 0 20 := ⟨RX9, TX9, 60, lw_V q2065 q2066 q2067 q117 q2068, rfl, by decide +kernel⟩
def wpL_0 (wX : sn_W) (L : Nat) (xs : Nat → Int32) (i : Int32) (mc ms : Nat) (SX SM : sn_S) (K : Nat → Nat → sn_S → sn_S → Prop) : Prop :=
  (vp_in (i + 1) L ∧ (vp_in (i + 2) L ∧ wpX0_damp wX (xs (i + 1).toNatClampNeg) (xs (i + 2).toNatClampNeg) SX (fun r1 SX1 => (vp_in (i + 1) L ∧ (vp_in (i + 2) L ∧ wpX9_damp (xs (i + 1).toNatClampNeg) (xs (i + 2).toNatClampNeg) SM (fun r2 SM2 => ((r1 = r2 → K mc ms SX1 SM2) ∧ (¬ r1 = r2 → (0 : Int32) = 1))))))))
theorem wkL_0 {b L : Nat} {xs : Nat → Int32} {w wX wM : sn_W} {C : sn_C} {nm : String} {tb : List ExceptionTableEntry} (hO : sn_Ok (LoL b L xs) w C RL cL_law 4 ret tb nm) (hwX : sn_wok w wX) (hwM : sn_wok w wM) {i : Int32} {K : Nat → Nat → sn_S → sn_S → Prop} (hK : ∀ (mc ms : Nat) (SX SM : sn_S), K mc ms SX SM → sn_G (LoL b L xs) w room_1 (sn_qI (fun r _ => r = 1)) sn_noE C mc ms 1292 [(0, .ref b), (1, .ref (wX.2.2.1 0)), (2, .ref (wM.2.2.1 0)), (3, .int i)] [] (sn_two wX wM SX SM)) {mc ms : Nat} {SX SM : sn_S} : wpL_0 wX L xs i mc ms SX SM K → sn_G (LoL b L xs) w room_1 (sn_qI (fun r _ => r = 1)) sn_noE C mc ms 204 [(0, .ref b), (1, .ref (wX.2.2.1 0)), (2, .ref (wM.2.2.1 0)), (3, .int i)] [] (sn_two wX wM SX SM) := by
  unfold wpL_0
  refine sn_aload_n hO 1 rfl dL_law_204 ?_
  refine sn_aload_n hO 0 rfl dL_law_205 ?_
  refine sn_iload_n hO 3 rfl dL_law_206 ?_
  refine sn_iconst hO kc_1 dL_law_207 ?_
  refine sn_iadd hO dL_law_208 ?_
  refine sn_sld hO dL_law_209 ?_
  refine sn_aload_n hO 0 rfl dL_law_210 ?_
  refine sn_iload_n hO 3 rfl dL_law_211 ?_
  refine sn_iconst hO kc_2 dL_law_212 ?_
  refine sn_iadd hO dL_law_213 ?_
  refine sn_sld hO dL_law_214 ?_
  refine sn_lcX hO hwX (c2 := mc) (s2 := ms) (rm := rmX0_damp) [.int (xs (i + 1).toNatClampNeg), .int (xs (i + 2).toNatClampNeg)] cvL_13 (fun h => ctX0_damp h) ⟨Nat.le_of_ble_eq_true rfl, Nat.le_of_ble_eq_true rfl⟩ rfl rfl (Nat.le_of_ble_eq_true rfl) ⟨Nat.zero_le _, Nat.zero_le _, rfl, rfl⟩ dL_law_215 (sn_dI (fun r1 SX1 => ?_))
  refine sn_aload_n hO 2 rfl dL_law_218 ?_
  refine sn_aload_n hO 0 rfl dL_law_219 ?_
  refine sn_iload_n hO 3 rfl dL_law_220 ?_
  refine sn_iconst hO kc_1 dL_law_221 ?_
  refine sn_iadd hO dL_law_222 ?_
  refine sn_sld hO dL_law_223 ?_
  refine sn_aload_n hO 0 rfl dL_law_224 ?_
  refine sn_iload_n hO 3 rfl dL_law_225 ?_
  refine sn_iconst hO kc_2 dL_law_226 ?_
  refine sn_iadd hO dL_law_227 ?_
  refine sn_sld hO dL_law_228 ?_
  refine sn_lcM hO hwM (c2 := mc) (s2 := ms) (rm := rmX9_damp) [.int (xs (i + 1).toNatClampNeg), .int (xs (i + 2).toNatClampNeg)] cvL_17 (fun h => ctX9_damp h) ⟨Nat.le_of_ble_eq_true rfl, Nat.le_of_ble_eq_true rfl⟩ rfl rfl (Nat.le_of_ble_eq_true rfl) ⟨Nat.zero_le _, Nat.zero_le _, rfl, rfl⟩ dL_law_229 (sn_eI (fun r2 SM2 => ?_))
  refine sn_icmp_eq hO 1292 (by decide) dL_law_232 ?_ ?_
  · exact hK _ _ _ _
  · refine sn_iconst hO kc_0 dL_law_235 ?_
    exact sn_zret (r := 0) (Qi := fun r _ => r = 1) hO (ty := .boolean) rfl rfl dL_law_236
def wpL_1 (wX : sn_W) (L : Nat) (xs : Nat → Int32) (i : Int32) (mc ms : Nat) (SX SM : sn_S) (K : Nat → Nat → sn_S → sn_S → Prop) : Prop :=
  (vp_in (i + 1) L ∧ (vp_in (i + 2) L ∧ wpX0_salt wX (xs (i + 1).toNatClampNeg) (xs (i + 2).toNatClampNeg) SX (fun r1 SX1 => (vp_in (i + 1) L ∧ (vp_in (i + 2) L ∧ wpX9_salt (xs (i + 1).toNatClampNeg) (xs (i + 2).toNatClampNeg) SM (fun r2 SM2 => ((r1 = r2 → K mc ms SX1 SM2) ∧ (¬ r1 = r2 → (0 : Int32) = 1))))))))
theorem wkL_1 {b L : Nat} {xs : Nat → Int32} {w wX wM : sn_W} {C : sn_C} {nm : String} {tb : List ExceptionTableEntry} (hO : sn_Ok (LoL b L xs) w C RL cL_law 4 ret tb nm) (hwX : sn_wok w wX) (hwM : sn_wok w wM) {i : Int32} {K : Nat → Nat → sn_S → sn_S → Prop} (hK : ∀ (mc ms : Nat) (SX SM : sn_S), K mc ms SX SM → sn_G (LoL b L xs) w room_1 (sn_qI (fun r _ => r = 1)) sn_noE C mc ms 1292 [(0, .ref b), (1, .ref (wX.2.2.1 0)), (2, .ref (wM.2.2.1 0)), (3, .int i)] [] (sn_two wX wM SX SM)) {mc ms : Nat} {SX SM : sn_S} : wpL_1 wX L xs i mc ms SX SM K → sn_G (LoL b L xs) w room_1 (sn_qI (fun r _ => r = 1)) sn_noE C mc ms 237 [(0, .ref b), (1, .ref (wX.2.2.1 0)), (2, .ref (wM.2.2.1 0)), (3, .int i)] [] (sn_two wX wM SX SM) := by
  unfold wpL_1
  refine sn_aload_n hO 1 rfl dL_law_237 ?_
  refine sn_aload_n hO 0 rfl dL_law_238 ?_
  refine sn_iload_n hO 3 rfl dL_law_239 ?_
  refine sn_iconst hO kc_1 dL_law_240 ?_
  refine sn_iadd hO dL_law_241 ?_
  refine sn_sld hO dL_law_242 ?_
  refine sn_aload_n hO 0 rfl dL_law_243 ?_
  refine sn_iload_n hO 3 rfl dL_law_244 ?_
  refine sn_iconst hO kc_2 dL_law_245 ?_
  refine sn_iadd hO dL_law_246 ?_
  refine sn_sld hO dL_law_247 ?_
  refine sn_lcX hO hwX (c2 := mc) (s2 := ms) (rm := rmX0_salt) [.int (xs (i + 1).toNatClampNeg), .int (xs (i + 2).toNatClampNeg)] cvL_18 (fun h => ctX0_salt h) ⟨Nat.le_of_ble_eq_true rfl, Nat.le_of_ble_eq_true rfl⟩ rfl rfl (Nat.le_of_ble_eq_true rfl) ⟨Nat.zero_le _, Nat.zero_le _, rfl, rfl⟩ dL_law_248 (sn_dI (fun r1 SX1 => ?_))
  refine sn_aload_n hO 2 rfl dL_law_251 ?_
  refine sn_aload_n hO 0 rfl dL_law_252 ?_
  refine sn_iload_n hO 3 rfl dL_law_253 ?_
  refine sn_iconst hO kc_1 dL_law_254 ?_
  refine sn_iadd hO dL_law_255 ?_
  refine sn_sld hO dL_law_256 ?_
  refine sn_aload_n hO 0 rfl dL_law_257 ?_
  refine sn_iload_n hO 3 rfl dL_law_258 ?_
  refine sn_iconst hO kc_2 dL_law_259 ?_
  refine sn_iadd hO dL_law_260 ?_
  refine sn_sld hO dL_law_261 ?_
  refine sn_lcM hO hwM (c2 := mc) (s2 := ms) (rm := rmX9_salt) [.int (xs (i + 1).toNatClampNeg), .int (xs (i + 2).toNatClampNeg)] cvL_21 (fun h => ctX9_salt h) ⟨Nat.le_of_ble_eq_true rfl, Nat.le_of_ble_eq_true rfl⟩ rfl rfl (Nat.le_of_ble_eq_true rfl) ⟨Nat.zero_le _, Nat.zero_le _, rfl, rfl⟩ dL_law_262 (sn_eI (fun r2 SM2 => ?_))
  refine sn_icmp_eq hO 1292 (by decide) dL_law_265 ?_ ?_
  · exact hK _ _ _ _
  · refine sn_iconst hO kc_0 dL_law_268 ?_
    exact sn_zret (r := 0) (Qi := fun r _ => r = 1) hO (ty := .boolean) rfl rfl dL_law_269
def wpL_2 (wX : sn_W) (L : Nat) (xs : Nat → Int32) (i : Int32) (mc ms : Nat) (SX SM : sn_S) (K : Nat → Nat → sn_S → sn_S → Prop) : Prop :=
  (vp_in (i + 1) L ∧ (vp_in (i + 2) L ∧ wpX0_of wX (xs (i + 1).toNatClampNeg) (xs (i + 2).toNatClampNeg) SX (fun r1 => (vp_in (i + 1) L ∧ (vp_in (i + 2) L ∧ wpX9_of (xs (i + 1).toNatClampNeg) (xs (i + 2).toNatClampNeg) SM (fun r2 SM2 => ((r1 = r2 → K mc ms SX SM2) ∧ (¬ r1 = r2 → (0 : Int32) = 1))))))))
theorem wkL_2 {b L : Nat} {xs : Nat → Int32} {w wX wM : sn_W} {C : sn_C} {nm : String} {tb : List ExceptionTableEntry} (hO : sn_Ok (LoL b L xs) w C RL cL_law 4 ret tb nm) (hwX : sn_wok w wX) (hwM : sn_wok w wM) {i : Int32} {K : Nat → Nat → sn_S → sn_S → Prop} (hK : ∀ (mc ms : Nat) (SX SM : sn_S), K mc ms SX SM → sn_G (LoL b L xs) w room_1 (sn_qI (fun r _ => r = 1)) sn_noE C mc ms 1292 [(0, .ref b), (1, .ref (wX.2.2.1 0)), (2, .ref (wM.2.2.1 0)), (3, .int i)] [] (sn_two wX wM SX SM)) {mc ms : Nat} {SX SM : sn_S} : wpL_2 wX L xs i mc ms SX SM K → sn_G (LoL b L xs) w room_1 (sn_qI (fun r _ => r = 1)) sn_noE C mc ms 270 [(0, .ref b), (1, .ref (wX.2.2.1 0)), (2, .ref (wM.2.2.1 0)), (3, .int i)] [] (sn_two wX wM SX SM) := by
  unfold wpL_2
  refine sn_aload_n hO 1 rfl dL_law_270 ?_
  refine sn_aload_n hO 0 rfl dL_law_271 ?_
  refine sn_iload_n hO 3 rfl dL_law_272 ?_
  refine sn_iconst hO kc_1 dL_law_273 ?_
  refine sn_iadd hO dL_law_274 ?_
  refine sn_sld hO dL_law_275 ?_
  refine sn_aload_n hO 0 rfl dL_law_276 ?_
  refine sn_iload_n hO 3 rfl dL_law_277 ?_
  refine sn_iconst hO kc_2 dL_law_278 ?_
  refine sn_iadd hO dL_law_279 ?_
  refine sn_sld hO dL_law_280 ?_
  refine sn_lcX hO hwX (c2 := mc) (s2 := ms) (rm := rmX0_of) [.int (xs (i + 1).toNatClampNeg), .int (xs (i + 2).toNatClampNeg)] cvL_22 (fun h => ctX0_of h) ⟨Nat.le_of_ble_eq_true rfl, Nat.le_of_ble_eq_true rfl⟩ rfl rfl (Nat.le_of_ble_eq_true rfl) ⟨Nat.zero_le _, Nat.zero_le _, rfl, rfl⟩ dL_law_281 (sn_dIp (fun r1 => ?_))
  refine sn_aload_n hO 2 rfl dL_law_284 ?_
  refine sn_aload_n hO 0 rfl dL_law_285 ?_
  refine sn_iload_n hO 3 rfl dL_law_286 ?_
  refine sn_iconst hO kc_1 dL_law_287 ?_
  refine sn_iadd hO dL_law_288 ?_
  refine sn_sld hO dL_law_289 ?_
  refine sn_aload_n hO 0 rfl dL_law_290 ?_
  refine sn_iload_n hO 3 rfl dL_law_291 ?_
  refine sn_iconst hO kc_2 dL_law_292 ?_
  refine sn_iadd hO dL_law_293 ?_
  refine sn_sld hO dL_law_294 ?_
  refine sn_lcM hO hwM (c2 := mc) (s2 := ms) (rm := rmX9_of) [.int (xs (i + 1).toNatClampNeg), .int (xs (i + 2).toNatClampNeg)] cvL_25 (fun h => ctX9_of h) ⟨Nat.le_of_ble_eq_true rfl, Nat.le_of_ble_eq_true rfl⟩ rfl rfl (Nat.le_of_ble_eq_true rfl) ⟨Nat.zero_le _, Nat.zero_le _, rfl, rfl⟩ dL_law_295 (sn_eI (fun r2 SM2 => ?_))
  refine sn_icmp_eq hO 1292 (by decide) dL_law_298 ?_ ?_
  · exact hK _ _ _ _
  · refine sn_iconst hO kc_0 dL_law_301 ?_
    exact sn_zret (r := 0) (Qi := fun r _ => r = 1) hO (ty := .boolean) rfl rfl dL_law_302
def wpL_3 (wX : sn_W) (L : Nat) (xs : Nat → Int32) (i : Int32) (mc ms : Nat) (SX SM : sn_S) (K : Nat → Nat → sn_S → sn_S → Prop) : Prop :=
  (vp_in (i + 1) L ∧ (vp_in (i + 2) L ∧ (vp_in (i + 3) L ∧ (vp_in (i + 4) L ∧ wpX0_snail wX (xs (i + 1).toNatClampNeg) (xs (i + 2).toNatClampNeg) (xs (i + 3).toNatClampNeg) (xs (i + 4).toNatClampNeg) SX (fun r1 SX1 => (vp_in (i + 1) L ∧ (vp_in (i + 2) L ∧ (vp_in (i + 3) L ∧ (vp_in (i + 4) L ∧ wpX9_snail (xs (i + 1).toNatClampNeg) (xs (i + 2).toNatClampNeg) (xs (i + 3).toNatClampNeg) (xs (i + 4).toNatClampNeg) SM (fun r2 SM2 => ((r1 = r2 → K mc ms SX1 SM2) ∧ (¬ r1 = r2 → (0 : Int32) = 1))))))))))))
theorem wkL_3 {b L : Nat} {xs : Nat → Int32} {w wX wM : sn_W} {C : sn_C} {nm : String} {tb : List ExceptionTableEntry} (hO : sn_Ok (LoL b L xs) w C RL cL_law 4 ret tb nm) (hwX : sn_wok w wX) (hwM : sn_wok w wM) {i : Int32} {K : Nat → Nat → sn_S → sn_S → Prop} (hK : ∀ (mc ms : Nat) (SX SM : sn_S), K mc ms SX SM → sn_G (LoL b L xs) w room_1 (sn_qI (fun r _ => r = 1)) sn_noE C mc ms 1292 [(0, .ref b), (1, .ref (wX.2.2.1 0)), (2, .ref (wM.2.2.1 0)), (3, .int i)] [] (sn_two wX wM SX SM)) {mc ms : Nat} {SX SM : sn_S} : wpL_3 wX L xs i mc ms SX SM K → sn_G (LoL b L xs) w room_1 (sn_qI (fun r _ => r = 1)) sn_noE C mc ms 303 [(0, .ref b), (1, .ref (wX.2.2.1 0)), (2, .ref (wM.2.2.1 0)), (3, .int i)] [] (sn_two wX wM SX SM) := by
  unfold wpL_3
  refine sn_aload_n hO 1 rfl dL_law_303 ?_
  refine sn_aload_n hO 0 rfl dL_law_304 ?_
  refine sn_iload_n hO 3 rfl dL_law_305 ?_
  refine sn_iconst hO kc_1 dL_law_306 ?_
  refine sn_iadd hO dL_law_307 ?_
  refine sn_sld hO dL_law_308 ?_
  refine sn_aload_n hO 0 rfl dL_law_309 ?_
  refine sn_iload_n hO 3 rfl dL_law_310 ?_
  refine sn_iconst hO kc_2 dL_law_311 ?_
  refine sn_iadd hO dL_law_312 ?_
  refine sn_sld hO dL_law_313 ?_
  refine sn_aload_n hO 0 rfl dL_law_314 ?_
  refine sn_iload_n hO 3 rfl dL_law_315 ?_
  refine sn_iconst hO kc_3 dL_law_316 ?_
  refine sn_iadd hO dL_law_317 ?_
  refine sn_sld hO dL_law_318 ?_
  refine sn_aload_n hO 0 rfl dL_law_319 ?_
  refine sn_iload_n hO 3 rfl dL_law_320 ?_
  refine sn_iconst hO kc_4 dL_law_321 ?_
  refine sn_iadd hO dL_law_322 ?_
  refine sn_sld hO dL_law_323 ?_
  refine sn_lcX hO hwX (c2 := mc) (s2 := ms) (rm := rmX0_snail) [.int (xs (i + 1).toNatClampNeg), .int (xs (i + 2).toNatClampNeg), .int (xs (i + 3).toNatClampNeg), .int (xs (i + 4).toNatClampNeg)] cvL_26 (fun h => ctX0_snail h) ⟨Nat.le_of_ble_eq_true rfl, Nat.le_of_ble_eq_true rfl⟩ rfl rfl (Nat.le_of_ble_eq_true rfl) ⟨Nat.zero_le _, Nat.zero_le _, rfl, rfl⟩ dL_law_324 (sn_dI (fun r1 SX1 => ?_))
  refine sn_aload_n hO 2 rfl dL_law_327 ?_
  refine sn_aload_n hO 0 rfl dL_law_328 ?_
  refine sn_iload_n hO 3 rfl dL_law_329 ?_
  refine sn_iconst hO kc_1 dL_law_330 ?_
  refine sn_iadd hO dL_law_331 ?_
  refine sn_sld hO dL_law_332 ?_
  refine sn_aload_n hO 0 rfl dL_law_333 ?_
  refine sn_iload_n hO 3 rfl dL_law_334 ?_
  refine sn_iconst hO kc_2 dL_law_335 ?_
  refine sn_iadd hO dL_law_336 ?_
  refine sn_sld hO dL_law_337 ?_
  refine sn_aload_n hO 0 rfl dL_law_338 ?_
  refine sn_iload_n hO 3 rfl dL_law_339 ?_
  refine sn_iconst hO kc_3 dL_law_340 ?_
  refine sn_iadd hO dL_law_341 ?_
  refine sn_sld hO dL_law_342 ?_
  refine sn_aload_n hO 0 rfl dL_law_343 ?_
  refine sn_iload_n hO 3 rfl dL_law_344 ?_
  refine sn_iconst hO kc_4 dL_law_345 ?_
  refine sn_iadd hO dL_law_346 ?_
  refine sn_sld hO dL_law_347 ?_
  refine sn_lcM hO hwM (c2 := mc) (s2 := ms) (rm := rmX9_snail) [.int (xs (i + 1).toNatClampNeg), .int (xs (i + 2).toNatClampNeg), .int (xs (i + 3).toNatClampNeg), .int (xs (i + 4).toNatClampNeg)] cvL_30 (fun h => ctX9_snail h) ⟨Nat.le_of_ble_eq_true rfl, Nat.le_of_ble_eq_true rfl⟩ rfl rfl (Nat.le_of_ble_eq_true rfl) ⟨Nat.zero_le _, Nat.zero_le _, rfl, rfl⟩ dL_law_348 (sn_eI (fun r2 SM2 => ?_))
  refine sn_icmp_eq hO 1292 (by decide) dL_law_351 ?_ ?_
  · exact hK _ _ _ _
  · refine sn_iconst hO kc_0 dL_law_354 ?_
    exact sn_zret (r := 0) (Qi := fun r _ => r = 1) hO (ty := .boolean) rfl rfl dL_law_355
def wpL_4 (wX : sn_W) (L : Nat) (xs : Nat → Int32) (i : Int32) (mc ms : Nat) (SX SM : sn_S) (K : Nat → Nat → sn_S → sn_S → Prop) : Prop :=
  (vp_in (i + 1) L ∧ (vp_in (i + 2) L ∧ (vp_in (i + 3) L ∧ wpX0_put wX (xs (i + 1).toNatClampNeg) (xs (i + 2).toNatClampNeg) (xs (i + 3).toNatClampNeg) SX (fun r1 SX1 => (vp_in (i + 1) L ∧ (vp_in (i + 2) L ∧ (vp_in (i + 3) L ∧ wpX9_put (xs (i + 1).toNatClampNeg) (xs (i + 2).toNatClampNeg) (xs (i + 3).toNatClampNeg) SM (fun r2 SM2 => ((r1 = r2 → K mc ms SX1 SM2) ∧ (¬ r1 = r2 → (0 : Int32) = 1))))))))))
theorem wkL_4 {b L : Nat} {xs : Nat → Int32} {w wX wM : sn_W} {C : sn_C} {nm : String} {tb : List ExceptionTableEntry} (hO : sn_Ok (LoL b L xs) w C RL cL_law 4 ret tb nm) (hwX : sn_wok w wX) (hwM : sn_wok w wM) {i : Int32} {K : Nat → Nat → sn_S → sn_S → Prop} (hK : ∀ (mc ms : Nat) (SX SM : sn_S), K mc ms SX SM → sn_G (LoL b L xs) w room_1 (sn_qI (fun r _ => r = 1)) sn_noE C mc ms 1292 [(0, .ref b), (1, .ref (wX.2.2.1 0)), (2, .ref (wM.2.2.1 0)), (3, .int i)] [] (sn_two wX wM SX SM)) {mc ms : Nat} {SX SM : sn_S} : wpL_4 wX L xs i mc ms SX SM K → sn_G (LoL b L xs) w room_1 (sn_qI (fun r _ => r = 1)) sn_noE C mc ms 356 [(0, .ref b), (1, .ref (wX.2.2.1 0)), (2, .ref (wM.2.2.1 0)), (3, .int i)] [] (sn_two wX wM SX SM) := by
  unfold wpL_4
  refine sn_aload_n hO 1 rfl dL_law_356 ?_
  refine sn_aload_n hO 0 rfl dL_law_357 ?_
  refine sn_iload_n hO 3 rfl dL_law_358 ?_
  refine sn_iconst hO kc_1 dL_law_359 ?_
  refine sn_iadd hO dL_law_360 ?_
  refine sn_sld hO dL_law_361 ?_
  refine sn_aload_n hO 0 rfl dL_law_362 ?_
  refine sn_iload_n hO 3 rfl dL_law_363 ?_
  refine sn_iconst hO kc_2 dL_law_364 ?_
  refine sn_iadd hO dL_law_365 ?_
  refine sn_sld hO dL_law_366 ?_
  refine sn_aload_n hO 0 rfl dL_law_367 ?_
  refine sn_iload_n hO 3 rfl dL_law_368 ?_
  refine sn_iconst hO kc_3 dL_law_369 ?_
  refine sn_iadd hO dL_law_370 ?_
  refine sn_sld hO dL_law_371 ?_
  refine sn_lcX hO hwX (c2 := mc) (s2 := ms) (rm := rmX0_put) [.int (xs (i + 1).toNatClampNeg), .int (xs (i + 2).toNatClampNeg), .int (xs (i + 3).toNatClampNeg)] cvL_31 (fun h => ctX0_put h) ⟨Nat.le_of_ble_eq_true rfl, Nat.le_of_ble_eq_true rfl⟩ rfl rfl (Nat.le_of_ble_eq_true rfl) ⟨Nat.zero_le _, Nat.zero_le _, rfl, rfl⟩ dL_law_372 (sn_dI (fun r1 SX1 => ?_))
  refine sn_aload_n hO 2 rfl dL_law_375 ?_
  refine sn_aload_n hO 0 rfl dL_law_376 ?_
  refine sn_iload_n hO 3 rfl dL_law_377 ?_
  refine sn_iconst hO kc_1 dL_law_378 ?_
  refine sn_iadd hO dL_law_379 ?_
  refine sn_sld hO dL_law_380 ?_
  refine sn_aload_n hO 0 rfl dL_law_381 ?_
  refine sn_iload_n hO 3 rfl dL_law_382 ?_
  refine sn_iconst hO kc_2 dL_law_383 ?_
  refine sn_iadd hO dL_law_384 ?_
  refine sn_sld hO dL_law_385 ?_
  refine sn_aload_n hO 0 rfl dL_law_386 ?_
  refine sn_iload_n hO 3 rfl dL_law_387 ?_
  refine sn_iconst hO kc_3 dL_law_388 ?_
  refine sn_iadd hO dL_law_389 ?_
  refine sn_sld hO dL_law_390 ?_
  refine sn_lcM hO hwM (c2 := mc) (s2 := ms) (rm := rmX9_put) [.int (xs (i + 1).toNatClampNeg), .int (xs (i + 2).toNatClampNeg), .int (xs (i + 3).toNatClampNeg)] cvL_35 (fun h => ctX9_put h) ⟨Nat.le_of_ble_eq_true rfl, Nat.le_of_ble_eq_true rfl⟩ rfl rfl (Nat.le_of_ble_eq_true rfl) ⟨Nat.zero_le _, Nat.zero_le _, rfl, rfl⟩ dL_law_391 (sn_eI (fun r2 SM2 => ?_))
  refine sn_icmp_eq hO 1292 (by decide) dL_law_394 ?_ ?_
  · exact hK _ _ _ _
  · refine sn_iconst hO kc_0 dL_law_397 ?_
    exact sn_zret (r := 0) (Qi := fun r _ => r = 1) hO (ty := .boolean) rfl rfl dL_law_398
def wpL_5 (wX : sn_W) (L : Nat) (xs : Nat → Int32) (i : Int32) (mc ms : Nat) (SX SM : sn_S) (K : Nat → Nat → sn_S → sn_S → Prop) : Prop :=
  (vp_in (i + 1) L ∧ (vp_in (i + 2) L ∧ wpX0_fact wX (xs (i + 1).toNatClampNeg) (xs (i + 2).toNatClampNeg) SX (fun r1 => (vp_in (i + 1) L ∧ (vp_in (i + 2) L ∧ wpX9_fact (xs (i + 1).toNatClampNeg) (xs (i + 2).toNatClampNeg) SM (fun r2 SM2 => ((r1 = r2 → K mc ms SX SM2) ∧ (¬ r1 = r2 → (0 : Int32) = 1))))))))
theorem wkL_5 {b L : Nat} {xs : Nat → Int32} {w wX wM : sn_W} {C : sn_C} {nm : String} {tb : List ExceptionTableEntry} (hO : sn_Ok (LoL b L xs) w C RL cL_law 4 ret tb nm) (hwX : sn_wok w wX) (hwM : sn_wok w wM) {i : Int32} {K : Nat → Nat → sn_S → sn_S → Prop} (hK : ∀ (mc ms : Nat) (SX SM : sn_S), K mc ms SX SM → sn_G (LoL b L xs) w room_1 (sn_qI (fun r _ => r = 1)) sn_noE C mc ms 1292 [(0, .ref b), (1, .ref (wX.2.2.1 0)), (2, .ref (wM.2.2.1 0)), (3, .int i)] [] (sn_two wX wM SX SM)) {mc ms : Nat} {SX SM : sn_S} : wpL_5 wX L xs i mc ms SX SM K → sn_G (LoL b L xs) w room_1 (sn_qI (fun r _ => r = 1)) sn_noE C mc ms 399 [(0, .ref b), (1, .ref (wX.2.2.1 0)), (2, .ref (wM.2.2.1 0)), (3, .int i)] [] (sn_two wX wM SX SM) := by
  unfold wpL_5
  refine sn_aload_n hO 1 rfl dL_law_399 ?_
  refine sn_aload_n hO 0 rfl dL_law_400 ?_
  refine sn_iload_n hO 3 rfl dL_law_401 ?_
  refine sn_iconst hO kc_1 dL_law_402 ?_
  refine sn_iadd hO dL_law_403 ?_
  refine sn_sld hO dL_law_404 ?_
  refine sn_aload_n hO 0 rfl dL_law_405 ?_
  refine sn_iload_n hO 3 rfl dL_law_406 ?_
  refine sn_iconst hO kc_2 dL_law_407 ?_
  refine sn_iadd hO dL_law_408 ?_
  refine sn_sld hO dL_law_409 ?_
  refine sn_lcX hO hwX (c2 := mc) (s2 := ms) (rm := rmX0_fact) [.int (xs (i + 1).toNatClampNeg), .int (xs (i + 2).toNatClampNeg)] cvL_36 (fun h => ctX0_fact h) ⟨Nat.le_of_ble_eq_true rfl, Nat.le_of_ble_eq_true rfl⟩ rfl rfl (Nat.le_of_ble_eq_true rfl) ⟨Nat.zero_le _, Nat.zero_le _, rfl, rfl⟩ dL_law_410 (sn_dIp (fun r1 => ?_))
  refine sn_aload_n hO 2 rfl dL_law_413 ?_
  refine sn_aload_n hO 0 rfl dL_law_414 ?_
  refine sn_iload_n hO 3 rfl dL_law_415 ?_
  refine sn_iconst hO kc_1 dL_law_416 ?_
  refine sn_iadd hO dL_law_417 ?_
  refine sn_sld hO dL_law_418 ?_
  refine sn_aload_n hO 0 rfl dL_law_419 ?_
  refine sn_iload_n hO 3 rfl dL_law_420 ?_
  refine sn_iconst hO kc_2 dL_law_421 ?_
  refine sn_iadd hO dL_law_422 ?_
  refine sn_sld hO dL_law_423 ?_
  refine sn_lcM hO hwM (c2 := mc) (s2 := ms) (rm := rmX9_fact) [.int (xs (i + 1).toNatClampNeg), .int (xs (i + 2).toNatClampNeg)] cvL_39 (fun h => ctX9_fact h) ⟨Nat.le_of_ble_eq_true rfl, Nat.le_of_ble_eq_true rfl⟩ rfl rfl (Nat.le_of_ble_eq_true rfl) ⟨Nat.zero_le _, Nat.zero_le _, rfl, rfl⟩ dL_law_424 (sn_eI (fun r2 SM2 => ?_))
  refine sn_icmp_eq hO 1292 (by decide) dL_law_427 ?_ ?_
  · exact hK _ _ _ _
  · refine sn_iconst hO kc_0 dL_law_430 ?_
    exact sn_zret (r := 0) (Qi := fun r _ => r = 1) hO (ty := .boolean) rfl rfl dL_law_431
def wpL_6 (wX : sn_W) (L : Nat) (xs : Nat → Int32) (i : Int32) (mc ms : Nat) (SX SM : sn_S) (K : Nat → Nat → sn_S → sn_S → Prop) : Prop :=
  (vp_in (i + 1) L ∧ wpX0_spot wX (xs (i + 1).toNatClampNeg) SX (fun r1 SX1 => (vp_in (i + 1) L ∧ wpX9_spot (xs (i + 1).toNatClampNeg) SM (fun r2 SM2 => ((r1 = r2 → K mc ms SX1 SM2) ∧ (¬ r1 = r2 → (0 : Int32) = 1))))))
theorem wkL_6 {b L : Nat} {xs : Nat → Int32} {w wX wM : sn_W} {C : sn_C} {nm : String} {tb : List ExceptionTableEntry} (hO : sn_Ok (LoL b L xs) w C RL cL_law 4 ret tb nm) (hwX : sn_wok w wX) (hwM : sn_wok w wM) {i : Int32} {K : Nat → Nat → sn_S → sn_S → Prop} (hK : ∀ (mc ms : Nat) (SX SM : sn_S), K mc ms SX SM → sn_G (LoL b L xs) w room_1 (sn_qI (fun r _ => r = 1)) sn_noE C mc ms 1292 [(0, .ref b), (1, .ref (wX.2.2.1 0)), (2, .ref (wM.2.2.1 0)), (3, .int i)] [] (sn_two wX wM SX SM)) {mc ms : Nat} {SX SM : sn_S} : wpL_6 wX L xs i mc ms SX SM K → sn_G (LoL b L xs) w room_1 (sn_qI (fun r _ => r = 1)) sn_noE C mc ms 432 [(0, .ref b), (1, .ref (wX.2.2.1 0)), (2, .ref (wM.2.2.1 0)), (3, .int i)] [] (sn_two wX wM SX SM) := by
  unfold wpL_6
  refine sn_aload_n hO 1 rfl dL_law_432 ?_
  refine sn_aload_n hO 0 rfl dL_law_433 ?_
  refine sn_iload_n hO 3 rfl dL_law_434 ?_
  refine sn_iconst hO kc_1 dL_law_435 ?_
  refine sn_iadd hO dL_law_436 ?_
  refine sn_sld hO dL_law_437 ?_
  refine sn_lcX hO hwX (c2 := mc) (s2 := ms) (rm := rmX0_spot) [.int (xs (i + 1).toNatClampNeg)] cvL_40 (fun h => ctX0_spot h) ⟨Nat.le_of_ble_eq_true rfl, Nat.le_of_ble_eq_true rfl⟩ rfl rfl (Nat.le_of_ble_eq_true rfl) ⟨Nat.zero_le _, Nat.zero_le _, rfl, rfl⟩ dL_law_438 (sn_dI (fun r1 SX1 => ?_))
  refine sn_aload_n hO 2 rfl dL_law_441 ?_
  refine sn_aload_n hO 0 rfl dL_law_442 ?_
  refine sn_iload_n hO 3 rfl dL_law_443 ?_
  refine sn_iconst hO kc_1 dL_law_444 ?_
  refine sn_iadd hO dL_law_445 ?_
  refine sn_sld hO dL_law_446 ?_
  refine sn_lcM hO hwM (c2 := mc) (s2 := ms) (rm := rmX9_spot) [.int (xs (i + 1).toNatClampNeg)] cvL_44 (fun h => ctX9_spot h) ⟨Nat.le_of_ble_eq_true rfl, Nat.le_of_ble_eq_true rfl⟩ rfl rfl (Nat.le_of_ble_eq_true rfl) ⟨Nat.zero_le _, Nat.zero_le _, rfl, rfl⟩ dL_law_447 (sn_eI (fun r2 SM2 => ?_))
  refine sn_icmp_eq hO 1292 (by decide) dL_law_450 ?_ ?_
  · exact hK _ _ _ _
  · refine sn_iconst hO kc_0 dL_law_453 ?_
    exact sn_zret (r := 0) (Qi := fun r _ => r = 1) hO (ty := .boolean) rfl rfl dL_law_454
def wpL_7 (wX : sn_W) (L : Nat) (xs : Nat → Int32) (i : Int32) (mc ms : Nat) (SX SM : sn_S) (K : Nat → Nat → sn_S → sn_S → Prop) : Prop :=
  (vp_in (i + 1) L ∧ (vp_in (i + 2) L ∧ wpX0_plan wX (xs (i + 1).toNatClampNeg) (xs (i + 2).toNatClampNeg) SX (fun r1 SX1 => (vp_in (i + 1) L ∧ (vp_in (i + 2) L ∧ wpX9_plan (xs (i + 1).toNatClampNeg) (xs (i + 2).toNatClampNeg) SM (fun r2 SM2 => ((r1 = r2 → K mc ms SX1 SM2) ∧ (¬ r1 = r2 → (0 : Int32) = 1))))))))
theorem wkL_7 {b L : Nat} {xs : Nat → Int32} {w wX wM : sn_W} {C : sn_C} {nm : String} {tb : List ExceptionTableEntry} (hO : sn_Ok (LoL b L xs) w C RL cL_law 4 ret tb nm) (hwX : sn_wok w wX) (hwM : sn_wok w wM) {i : Int32} {K : Nat → Nat → sn_S → sn_S → Prop} (hK : ∀ (mc ms : Nat) (SX SM : sn_S), K mc ms SX SM → sn_G (LoL b L xs) w room_1 (sn_qI (fun r _ => r = 1)) sn_noE C mc ms 1292 [(0, .ref b), (1, .ref (wX.2.2.1 0)), (2, .ref (wM.2.2.1 0)), (3, .int i)] [] (sn_two wX wM SX SM)) {mc ms : Nat} {SX SM : sn_S} : wpL_7 wX L xs i mc ms SX SM K → sn_G (LoL b L xs) w room_1 (sn_qI (fun r _ => r = 1)) sn_noE C mc ms 455 [(0, .ref b), (1, .ref (wX.2.2.1 0)), (2, .ref (wM.2.2.1 0)), (3, .int i)] [] (sn_two wX wM SX SM) := by
  unfold wpL_7
  refine sn_aload_n hO 1 rfl dL_law_455 ?_
  refine sn_aload_n hO 0 rfl dL_law_456 ?_
  refine sn_iload_n hO 3 rfl dL_law_457 ?_
  refine sn_iconst hO kc_1 dL_law_458 ?_
  refine sn_iadd hO dL_law_459 ?_
  refine sn_sld hO dL_law_460 ?_
  refine sn_aload_n hO 0 rfl dL_law_461 ?_
  refine sn_iload_n hO 3 rfl dL_law_462 ?_
  refine sn_iconst hO kc_2 dL_law_463 ?_
  refine sn_iadd hO dL_law_464 ?_
  refine sn_sld hO dL_law_465 ?_
  refine sn_lcX hO hwX (c2 := mc) (s2 := ms) (rm := rmX0_plan) [.int (xs (i + 1).toNatClampNeg), .int (xs (i + 2).toNatClampNeg)] cvL_45 (fun h => ctX0_plan h) ⟨Nat.le_of_ble_eq_true rfl, Nat.le_of_ble_eq_true rfl⟩ rfl rfl (Nat.le_of_ble_eq_true rfl) ⟨Nat.zero_le _, Nat.zero_le _, rfl, rfl⟩ dL_law_466 (sn_dI (fun r1 SX1 => ?_))
  refine sn_aload_n hO 2 rfl dL_law_469 ?_
  refine sn_aload_n hO 0 rfl dL_law_470 ?_
  refine sn_iload_n hO 3 rfl dL_law_471 ?_
  refine sn_iconst hO kc_1 dL_law_472 ?_
  refine sn_iadd hO dL_law_473 ?_
  refine sn_sld hO dL_law_474 ?_
  refine sn_aload_n hO 0 rfl dL_law_475 ?_
  refine sn_iload_n hO 3 rfl dL_law_476 ?_
  refine sn_iconst hO kc_2 dL_law_477 ?_
  refine sn_iadd hO dL_law_478 ?_
  refine sn_sld hO dL_law_479 ?_
  refine sn_lcM hO hwM (c2 := mc) (s2 := ms) (rm := rmX9_plan) [.int (xs (i + 1).toNatClampNeg), .int (xs (i + 2).toNatClampNeg)] cvL_48 (fun h => ctX9_plan h) ⟨Nat.le_of_ble_eq_true rfl, Nat.le_of_ble_eq_true rfl⟩ rfl rfl (Nat.le_of_ble_eq_true rfl) ⟨Nat.zero_le _, Nat.zero_le _, rfl, rfl⟩ dL_law_480 (sn_eI (fun r2 SM2 => ?_))
  refine sn_icmp_eq hO 1292 (by decide) dL_law_483 ?_ ?_
  · exact hK _ _ _ _
  · refine sn_iconst hO kc_0 dL_law_486 ?_
    exact sn_zret (r := 0) (Qi := fun r _ => r = 1) hO (ty := .boolean) rfl rfl dL_law_487
def wpL_8 (wX : sn_W) (L : Nat) (xs : Nat → Int32) (i : Int32) (mc ms : Nat) (SX SM : sn_S) (K : Nat → Nat → sn_S → sn_S → Prop) : Prop :=
  (vp_in (i + 1) L ∧ (vp_in (i + 2) L ∧ wpX0_terms wX (xs (i + 1).toNatClampNeg) (xs (i + 2).toNatClampNeg) SX (fun r1 SX1 => (vp_in (i + 1) L ∧ (vp_in (i + 2) L ∧ wpX9_terms (xs (i + 1).toNatClampNeg) (xs (i + 2).toNatClampNeg) SM (fun r2 SM2 => ((r1 = r2 → K mc ms SX1 SM2) ∧ (¬ r1 = r2 → (0 : Int32) = 1))))))))
theorem wkL_8 {b L : Nat} {xs : Nat → Int32} {w wX wM : sn_W} {C : sn_C} {nm : String} {tb : List ExceptionTableEntry} (hO : sn_Ok (LoL b L xs) w C RL cL_law 4 ret tb nm) (hwX : sn_wok w wX) (hwM : sn_wok w wM) {i : Int32} {K : Nat → Nat → sn_S → sn_S → Prop} (hK : ∀ (mc ms : Nat) (SX SM : sn_S), K mc ms SX SM → sn_G (LoL b L xs) w room_1 (sn_qI (fun r _ => r = 1)) sn_noE C mc ms 1292 [(0, .ref b), (1, .ref (wX.2.2.1 0)), (2, .ref (wM.2.2.1 0)), (3, .int i)] [] (sn_two wX wM SX SM)) {mc ms : Nat} {SX SM : sn_S} : wpL_8 wX L xs i mc ms SX SM K → sn_G (LoL b L xs) w room_1 (sn_qI (fun r _ => r = 1)) sn_noE C mc ms 488 [(0, .ref b), (1, .ref (wX.2.2.1 0)), (2, .ref (wM.2.2.1 0)), (3, .int i)] [] (sn_two wX wM SX SM) := by
  unfold wpL_8
  refine sn_aload_n hO 1 rfl dL_law_488 ?_
  refine sn_aload_n hO 0 rfl dL_law_489 ?_
  refine sn_iload_n hO 3 rfl dL_law_490 ?_
  refine sn_iconst hO kc_1 dL_law_491 ?_
  refine sn_iadd hO dL_law_492 ?_
  refine sn_sld hO dL_law_493 ?_
  refine sn_aload_n hO 0 rfl dL_law_494 ?_
  refine sn_iload_n hO 3 rfl dL_law_495 ?_
  refine sn_iconst hO kc_2 dL_law_496 ?_
  refine sn_iadd hO dL_law_497 ?_
  refine sn_sld hO dL_law_498 ?_
  refine sn_lcX hO hwX (c2 := mc) (s2 := ms) (rm := rmX0_terms) [.int (xs (i + 1).toNatClampNeg), .int (xs (i + 2).toNatClampNeg)] cvL_49 (fun h => ctX0_terms h) ⟨Nat.le_of_ble_eq_true rfl, Nat.le_of_ble_eq_true rfl⟩ rfl rfl (Nat.le_of_ble_eq_true rfl) ⟨Nat.zero_le _, Nat.zero_le _, rfl, rfl⟩ dL_law_499 (sn_dI (fun r1 SX1 => ?_))
  refine sn_aload_n hO 2 rfl dL_law_502 ?_
  refine sn_aload_n hO 0 rfl dL_law_503 ?_
  refine sn_iload_n hO 3 rfl dL_law_504 ?_
  refine sn_iconst hO kc_1 dL_law_505 ?_
  refine sn_iadd hO dL_law_506 ?_
  refine sn_sld hO dL_law_507 ?_
  refine sn_aload_n hO 0 rfl dL_law_508 ?_
  refine sn_iload_n hO 3 rfl dL_law_509 ?_
  refine sn_iconst hO kc_2 dL_law_510 ?_
  refine sn_iadd hO dL_law_511 ?_
  refine sn_sld hO dL_law_512 ?_
  refine sn_lcM hO hwM (c2 := mc) (s2 := ms) (rm := rmX9_terms) [.int (xs (i + 1).toNatClampNeg), .int (xs (i + 2).toNatClampNeg)] cvL_52 (fun h => ctX9_terms h) ⟨Nat.le_of_ble_eq_true rfl, Nat.le_of_ble_eq_true rfl⟩ rfl rfl (Nat.le_of_ble_eq_true rfl) ⟨Nat.zero_le _, Nat.zero_le _, rfl, rfl⟩ dL_law_513 (sn_eI (fun r2 SM2 => ?_))
  refine sn_icmp_eq hO 1292 (by decide) dL_law_516 ?_ ?_
  · exact hK _ _ _ _
  · refine sn_iconst hO kc_0 dL_law_519 ?_
    exact sn_zret (r := 0) (Qi := fun r _ => r = 1) hO (ty := .boolean) rfl rfl dL_law_520
def wpL_9 (wX : sn_W) (L : Nat) (xs : Nat → Int32) (i : Int32) (mc ms : Nat) (SX SM : sn_S) (K : Nat → Nat → sn_S → sn_S → Prop) : Prop :=
  (vp_in (i + 1) L ∧ (vp_in (i + 2) L ∧ (vp_in (i + 3) L ∧ (vp_in (i + 4) L ∧ (vp_in (i + 5) L ∧ wpX0_feed wX (xs (i + 1).toNatClampNeg) (xs (i + 2).toNatClampNeg) (xs (i + 3).toNatClampNeg) (xs (i + 4).toNatClampNeg) (xs (i + 5).toNatClampNeg) SX (fun r1 SX1 => (vp_in (i + 1) L ∧ (vp_in (i + 2) L ∧ (vp_in (i + 3) L ∧ (vp_in (i + 4) L ∧ (vp_in (i + 5) L ∧ wpX9_feed (xs (i + 1).toNatClampNeg) (xs (i + 2).toNatClampNeg) (xs (i + 3).toNatClampNeg) (xs (i + 4).toNatClampNeg) (xs (i + 5).toNatClampNeg) SM (fun r2 SM2 => ((r1 = r2 → K mc ms SX1 SM2) ∧ (¬ r1 = r2 → (0 : Int32) = 1))))))))))))))
theorem wkL_9 {b L : Nat} {xs : Nat → Int32} {w wX wM : sn_W} {C : sn_C} {nm : String} {tb : List ExceptionTableEntry} (hO : sn_Ok (LoL b L xs) w C RL cL_law 4 ret tb nm) (hwX : sn_wok w wX) (hwM : sn_wok w wM) {i : Int32} {K : Nat → Nat → sn_S → sn_S → Prop} (hK : ∀ (mc ms : Nat) (SX SM : sn_S), K mc ms SX SM → sn_G (LoL b L xs) w room_1 (sn_qI (fun r _ => r = 1)) sn_noE C mc ms 1292 [(0, .ref b), (1, .ref (wX.2.2.1 0)), (2, .ref (wM.2.2.1 0)), (3, .int i)] [] (sn_two wX wM SX SM)) {mc ms : Nat} {SX SM : sn_S} : wpL_9 wX L xs i mc ms SX SM K → sn_G (LoL b L xs) w room_1 (sn_qI (fun r _ => r = 1)) sn_noE C mc ms 521 [(0, .ref b), (1, .ref (wX.2.2.1 0)), (2, .ref (wM.2.2.1 0)), (3, .int i)] [] (sn_two wX wM SX SM) := by
  unfold wpL_9
  refine sn_aload_n hO 1 rfl dL_law_521 ?_
  refine sn_aload_n hO 0 rfl dL_law_522 ?_
  refine sn_iload_n hO 3 rfl dL_law_523 ?_
  refine sn_iconst hO kc_1 dL_law_524 ?_
  refine sn_iadd hO dL_law_525 ?_
  refine sn_sld hO dL_law_526 ?_
  refine sn_aload_n hO 0 rfl dL_law_527 ?_
  refine sn_iload_n hO 3 rfl dL_law_528 ?_
  refine sn_iconst hO kc_2 dL_law_529 ?_
  refine sn_iadd hO dL_law_530 ?_
  refine sn_sld hO dL_law_531 ?_
  refine sn_aload_n hO 0 rfl dL_law_532 ?_
  refine sn_iload_n hO 3 rfl dL_law_533 ?_
  refine sn_iconst hO kc_3 dL_law_534 ?_
  refine sn_iadd hO dL_law_535 ?_
  refine sn_sld hO dL_law_536 ?_
  refine sn_aload_n hO 0 rfl dL_law_537 ?_
  refine sn_iload_n hO 3 rfl dL_law_538 ?_
  refine sn_iconst hO kc_4 dL_law_539 ?_
  refine sn_iadd hO dL_law_540 ?_
  refine sn_sld hO dL_law_541 ?_
  refine sn_aload_n hO 0 rfl dL_law_542 ?_
  refine sn_iload_n hO 3 rfl dL_law_543 ?_
  refine sn_iconst hO kc_5 dL_law_544 ?_
  refine sn_iadd hO dL_law_545 ?_
  refine sn_sld hO dL_law_546 ?_
  refine sn_lcX hO hwX (c2 := mc) (s2 := ms) (rm := rmX0_feed) [.int (xs (i + 1).toNatClampNeg), .int (xs (i + 2).toNatClampNeg), .int (xs (i + 3).toNatClampNeg), .int (xs (i + 4).toNatClampNeg), .int (xs (i + 5).toNatClampNeg)] cvL_53 (fun h => ctX0_feed h) ⟨Nat.le_of_ble_eq_true rfl, Nat.le_of_ble_eq_true rfl⟩ rfl rfl (Nat.le_of_ble_eq_true rfl) ⟨Nat.zero_le _, Nat.zero_le _, rfl, rfl⟩ dL_law_547 (sn_dI (fun r1 SX1 => ?_))
  refine sn_aload_n hO 2 rfl dL_law_550 ?_
  refine sn_aload_n hO 0 rfl dL_law_551 ?_
  refine sn_iload_n hO 3 rfl dL_law_552 ?_
  refine sn_iconst hO kc_1 dL_law_553 ?_
  refine sn_iadd hO dL_law_554 ?_
  refine sn_sld hO dL_law_555 ?_
  refine sn_aload_n hO 0 rfl dL_law_556 ?_
  refine sn_iload_n hO 3 rfl dL_law_557 ?_
  refine sn_iconst hO kc_2 dL_law_558 ?_
  refine sn_iadd hO dL_law_559 ?_
  refine sn_sld hO dL_law_560 ?_
  refine sn_aload_n hO 0 rfl dL_law_561 ?_
  refine sn_iload_n hO 3 rfl dL_law_562 ?_
  refine sn_iconst hO kc_3 dL_law_563 ?_
  refine sn_iadd hO dL_law_564 ?_
  refine sn_sld hO dL_law_565 ?_
  refine sn_aload_n hO 0 rfl dL_law_566 ?_
  refine sn_iload_n hO 3 rfl dL_law_567 ?_
  refine sn_iconst hO kc_4 dL_law_568 ?_
  refine sn_iadd hO dL_law_569 ?_
  refine sn_sld hO dL_law_570 ?_
  refine sn_aload_n hO 0 rfl dL_law_571 ?_
  refine sn_iload_n hO 3 rfl dL_law_572 ?_
  refine sn_iconst hO kc_5 dL_law_573 ?_
  refine sn_iadd hO dL_law_574 ?_
  refine sn_sld hO dL_law_575 ?_
  refine sn_lcM hO hwM (c2 := mc) (s2 := ms) (rm := rmX9_feed) [.int (xs (i + 1).toNatClampNeg), .int (xs (i + 2).toNatClampNeg), .int (xs (i + 3).toNatClampNeg), .int (xs (i + 4).toNatClampNeg), .int (xs (i + 5).toNatClampNeg)] cvL_57 (fun h => ctX9_feed h) ⟨Nat.le_of_ble_eq_true rfl, Nat.le_of_ble_eq_true rfl⟩ rfl rfl (Nat.le_of_ble_eq_true rfl) ⟨Nat.zero_le _, Nat.zero_le _, rfl, rfl⟩ dL_law_576 (sn_eI (fun r2 SM2 => ?_))
  refine sn_icmp_eq hO 1292 (by decide) dL_law_579 ?_ ?_
  · exact hK _ _ _ _
  · refine sn_iconst hO kc_0 dL_law_582 ?_
    exact sn_zret (r := 0) (Qi := fun r _ => r = 1) hO (ty := .boolean) rfl rfl dL_law_583
def wpL_10 (wX : sn_W) (L : Nat) (xs : Nat → Int32) (i : Int32) (mc ms : Nat) (SX SM : sn_S) (K : Nat → Nat → sn_S → sn_S → Prop) : Prop :=
  (vp_in (i + 1) L ∧ wpX0_end wX (xs (i + 1).toNatClampNeg) SX (fun r1 SX1 => (vp_in (i + 1) L ∧ wpX9_end (xs (i + 1).toNatClampNeg) SM (fun r2 SM2 => ((r1 = r2 → K mc ms SX1 SM2) ∧ (¬ r1 = r2 → (0 : Int32) = 1))))))
theorem wkL_10 {b L : Nat} {xs : Nat → Int32} {w wX wM : sn_W} {C : sn_C} {nm : String} {tb : List ExceptionTableEntry} (hO : sn_Ok (LoL b L xs) w C RL cL_law 4 ret tb nm) (hwX : sn_wok w wX) (hwM : sn_wok w wM) {i : Int32} {K : Nat → Nat → sn_S → sn_S → Prop} (hK : ∀ (mc ms : Nat) (SX SM : sn_S), K mc ms SX SM → sn_G (LoL b L xs) w room_1 (sn_qI (fun r _ => r = 1)) sn_noE C mc ms 1292 [(0, .ref b), (1, .ref (wX.2.2.1 0)), (2, .ref (wM.2.2.1 0)), (3, .int i)] [] (sn_two wX wM SX SM)) {mc ms : Nat} {SX SM : sn_S} : wpL_10 wX L xs i mc ms SX SM K → sn_G (LoL b L xs) w room_1 (sn_qI (fun r _ => r = 1)) sn_noE C mc ms 584 [(0, .ref b), (1, .ref (wX.2.2.1 0)), (2, .ref (wM.2.2.1 0)), (3, .int i)] [] (sn_two wX wM SX SM) := by
  unfold wpL_10
  refine sn_aload_n hO 1 rfl dL_law_584 ?_
  refine sn_aload_n hO 0 rfl dL_law_585 ?_
  refine sn_iload_n hO 3 rfl dL_law_586 ?_
  refine sn_iconst hO kc_1 dL_law_587 ?_
  refine sn_iadd hO dL_law_588 ?_
  refine sn_sld hO dL_law_589 ?_
  refine sn_lcX hO hwX (c2 := mc) (s2 := ms) (rm := rmX0_end) [.int (xs (i + 1).toNatClampNeg)] cvL_58 (fun h => ctX0_end h) ⟨Nat.le_of_ble_eq_true rfl, Nat.le_of_ble_eq_true rfl⟩ rfl rfl (Nat.le_of_ble_eq_true rfl) ⟨Nat.zero_le _, Nat.zero_le _, rfl, rfl⟩ dL_law_590 (sn_dI (fun r1 SX1 => ?_))
  refine sn_aload_n hO 2 rfl dL_law_593 ?_
  refine sn_aload_n hO 0 rfl dL_law_594 ?_
  refine sn_iload_n hO 3 rfl dL_law_595 ?_
  refine sn_iconst hO kc_1 dL_law_596 ?_
  refine sn_iadd hO dL_law_597 ?_
  refine sn_sld hO dL_law_598 ?_
  refine sn_lcM hO hwM (c2 := mc) (s2 := ms) (rm := rmX9_end) [.int (xs (i + 1).toNatClampNeg)] cvL_61 (fun h => ctX9_end h) ⟨Nat.le_of_ble_eq_true rfl, Nat.le_of_ble_eq_true rfl⟩ rfl rfl (Nat.le_of_ble_eq_true rfl) ⟨Nat.zero_le _, Nat.zero_le _, rfl, rfl⟩ dL_law_599 (sn_eI (fun r2 SM2 => ?_))
  refine sn_icmp_eq hO 1292 (by decide) dL_law_602 ?_ ?_
  · exact hK _ _ _ _
  · refine sn_iconst hO kc_0 dL_law_605 ?_
    exact sn_zret (r := 0) (Qi := fun r _ => r = 1) hO (ty := .boolean) rfl rfl dL_law_606
def wpL_11 (wX : sn_W) (L : Nat) (xs : Nat → Int32) (i : Int32) (mc ms : Nat) (SX SM : sn_S) (K : Nat → Nat → sn_S → sn_S → Prop) : Prop :=
  wpX0_row wX SX (fun r1 SX1 => wpX9_row SM (fun r2 SM2 => ((r1 = r2 → K mc ms SX1 SM2) ∧ (¬ r1 = r2 → (0 : Int32) = 1))))
theorem wkL_11 {b L : Nat} {xs : Nat → Int32} {w wX wM : sn_W} {C : sn_C} {nm : String} {tb : List ExceptionTableEntry} (hO : sn_Ok (LoL b L xs) w C RL cL_law 4 ret tb nm) (hwX : sn_wok w wX) (hwM : sn_wok w wM) {i : Int32} {K : Nat → Nat → sn_S → sn_S → Prop} (hK : ∀ (mc ms : Nat) (SX SM : sn_S), K mc ms SX SM → sn_G (LoL b L xs) w room_1 (sn_qI (fun r _ => r = 1)) sn_noE C mc ms 1292 [(0, .ref b), (1, .ref (wX.2.2.1 0)), (2, .ref (wM.2.2.1 0)), (3, .int i)] [] (sn_two wX wM SX SM)) {mc ms : Nat} {SX SM : sn_S} : wpL_11 wX L xs i mc ms SX SM K → sn_G (LoL b L xs) w room_1 (sn_qI (fun r _ => r = 1)) sn_noE C mc ms 607 [(0, .ref b), (1, .ref (wX.2.2.1 0)), (2, .ref (wM.2.2.1 0)), (3, .int i)] [] (sn_two wX wM SX SM) := by
  unfold wpL_11
  refine sn_aload_n hO 1 rfl dL_law_607 ?_
  refine sn_lcX hO hwX (c2 := mc) (s2 := ms) (rm := rmX0_row) [] cvL_62 (fun h => ctX0_row h) ⟨Nat.le_of_ble_eq_true rfl, Nat.le_of_ble_eq_true rfl⟩ rfl rfl (Nat.le_of_ble_eq_true rfl) ⟨Nat.zero_le _, Nat.zero_le _, rfl, rfl⟩ dL_law_608 (sn_dI (fun r1 SX1 => ?_))
  refine sn_aload_n hO 2 rfl dL_law_611 ?_
  refine sn_lcM hO hwM (c2 := mc) (s2 := ms) (rm := rmX9_row) [] cvL_66 (fun h => ctX9_row h) ⟨Nat.le_of_ble_eq_true rfl, Nat.le_of_ble_eq_true rfl⟩ rfl rfl (Nat.le_of_ble_eq_true rfl) ⟨Nat.zero_le _, Nat.zero_le _, rfl, rfl⟩ dL_law_612 (sn_eI (fun r2 SM2 => ?_))
  refine sn_icmp_eq hO 1292 (by decide) dL_law_615 ?_ ?_
  · exact hK _ _ _ _
  · refine sn_iconst hO kc_0 dL_law_618 ?_
    exact sn_zret (r := 0) (Qi := fun r _ => r = 1) hO (ty := .boolean) rfl rfl dL_law_619
def wpL_12 (wX : sn_W) (L : Nat) (xs : Nat → Int32) (i : Int32) (mc ms : Nat) (SX SM : sn_S) (K : Nat → Nat → sn_S → sn_S → Prop) : Prop :=
  wpX0_spilt wX SX (fun r1 => wpX9_spilt SM (fun r2 SM2 => ((r1 = r2 → K mc ms SX SM2) ∧ (¬ r1 = r2 → (0 : Int32) = 1))))
theorem wkL_12 {b L : Nat} {xs : Nat → Int32} {w wX wM : sn_W} {C : sn_C} {nm : String} {tb : List ExceptionTableEntry} (hO : sn_Ok (LoL b L xs) w C RL cL_law 4 ret tb nm) (hwX : sn_wok w wX) (hwM : sn_wok w wM) {i : Int32} {K : Nat → Nat → sn_S → sn_S → Prop} (hK : ∀ (mc ms : Nat) (SX SM : sn_S), K mc ms SX SM → sn_G (LoL b L xs) w room_1 (sn_qI (fun r _ => r = 1)) sn_noE C mc ms 1292 [(0, .ref b), (1, .ref (wX.2.2.1 0)), (2, .ref (wM.2.2.1 0)), (3, .int i)] [] (sn_two wX wM SX SM)) {mc ms : Nat} {SX SM : sn_S} : wpL_12 wX L xs i mc ms SX SM K → sn_G (LoL b L xs) w room_1 (sn_qI (fun r _ => r = 1)) sn_noE C mc ms 620 [(0, .ref b), (1, .ref (wX.2.2.1 0)), (2, .ref (wM.2.2.1 0)), (3, .int i)] [] (sn_two wX wM SX SM) := by
  unfold wpL_12
  refine sn_aload_n hO 1 rfl dL_law_620 ?_
  refine sn_lcX hO hwX (c2 := mc) (s2 := ms) (rm := rmX0_spilt) [] cvL_67 (fun h => ctX0_spilt h) ⟨Nat.le_of_ble_eq_true rfl, Nat.le_of_ble_eq_true rfl⟩ rfl rfl (Nat.le_of_ble_eq_true rfl) ⟨Nat.zero_le _, Nat.zero_le _, rfl, rfl⟩ dL_law_621 (sn_dIp (fun r1 => ?_))
  refine sn_aload_n hO 2 rfl dL_law_624 ?_
  refine sn_lcM hO hwM (c2 := mc) (s2 := ms) (rm := rmX9_spilt) [] cvL_70 (fun h => ctX9_spilt h) ⟨Nat.le_of_ble_eq_true rfl, Nat.le_of_ble_eq_true rfl⟩ rfl rfl (Nat.le_of_ble_eq_true rfl) ⟨Nat.zero_le _, Nat.zero_le _, rfl, rfl⟩ dL_law_625 (sn_eI (fun r2 SM2 => ?_))
  refine sn_icmp_eq hO 1292 (by decide) dL_law_628 ?_ ?_
  · exact hK _ _ _ _
  · refine sn_iconst hO kc_0 dL_law_631 ?_
    exact sn_zret (r := 0) (Qi := fun r _ => r = 1) hO (ty := .boolean) rfl rfl dL_law_632
def wpL_13 (wX : sn_W) (L : Nat) (xs : Nat → Int32) (i : Int32) (mc ms : Nat) (SX SM : sn_S) (K : Nat → Nat → sn_S → sn_S → Prop) : Prop :=
  (∃ u1 v1 : Nat, u1 ≤ mc ∧ v1 ≤ ms ∧ wpX0_law wX SX u1 v1 (fun r1 SX1 => wpX9_law SM (fun r2 SM2 => ((r1 = r2 → K (mc - u1) (ms - v1) SX1 SM2) ∧ (¬ r1 = r2 → (0 : Int32) = 1)))))
theorem wkL_13 {b L : Nat} {xs : Nat → Int32} {w wX wM : sn_W} {C : sn_C} {nm : String} {tb : List ExceptionTableEntry} (hO : sn_Ok (LoL b L xs) w C RL cL_law 4 ret tb nm) (hwX : sn_wok w wX) (hwM : sn_wok w wM) {i : Int32} {K : Nat → Nat → sn_S → sn_S → Prop} (hK : ∀ (mc ms : Nat) (SX SM : sn_S), K mc ms SX SM → sn_G (LoL b L xs) w room_1 (sn_qI (fun r _ => r = 1)) sn_noE C mc ms 1292 [(0, .ref b), (1, .ref (wX.2.2.1 0)), (2, .ref (wM.2.2.1 0)), (3, .int i)] [] (sn_two wX wM SX SM)) {mc ms : Nat} {SX SM : sn_S} : wpL_13 wX L xs i mc ms SX SM K → sn_G (LoL b L xs) w room_1 (sn_qI (fun r _ => r = 1)) sn_noE C mc ms 633 [(0, .ref b), (1, .ref (wX.2.2.1 0)), (2, .ref (wM.2.2.1 0)), (3, .int i)] [] (sn_two wX wM SX SM) := by
  unfold wpL_13
  refine sn_aload_n hO 1 rfl dL_law_633 ?_
  refine sn_bud (fun u1 v1 hu1 hv1 => ?_)
  refine sn_lcXW hO hwX (c2 := (mc - u1)) (s2 := (ms - v1)) (rm := (rmX0_law u1 v1)) [] cvL_71 (fun h => ctX0_law h) ⟨Nat.le_of_ble_eq_true rfl, Nat.le_of_ble_eq_true rfl⟩ rfl rfl (Nat.le_of_ble_eq_true rfl) ⟨hu1, hv1, rfl, rfl⟩ dL_law_634 (sn_dI (fun r1 SX1 => ?_))
  refine sn_aload_n hO 2 rfl dL_law_637 ?_
  refine sn_lcM hO hwM (c2 := (mc - u1)) (s2 := (ms - v1)) (rm := rmX9_law) [] cvL_74 (fun h => ctX9_law h) ⟨Nat.le_of_ble_eq_true rfl, Nat.le_of_ble_eq_true rfl⟩ rfl rfl (Nat.le_of_ble_eq_true rfl) ⟨Nat.zero_le _, Nat.zero_le _, rfl, rfl⟩ dL_law_638 (sn_eI (fun r2 SM2 => ?_))
  refine sn_icmp_eq hO 1292 (by decide) dL_law_641 ?_ ?_
  · exact hK _ _ _ _
  · refine sn_iconst hO kc_0 dL_law_644 ?_
    exact sn_zret (r := 0) (Qi := fun r _ => r = 1) hO (ty := .boolean) rfl rfl dL_law_645
def wpL_14 (wX : sn_W) (L : Nat) (xs : Nat → Int32) (i : Int32) (mc ms : Nat) (SX SM : sn_S) (K : Nat → Nat → sn_S → sn_S → Prop) : Prop :=
  wpX0_fault wX SX (fun r1 => wpX9_fault SM (fun r2 SM2 => ((r1 = r2 → K mc ms SX SM2) ∧ (¬ r1 = r2 → (0 : Int32) = 1))))
theorem wkL_14 {b L : Nat} {xs : Nat → Int32} {w wX wM : sn_W} {C : sn_C} {nm : String} {tb : List ExceptionTableEntry} (hO : sn_Ok (LoL b L xs) w C RL cL_law 4 ret tb nm) (hwX : sn_wok w wX) (hwM : sn_wok w wM) {i : Int32} {K : Nat → Nat → sn_S → sn_S → Prop} (hK : ∀ (mc ms : Nat) (SX SM : sn_S), K mc ms SX SM → sn_G (LoL b L xs) w room_1 (sn_qI (fun r _ => r = 1)) sn_noE C mc ms 1292 [(0, .ref b), (1, .ref (wX.2.2.1 0)), (2, .ref (wM.2.2.1 0)), (3, .int i)] [] (sn_two wX wM SX SM)) {mc ms : Nat} {SX SM : sn_S} : wpL_14 wX L xs i mc ms SX SM K → sn_G (LoL b L xs) w room_1 (sn_qI (fun r _ => r = 1)) sn_noE C mc ms 646 [(0, .ref b), (1, .ref (wX.2.2.1 0)), (2, .ref (wM.2.2.1 0)), (3, .int i)] [] (sn_two wX wM SX SM) := by
  unfold wpL_14
  refine sn_aload_n hO 1 rfl dL_law_646 ?_
  refine sn_lcX hO hwX (c2 := mc) (s2 := ms) (rm := rmX0_fault) [] cvL_75 (fun h => ctX0_fault h) ⟨Nat.le_of_ble_eq_true rfl, Nat.le_of_ble_eq_true rfl⟩ rfl rfl (Nat.le_of_ble_eq_true rfl) ⟨Nat.zero_le _, Nat.zero_le _, rfl, rfl⟩ dL_law_647 (sn_dIp (fun r1 => ?_))
  refine sn_aload_n hO 2 rfl dL_law_650 ?_
  refine sn_lcM hO hwM (c2 := mc) (s2 := ms) (rm := rmX9_fault) [] cvL_78 (fun h => ctX9_fault h) ⟨Nat.le_of_ble_eq_true rfl, Nat.le_of_ble_eq_true rfl⟩ rfl rfl (Nat.le_of_ble_eq_true rfl) ⟨Nat.zero_le _, Nat.zero_le _, rfl, rfl⟩ dL_law_651 (sn_eI (fun r2 SM2 => ?_))
  refine sn_icmp_eq hO 1292 (by decide) dL_law_654 ?_ ?_
  · exact hK _ _ _ _
  · refine sn_iconst hO kc_0 dL_law_657 ?_
    exact sn_zret (r := 0) (Qi := fun r _ => r = 1) hO (ty := .boolean) rfl rfl dL_law_658
def wpL_15 (wX : sn_W) (L : Nat) (xs : Nat → Int32) (i : Int32) (mc ms : Nat) (SX SM : sn_S) (K : Nat → Nat → sn_S → sn_S → Prop) : Prop :=
  (vp_in (i + 1) L ∧ wpX0_force wX (xs (i + 1).toNatClampNeg) SX (fun r1 SX1 => (vp_in (i + 1) L ∧ wpX9_force (xs (i + 1).toNatClampNeg) SM (fun r2 SM2 => ((r1 = r2 → K mc ms SX1 SM2) ∧ (¬ r1 = r2 → (0 : Int32) = 1))))))
theorem wkL_15 {b L : Nat} {xs : Nat → Int32} {w wX wM : sn_W} {C : sn_C} {nm : String} {tb : List ExceptionTableEntry} (hO : sn_Ok (LoL b L xs) w C RL cL_law 4 ret tb nm) (hwX : sn_wok w wX) (hwM : sn_wok w wM) {i : Int32} {K : Nat → Nat → sn_S → sn_S → Prop} (hK : ∀ (mc ms : Nat) (SX SM : sn_S), K mc ms SX SM → sn_G (LoL b L xs) w room_1 (sn_qI (fun r _ => r = 1)) sn_noE C mc ms 1292 [(0, .ref b), (1, .ref (wX.2.2.1 0)), (2, .ref (wM.2.2.1 0)), (3, .int i)] [] (sn_two wX wM SX SM)) {mc ms : Nat} {SX SM : sn_S} : wpL_15 wX L xs i mc ms SX SM K → sn_G (LoL b L xs) w room_1 (sn_qI (fun r _ => r = 1)) sn_noE C mc ms 659 [(0, .ref b), (1, .ref (wX.2.2.1 0)), (2, .ref (wM.2.2.1 0)), (3, .int i)] [] (sn_two wX wM SX SM) := by
  unfold wpL_15
  refine sn_aload_n hO 1 rfl dL_law_659 ?_
  refine sn_aload_n hO 0 rfl dL_law_660 ?_
  refine sn_iload_n hO 3 rfl dL_law_661 ?_
  refine sn_iconst hO kc_1 dL_law_662 ?_
  refine sn_iadd hO dL_law_663 ?_
  refine sn_sld hO dL_law_664 ?_
  refine sn_lcX hO hwX (c2 := mc) (s2 := ms) (rm := rmX0_force) [.int (xs (i + 1).toNatClampNeg)] cvL_79 (fun h => ctX0_force h) ⟨Nat.le_of_ble_eq_true rfl, Nat.le_of_ble_eq_true rfl⟩ rfl rfl (Nat.le_of_ble_eq_true rfl) ⟨Nat.zero_le _, Nat.zero_le _, rfl, rfl⟩ dL_law_665 (sn_dI (fun r1 SX1 => ?_))
  refine sn_aload_n hO 2 rfl dL_law_668 ?_
  refine sn_aload_n hO 0 rfl dL_law_669 ?_
  refine sn_iload_n hO 3 rfl dL_law_670 ?_
  refine sn_iconst hO kc_1 dL_law_671 ?_
  refine sn_iadd hO dL_law_672 ?_
  refine sn_sld hO dL_law_673 ?_
  refine sn_lcM hO hwM (c2 := mc) (s2 := ms) (rm := rmX9_force) [.int (xs (i + 1).toNatClampNeg)] cvL_82 (fun h => ctX9_force h) ⟨Nat.le_of_ble_eq_true rfl, Nat.le_of_ble_eq_true rfl⟩ rfl rfl (Nat.le_of_ble_eq_true rfl) ⟨Nat.zero_le _, Nat.zero_le _, rfl, rfl⟩ dL_law_674 (sn_eI (fun r2 SM2 => ?_))
  refine sn_icmp_eq hO 1292 (by decide) dL_law_677 ?_ ?_
  · exact hK _ _ _ _
  · refine sn_iconst hO kc_0 dL_law_680 ?_
    exact sn_zret (r := 0) (Qi := fun r _ => r = 1) hO (ty := .boolean) rfl rfl dL_law_681
def wpL_16 (wX : sn_W) (L : Nat) (xs : Nat → Int32) (i : Int32) (mc ms : Nat) (SX SM : sn_S) (K : Nat → Nat → sn_S → sn_S → Prop) : Prop :=
  (vp_in (i + 1) L ∧ (vp_in (i + 2) L ∧ wpX0_where wX (xs (i + 1).toNatClampNeg) (xs (i + 2).toNatClampNeg) SX (fun r1 SX1 => (vp_in (i + 1) L ∧ (vp_in (i + 2) L ∧ wpX9_where (xs (i + 1).toNatClampNeg) (xs (i + 2).toNatClampNeg) SM (fun r2 SM2 => ((r1 = r2 → K mc ms SX1 SM2) ∧ (¬ r1 = r2 → (0 : Int32) = 1))))))))
theorem wkL_16 {b L : Nat} {xs : Nat → Int32} {w wX wM : sn_W} {C : sn_C} {nm : String} {tb : List ExceptionTableEntry} (hO : sn_Ok (LoL b L xs) w C RL cL_law 4 ret tb nm) (hwX : sn_wok w wX) (hwM : sn_wok w wM) {i : Int32} {K : Nat → Nat → sn_S → sn_S → Prop} (hK : ∀ (mc ms : Nat) (SX SM : sn_S), K mc ms SX SM → sn_G (LoL b L xs) w room_1 (sn_qI (fun r _ => r = 1)) sn_noE C mc ms 1292 [(0, .ref b), (1, .ref (wX.2.2.1 0)), (2, .ref (wM.2.2.1 0)), (3, .int i)] [] (sn_two wX wM SX SM)) {mc ms : Nat} {SX SM : sn_S} : wpL_16 wX L xs i mc ms SX SM K → sn_G (LoL b L xs) w room_1 (sn_qI (fun r _ => r = 1)) sn_noE C mc ms 682 [(0, .ref b), (1, .ref (wX.2.2.1 0)), (2, .ref (wM.2.2.1 0)), (3, .int i)] [] (sn_two wX wM SX SM) := by
  unfold wpL_16
  refine sn_aload_n hO 1 rfl dL_law_682 ?_
  refine sn_aload_n hO 0 rfl dL_law_683 ?_
  refine sn_iload_n hO 3 rfl dL_law_684 ?_
  refine sn_iconst hO kc_1 dL_law_685 ?_
  refine sn_iadd hO dL_law_686 ?_
  refine sn_sld hO dL_law_687 ?_
  refine sn_aload_n hO 0 rfl dL_law_688 ?_
  refine sn_iload_n hO 3 rfl dL_law_689 ?_
  refine sn_iconst hO kc_2 dL_law_690 ?_
  refine sn_iadd hO dL_law_691 ?_
  refine sn_sld hO dL_law_692 ?_
  refine sn_lcX hO hwX (c2 := mc) (s2 := ms) (rm := rmX0_where) [.int (xs (i + 1).toNatClampNeg), .int (xs (i + 2).toNatClampNeg)] cvL_83 (fun h => ctX0_where h) ⟨Nat.le_of_ble_eq_true rfl, Nat.le_of_ble_eq_true rfl⟩ rfl rfl (Nat.le_of_ble_eq_true rfl) ⟨Nat.zero_le _, Nat.zero_le _, rfl, rfl⟩ dL_law_693 (sn_dI (fun r1 SX1 => ?_))
  refine sn_aload_n hO 2 rfl dL_law_696 ?_
  refine sn_aload_n hO 0 rfl dL_law_697 ?_
  refine sn_iload_n hO 3 rfl dL_law_698 ?_
  refine sn_iconst hO kc_1 dL_law_699 ?_
  refine sn_iadd hO dL_law_700 ?_
  refine sn_sld hO dL_law_701 ?_
  refine sn_aload_n hO 0 rfl dL_law_702 ?_
  refine sn_iload_n hO 3 rfl dL_law_703 ?_
  refine sn_iconst hO kc_2 dL_law_704 ?_
  refine sn_iadd hO dL_law_705 ?_
  refine sn_sld hO dL_law_706 ?_
  refine sn_lcM hO hwM (c2 := mc) (s2 := ms) (rm := rmX9_where) [.int (xs (i + 1).toNatClampNeg), .int (xs (i + 2).toNatClampNeg)] cvL_86 (fun h => ctX9_where h) ⟨Nat.le_of_ble_eq_true rfl, Nat.le_of_ble_eq_true rfl⟩ rfl rfl (Nat.le_of_ble_eq_true rfl) ⟨Nat.zero_le _, Nat.zero_le _, rfl, rfl⟩ dL_law_707 (sn_eI (fun r2 SM2 => ?_))
  refine sn_icmp_eq hO 1292 (by decide) dL_law_710 ?_ ?_
  · exact hK _ _ _ _
  · refine sn_iconst hO kc_0 dL_law_713 ?_
    exact sn_zret (r := 0) (Qi := fun r _ => r = 1) hO (ty := .boolean) rfl rfl dL_law_714
def wpL_17 (wX : sn_W) (L : Nat) (xs : Nat → Int32) (i : Int32) (mc ms : Nat) (SX SM : sn_S) (K : Nat → Nat → sn_S → sn_S → Prop) : Prop :=
  (vp_in (i + 1) L ∧ (vp_in (i + 2) L ∧ wpX0_day wX (xs (i + 1).toNatClampNeg) (xs (i + 2).toNatClampNeg) SX (fun r1 SX1 => (vp_in (i + 1) L ∧ (vp_in (i + 2) L ∧ wpX9_day (xs (i + 1).toNatClampNeg) (xs (i + 2).toNatClampNeg) SM (fun r2 SM2 => ((r1 = r2 → K mc ms SX1 SM2) ∧ (¬ r1 = r2 → (0 : Int32) = 1))))))))
theorem wkL_17 {b L : Nat} {xs : Nat → Int32} {w wX wM : sn_W} {C : sn_C} {nm : String} {tb : List ExceptionTableEntry} (hO : sn_Ok (LoL b L xs) w C RL cL_law 4 ret tb nm) (hwX : sn_wok w wX) (hwM : sn_wok w wM) {i : Int32} {K : Nat → Nat → sn_S → sn_S → Prop} (hK : ∀ (mc ms : Nat) (SX SM : sn_S), K mc ms SX SM → sn_G (LoL b L xs) w room_1 (sn_qI (fun r _ => r = 1)) sn_noE C mc ms 1292 [(0, .ref b), (1, .ref (wX.2.2.1 0)), (2, .ref (wM.2.2.1 0)), (3, .int i)] [] (sn_two wX wM SX SM)) {mc ms : Nat} {SX SM : sn_S} : wpL_17 wX L xs i mc ms SX SM K → sn_G (LoL b L xs) w room_1 (sn_qI (fun r _ => r = 1)) sn_noE C mc ms 715 [(0, .ref b), (1, .ref (wX.2.2.1 0)), (2, .ref (wM.2.2.1 0)), (3, .int i)] [] (sn_two wX wM SX SM) := by
  unfold wpL_17
  refine sn_aload_n hO 1 rfl dL_law_715 ?_
  refine sn_aload_n hO 0 rfl dL_law_716 ?_
  refine sn_iload_n hO 3 rfl dL_law_717 ?_
  refine sn_iconst hO kc_1 dL_law_718 ?_
  refine sn_iadd hO dL_law_719 ?_
  refine sn_sld hO dL_law_720 ?_
  refine sn_aload_n hO 0 rfl dL_law_721 ?_
  refine sn_iload_n hO 3 rfl dL_law_722 ?_
  refine sn_iconst hO kc_2 dL_law_723 ?_
  refine sn_iadd hO dL_law_724 ?_
  refine sn_sld hO dL_law_725 ?_
  refine sn_lcX hO hwX (c2 := mc) (s2 := ms) (rm := rmX0_day) [.int (xs (i + 1).toNatClampNeg), .int (xs (i + 2).toNatClampNeg)] cvL_87 (fun h => ctX0_day h) ⟨Nat.le_of_ble_eq_true rfl, Nat.le_of_ble_eq_true rfl⟩ rfl rfl (Nat.le_of_ble_eq_true rfl) ⟨Nat.zero_le _, Nat.zero_le _, rfl, rfl⟩ dL_law_726 (sn_dI (fun r1 SX1 => ?_))
  refine sn_aload_n hO 2 rfl dL_law_729 ?_
  refine sn_aload_n hO 0 rfl dL_law_730 ?_
  refine sn_iload_n hO 3 rfl dL_law_731 ?_
  refine sn_iconst hO kc_1 dL_law_732 ?_
  refine sn_iadd hO dL_law_733 ?_
  refine sn_sld hO dL_law_734 ?_
  refine sn_aload_n hO 0 rfl dL_law_735 ?_
  refine sn_iload_n hO 3 rfl dL_law_736 ?_
  refine sn_iconst hO kc_2 dL_law_737 ?_
  refine sn_iadd hO dL_law_738 ?_
  refine sn_sld hO dL_law_739 ?_
  refine sn_lcM hO hwM (c2 := mc) (s2 := ms) (rm := rmX9_day) [.int (xs (i + 1).toNatClampNeg), .int (xs (i + 2).toNatClampNeg)] cvL_90 (fun h => ctX9_day h) ⟨Nat.le_of_ble_eq_true rfl, Nat.le_of_ble_eq_true rfl⟩ rfl rfl (Nat.le_of_ble_eq_true rfl) ⟨Nat.zero_le _, Nat.zero_le _, rfl, rfl⟩ dL_law_740 (sn_eI (fun r2 SM2 => ?_))
  refine sn_icmp_eq hO 1292 (by decide) dL_law_743 ?_ ?_
  · exact hK _ _ _ _
  · refine sn_iconst hO kc_0 dL_law_746 ?_
    exact sn_zret (r := 0) (Qi := fun r _ => r = 1) hO (ty := .boolean) rfl rfl dL_law_747
def wpL_18 (wX : sn_W) (L : Nat) (xs : Nat → Int32) (i : Int32) (mc ms : Nat) (SX SM : sn_S) (K : Nat → Nat → sn_S → sn_S → Prop) : Prop :=
  (vp_in (i + 1) L ∧ wpX0_trail wX (xs (i + 1).toNatClampNeg) SX (fun r1 SX1 => (vp_in (i + 1) L ∧ wpX9_trail (xs (i + 1).toNatClampNeg) SM (fun r2 SM2 => ((r1 = r2 → K mc ms SX1 SM2) ∧ (¬ r1 = r2 → (0 : Int32) = 1))))))
theorem wkL_18 {b L : Nat} {xs : Nat → Int32} {w wX wM : sn_W} {C : sn_C} {nm : String} {tb : List ExceptionTableEntry} (hO : sn_Ok (LoL b L xs) w C RL cL_law 4 ret tb nm) (hwX : sn_wok w wX) (hwM : sn_wok w wM) {i : Int32} {K : Nat → Nat → sn_S → sn_S → Prop} (hK : ∀ (mc ms : Nat) (SX SM : sn_S), K mc ms SX SM → sn_G (LoL b L xs) w room_1 (sn_qI (fun r _ => r = 1)) sn_noE C mc ms 1292 [(0, .ref b), (1, .ref (wX.2.2.1 0)), (2, .ref (wM.2.2.1 0)), (3, .int i)] [] (sn_two wX wM SX SM)) {mc ms : Nat} {SX SM : sn_S} : wpL_18 wX L xs i mc ms SX SM K → sn_G (LoL b L xs) w room_1 (sn_qI (fun r _ => r = 1)) sn_noE C mc ms 748 [(0, .ref b), (1, .ref (wX.2.2.1 0)), (2, .ref (wM.2.2.1 0)), (3, .int i)] [] (sn_two wX wM SX SM) := by
  unfold wpL_18
  refine sn_aload_n hO 1 rfl dL_law_748 ?_
  refine sn_aload_n hO 0 rfl dL_law_749 ?_
  refine sn_iload_n hO 3 rfl dL_law_750 ?_
  refine sn_iconst hO kc_1 dL_law_751 ?_
  refine sn_iadd hO dL_law_752 ?_
  refine sn_sld hO dL_law_753 ?_
  refine sn_lcX hO hwX (c2 := mc) (s2 := ms) (rm := rmX0_trail) [.int (xs (i + 1).toNatClampNeg)] cvL_91 (fun h => ctX0_trail h) ⟨Nat.le_of_ble_eq_true rfl, Nat.le_of_ble_eq_true rfl⟩ rfl rfl (Nat.le_of_ble_eq_true rfl) ⟨Nat.zero_le _, Nat.zero_le _, rfl, rfl⟩ dL_law_754 (sn_dI (fun r1 SX1 => ?_))
  refine sn_aload_n hO 2 rfl dL_law_757 ?_
  refine sn_aload_n hO 0 rfl dL_law_758 ?_
  refine sn_iload_n hO 3 rfl dL_law_759 ?_
  refine sn_iconst hO kc_1 dL_law_760 ?_
  refine sn_iadd hO dL_law_761 ?_
  refine sn_sld hO dL_law_762 ?_
  refine sn_lcM hO hwM (c2 := mc) (s2 := ms) (rm := rmX9_trail) [.int (xs (i + 1).toNatClampNeg)] cvL_94 (fun h => ctX9_trail h) ⟨Nat.le_of_ble_eq_true rfl, Nat.le_of_ble_eq_true rfl⟩ rfl rfl (Nat.le_of_ble_eq_true rfl) ⟨Nat.zero_le _, Nat.zero_le _, rfl, rfl⟩ dL_law_763 (sn_eI (fun r2 SM2 => ?_))
  refine sn_icmp_eq hO 1292 (by decide) dL_law_766 ?_ ?_
  · exact hK _ _ _ _
  · refine sn_iconst hO kc_0 dL_law_769 ?_
    exact sn_zret (r := 0) (Qi := fun r _ => r = 1) hO (ty := .boolean) rfl rfl dL_law_770
def wpL_19 (wX : sn_W) (L : Nat) (xs : Nat → Int32) (i : Int32) (mc ms : Nat) (SX SM : sn_S) (K : Nat → Nat → sn_S → sn_S → Prop) : Prop :=
  (vp_in (i + 1) L ∧ (vp_in (i + 2) L ∧ (vp_in (i + 3) L ∧ wpX0_best wX (xs (i + 1).toNatClampNeg) (xs (i + 2).toNatClampNeg) (xs (i + 3).toNatClampNeg) SX (fun r1 SX1 => (vp_in (i + 1) L ∧ (vp_in (i + 2) L ∧ (vp_in (i + 3) L ∧ wpX9_best (xs (i + 1).toNatClampNeg) (xs (i + 2).toNatClampNeg) (xs (i + 3).toNatClampNeg) SM (fun r2 SM2 => ((r1 = r2 → K mc ms SX1 SM2) ∧ (¬ r1 = r2 → (0 : Int32) = 1))))))))))
theorem wkL_19 {b L : Nat} {xs : Nat → Int32} {w wX wM : sn_W} {C : sn_C} {nm : String} {tb : List ExceptionTableEntry} (hO : sn_Ok (LoL b L xs) w C RL cL_law 4 ret tb nm) (hwX : sn_wok w wX) (hwM : sn_wok w wM) {i : Int32} {K : Nat → Nat → sn_S → sn_S → Prop} (hK : ∀ (mc ms : Nat) (SX SM : sn_S), K mc ms SX SM → sn_G (LoL b L xs) w room_1 (sn_qI (fun r _ => r = 1)) sn_noE C mc ms 1292 [(0, .ref b), (1, .ref (wX.2.2.1 0)), (2, .ref (wM.2.2.1 0)), (3, .int i)] [] (sn_two wX wM SX SM)) {mc ms : Nat} {SX SM : sn_S} : wpL_19 wX L xs i mc ms SX SM K → sn_G (LoL b L xs) w room_1 (sn_qI (fun r _ => r = 1)) sn_noE C mc ms 771 [(0, .ref b), (1, .ref (wX.2.2.1 0)), (2, .ref (wM.2.2.1 0)), (3, .int i)] [] (sn_two wX wM SX SM) := by
  unfold wpL_19
  refine sn_aload_n hO 1 rfl dL_law_771 ?_
  refine sn_aload_n hO 0 rfl dL_law_772 ?_
  refine sn_iload_n hO 3 rfl dL_law_773 ?_
  refine sn_iconst hO kc_1 dL_law_774 ?_
  refine sn_iadd hO dL_law_775 ?_
  refine sn_sld hO dL_law_776 ?_
  refine sn_aload_n hO 0 rfl dL_law_777 ?_
  refine sn_iload_n hO 3 rfl dL_law_778 ?_
  refine sn_iconst hO kc_2 dL_law_779 ?_
  refine sn_iadd hO dL_law_780 ?_
  refine sn_sld hO dL_law_781 ?_
  refine sn_aload_n hO 0 rfl dL_law_782 ?_
  refine sn_iload_n hO 3 rfl dL_law_783 ?_
  refine sn_iconst hO kc_3 dL_law_784 ?_
  refine sn_iadd hO dL_law_785 ?_
  refine sn_sld hO dL_law_786 ?_
  refine sn_lcX hO hwX (c2 := mc) (s2 := ms) (rm := rmX0_best) [.int (xs (i + 1).toNatClampNeg), .int (xs (i + 2).toNatClampNeg), .int (xs (i + 3).toNatClampNeg)] cvL_95 (fun h => ctX0_best h) ⟨Nat.le_of_ble_eq_true rfl, Nat.le_of_ble_eq_true rfl⟩ rfl rfl (Nat.le_of_ble_eq_true rfl) ⟨Nat.zero_le _, Nat.zero_le _, rfl, rfl⟩ dL_law_787 (sn_dI (fun r1 SX1 => ?_))
  refine sn_aload_n hO 2 rfl dL_law_790 ?_
  refine sn_aload_n hO 0 rfl dL_law_791 ?_
  refine sn_iload_n hO 3 rfl dL_law_792 ?_
  refine sn_iconst hO kc_1 dL_law_793 ?_
  refine sn_iadd hO dL_law_794 ?_
  refine sn_sld hO dL_law_795 ?_
  refine sn_aload_n hO 0 rfl dL_law_796 ?_
  refine sn_iload_n hO 3 rfl dL_law_797 ?_
  refine sn_iconst hO kc_2 dL_law_798 ?_
  refine sn_iadd hO dL_law_799 ?_
  refine sn_sld hO dL_law_800 ?_
  refine sn_aload_n hO 0 rfl dL_law_801 ?_
  refine sn_iload_n hO 3 rfl dL_law_802 ?_
  refine sn_iconst hO kc_3 dL_law_803 ?_
  refine sn_iadd hO dL_law_804 ?_
  refine sn_sld hO dL_law_805 ?_
  refine sn_lcM hO hwM (c2 := mc) (s2 := ms) (rm := rmX9_best) [.int (xs (i + 1).toNatClampNeg), .int (xs (i + 2).toNatClampNeg), .int (xs (i + 3).toNatClampNeg)] cvL_98 (fun h => ctX9_best h) ⟨Nat.le_of_ble_eq_true rfl, Nat.le_of_ble_eq_true rfl⟩ rfl rfl (Nat.le_of_ble_eq_true rfl) ⟨Nat.zero_le _, Nat.zero_le _, rfl, rfl⟩ dL_law_806 (sn_eI (fun r2 SM2 => ?_))
  refine sn_icmp_eq hO 1292 (by decide) dL_law_809 ?_ ?_
  · exact hK _ _ _ _
  · refine sn_iconst hO kc_0 dL_law_812 ?_
    exact sn_zret (r := 0) (Qi := fun r _ => r = 1) hO (ty := .boolean) rfl rfl dL_law_813
def wpL_20 (wX : sn_W) (L : Nat) (xs : Nat → Int32) (i : Int32) (mc ms : Nat) (SX SM : sn_S) (K : Nat → Nat → sn_S → sn_S → Prop) : Prop :=
  (vp_in (i + 1) L ∧ (vp_in (i + 2) L ∧ wpX0_light wX (xs (i + 1).toNatClampNeg) (xs (i + 2).toNatClampNeg) SX (fun r1 SX1 => (vp_in (i + 1) L ∧ (vp_in (i + 2) L ∧ wpX9_light (xs (i + 1).toNatClampNeg) (xs (i + 2).toNatClampNeg) SM (fun r2 SM2 => ((r1 = r2 → K mc ms SX1 SM2) ∧ (¬ r1 = r2 → (0 : Int32) = 1))))))))
theorem wkL_20 {b L : Nat} {xs : Nat → Int32} {w wX wM : sn_W} {C : sn_C} {nm : String} {tb : List ExceptionTableEntry} (hO : sn_Ok (LoL b L xs) w C RL cL_law 4 ret tb nm) (hwX : sn_wok w wX) (hwM : sn_wok w wM) {i : Int32} {K : Nat → Nat → sn_S → sn_S → Prop} (hK : ∀ (mc ms : Nat) (SX SM : sn_S), K mc ms SX SM → sn_G (LoL b L xs) w room_1 (sn_qI (fun r _ => r = 1)) sn_noE C mc ms 1292 [(0, .ref b), (1, .ref (wX.2.2.1 0)), (2, .ref (wM.2.2.1 0)), (3, .int i)] [] (sn_two wX wM SX SM)) {mc ms : Nat} {SX SM : sn_S} : wpL_20 wX L xs i mc ms SX SM K → sn_G (LoL b L xs) w room_1 (sn_qI (fun r _ => r = 1)) sn_noE C mc ms 814 [(0, .ref b), (1, .ref (wX.2.2.1 0)), (2, .ref (wM.2.2.1 0)), (3, .int i)] [] (sn_two wX wM SX SM) := by
  unfold wpL_20
  refine sn_aload_n hO 1 rfl dL_law_814 ?_
  refine sn_aload_n hO 0 rfl dL_law_815 ?_
  refine sn_iload_n hO 3 rfl dL_law_816 ?_
  refine sn_iconst hO kc_1 dL_law_817 ?_
  refine sn_iadd hO dL_law_818 ?_
  refine sn_sld hO dL_law_819 ?_
  refine sn_aload_n hO 0 rfl dL_law_820 ?_
  refine sn_iload_n hO 3 rfl dL_law_821 ?_
  refine sn_iconst hO kc_2 dL_law_822 ?_
  refine sn_iadd hO dL_law_823 ?_
  refine sn_sld hO dL_law_824 ?_
  refine sn_lcX hO hwX (c2 := mc) (s2 := ms) (rm := rmX0_light) [.int (xs (i + 1).toNatClampNeg), .int (xs (i + 2).toNatClampNeg)] cvL_99 (fun h => ctX0_light h) ⟨Nat.le_of_ble_eq_true rfl, Nat.le_of_ble_eq_true rfl⟩ rfl rfl (Nat.le_of_ble_eq_true rfl) ⟨Nat.zero_le _, Nat.zero_le _, rfl, rfl⟩ dL_law_825 (sn_dI (fun r1 SX1 => ?_))
  refine sn_aload_n hO 2 rfl dL_law_828 ?_
  refine sn_aload_n hO 0 rfl dL_law_829 ?_
  refine sn_iload_n hO 3 rfl dL_law_830 ?_
  refine sn_iconst hO kc_1 dL_law_831 ?_
  refine sn_iadd hO dL_law_832 ?_
  refine sn_sld hO dL_law_833 ?_
  refine sn_aload_n hO 0 rfl dL_law_834 ?_
  refine sn_iload_n hO 3 rfl dL_law_835 ?_
  refine sn_iconst hO kc_2 dL_law_836 ?_
  refine sn_iadd hO dL_law_837 ?_
  refine sn_sld hO dL_law_838 ?_
  refine sn_lcM hO hwM (c2 := mc) (s2 := ms) (rm := rmX9_light) [.int (xs (i + 1).toNatClampNeg), .int (xs (i + 2).toNatClampNeg)] cvL_102 (fun h => ctX9_light h) ⟨Nat.le_of_ble_eq_true rfl, Nat.le_of_ble_eq_true rfl⟩ rfl rfl (Nat.le_of_ble_eq_true rfl) ⟨Nat.zero_le _, Nat.zero_le _, rfl, rfl⟩ dL_law_839 (sn_eI (fun r2 SM2 => ?_))
  refine sn_icmp_eq hO 1292 (by decide) dL_law_842 ?_ ?_
  · exact hK _ _ _ _
  · refine sn_iconst hO kc_0 dL_law_845 ?_
    exact sn_zret (r := 0) (Qi := fun r _ => r = 1) hO (ty := .boolean) rfl rfl dL_law_846
def wpL_21 (wX : sn_W) (L : Nat) (xs : Nat → Int32) (i : Int32) (mc ms : Nat) (SX SM : sn_S) (K : Nat → Nat → sn_S → sn_S → Prop) : Prop :=
  (vp_in (i + 1) L ∧ (vp_in (i + 2) L ∧ (vp_in (i + 3) L ∧ wpX0_duel wX (xs (i + 1).toNatClampNeg) (xs (i + 2).toNatClampNeg) (xs (i + 3).toNatClampNeg) SX (fun r1 SX1 => (vp_in (i + 1) L ∧ (vp_in (i + 2) L ∧ (vp_in (i + 3) L ∧ wpX9_duel (xs (i + 1).toNatClampNeg) (xs (i + 2).toNatClampNeg) (xs (i + 3).toNatClampNeg) SM (fun r2 SM2 => ((r1 = r2 → K mc ms SX1 SM2) ∧ (¬ r1 = r2 → (0 : Int32) = 1))))))))))
theorem wkL_21 {b L : Nat} {xs : Nat → Int32} {w wX wM : sn_W} {C : sn_C} {nm : String} {tb : List ExceptionTableEntry} (hO : sn_Ok (LoL b L xs) w C RL cL_law 4 ret tb nm) (hwX : sn_wok w wX) (hwM : sn_wok w wM) {i : Int32} {K : Nat → Nat → sn_S → sn_S → Prop} (hK : ∀ (mc ms : Nat) (SX SM : sn_S), K mc ms SX SM → sn_G (LoL b L xs) w room_1 (sn_qI (fun r _ => r = 1)) sn_noE C mc ms 1292 [(0, .ref b), (1, .ref (wX.2.2.1 0)), (2, .ref (wM.2.2.1 0)), (3, .int i)] [] (sn_two wX wM SX SM)) {mc ms : Nat} {SX SM : sn_S} : wpL_21 wX L xs i mc ms SX SM K → sn_G (LoL b L xs) w room_1 (sn_qI (fun r _ => r = 1)) sn_noE C mc ms 847 [(0, .ref b), (1, .ref (wX.2.2.1 0)), (2, .ref (wM.2.2.1 0)), (3, .int i)] [] (sn_two wX wM SX SM) := by
  unfold wpL_21
  refine sn_aload_n hO 1 rfl dL_law_847 ?_
  refine sn_aload_n hO 0 rfl dL_law_848 ?_
  refine sn_iload_n hO 3 rfl dL_law_849 ?_
  refine sn_iconst hO kc_1 dL_law_850 ?_
  refine sn_iadd hO dL_law_851 ?_
  refine sn_sld hO dL_law_852 ?_
  refine sn_aload_n hO 0 rfl dL_law_853 ?_
  refine sn_iload_n hO 3 rfl dL_law_854 ?_
  refine sn_iconst hO kc_2 dL_law_855 ?_
  refine sn_iadd hO dL_law_856 ?_
  refine sn_sld hO dL_law_857 ?_
  refine sn_aload_n hO 0 rfl dL_law_858 ?_
  refine sn_iload_n hO 3 rfl dL_law_859 ?_
  refine sn_iconst hO kc_3 dL_law_860 ?_
  refine sn_iadd hO dL_law_861 ?_
  refine sn_sld hO dL_law_862 ?_
  refine sn_lcX hO hwX (c2 := mc) (s2 := ms) (rm := rmX0_duel) [.int (xs (i + 1).toNatClampNeg), .int (xs (i + 2).toNatClampNeg), .int (xs (i + 3).toNatClampNeg)] cvL_103 (fun h => ctX0_duel h) ⟨Nat.le_of_ble_eq_true rfl, Nat.le_of_ble_eq_true rfl⟩ rfl rfl (Nat.le_of_ble_eq_true rfl) ⟨Nat.zero_le _, Nat.zero_le _, rfl, rfl⟩ dL_law_863 (sn_dI (fun r1 SX1 => ?_))
  refine sn_aload_n hO 2 rfl dL_law_866 ?_
  refine sn_aload_n hO 0 rfl dL_law_867 ?_
  refine sn_iload_n hO 3 rfl dL_law_868 ?_
  refine sn_iconst hO kc_1 dL_law_869 ?_
  refine sn_iadd hO dL_law_870 ?_
  refine sn_sld hO dL_law_871 ?_
  refine sn_aload_n hO 0 rfl dL_law_872 ?_
  refine sn_iload_n hO 3 rfl dL_law_873 ?_
  refine sn_iconst hO kc_2 dL_law_874 ?_
  refine sn_iadd hO dL_law_875 ?_
  refine sn_sld hO dL_law_876 ?_
  refine sn_aload_n hO 0 rfl dL_law_877 ?_
  refine sn_iload_n hO 3 rfl dL_law_878 ?_
  refine sn_iconst hO kc_3 dL_law_879 ?_
  refine sn_iadd hO dL_law_880 ?_
  refine sn_sld hO dL_law_881 ?_
  refine sn_lcM hO hwM (c2 := mc) (s2 := ms) (rm := rmX9_duel) [.int (xs (i + 1).toNatClampNeg), .int (xs (i + 2).toNatClampNeg), .int (xs (i + 3).toNatClampNeg)] cvL_106 (fun h => ctX9_duel h) ⟨Nat.le_of_ble_eq_true rfl, Nat.le_of_ble_eq_true rfl⟩ rfl rfl (Nat.le_of_ble_eq_true rfl) ⟨Nat.zero_le _, Nat.zero_le _, rfl, rfl⟩ dL_law_882 (sn_eI (fun r2 SM2 => ?_))
  refine sn_icmp_eq hO 1292 (by decide) dL_law_885 ?_ ?_
  · exact hK _ _ _ _
  · refine sn_iconst hO kc_0 dL_law_888 ?_
    exact sn_zret (r := 0) (Qi := fun r _ => r = 1) hO (ty := .boolean) rfl rfl dL_law_889
def wpL_22 (wX : sn_W) (L : Nat) (xs : Nat → Int32) (i : Int32) (mc ms : Nat) (SX SM : sn_S) (K : Nat → Nat → sn_S → sn_S → Prop) : Prop :=
  (vp_in (i + 1) L ∧ wpX0_read wX (xs (i + 1).toNatClampNeg) SX (fun r1 SX1 => (vp_in (i + 1) L ∧ wpX9_read (xs (i + 1).toNatClampNeg) SM (fun r2 SM2 => ((r1 = r2 → K mc ms SX1 SM2) ∧ (¬ r1 = r2 → (0 : Int32) = 1))))))
theorem wkL_22 {b L : Nat} {xs : Nat → Int32} {w wX wM : sn_W} {C : sn_C} {nm : String} {tb : List ExceptionTableEntry} (hO : sn_Ok (LoL b L xs) w C RL cL_law 4 ret tb nm) (hwX : sn_wok w wX) (hwM : sn_wok w wM) {i : Int32} {K : Nat → Nat → sn_S → sn_S → Prop} (hK : ∀ (mc ms : Nat) (SX SM : sn_S), K mc ms SX SM → sn_G (LoL b L xs) w room_1 (sn_qI (fun r _ => r = 1)) sn_noE C mc ms 1292 [(0, .ref b), (1, .ref (wX.2.2.1 0)), (2, .ref (wM.2.2.1 0)), (3, .int i)] [] (sn_two wX wM SX SM)) {mc ms : Nat} {SX SM : sn_S} : wpL_22 wX L xs i mc ms SX SM K → sn_G (LoL b L xs) w room_1 (sn_qI (fun r _ => r = 1)) sn_noE C mc ms 890 [(0, .ref b), (1, .ref (wX.2.2.1 0)), (2, .ref (wM.2.2.1 0)), (3, .int i)] [] (sn_two wX wM SX SM) := by
  unfold wpL_22
  refine sn_aload_n hO 1 rfl dL_law_890 ?_
  refine sn_aload_n hO 0 rfl dL_law_891 ?_
  refine sn_iload_n hO 3 rfl dL_law_892 ?_
  refine sn_iconst hO kc_1 dL_law_893 ?_
  refine sn_iadd hO dL_law_894 ?_
  refine sn_sld hO dL_law_895 ?_
  refine sn_lcX hO hwX (c2 := mc) (s2 := ms) (rm := rmX0_read) [.int (xs (i + 1).toNatClampNeg)] cvL_107 (fun h => ctX0_read h) ⟨Nat.le_of_ble_eq_true rfl, Nat.le_of_ble_eq_true rfl⟩ rfl rfl (Nat.le_of_ble_eq_true rfl) ⟨Nat.zero_le _, Nat.zero_le _, rfl, rfl⟩ dL_law_896 (sn_dI (fun r1 SX1 => ?_))
  refine sn_aload_n hO 2 rfl dL_law_899 ?_
  refine sn_aload_n hO 0 rfl dL_law_900 ?_
  refine sn_iload_n hO 3 rfl dL_law_901 ?_
  refine sn_iconst hO kc_1 dL_law_902 ?_
  refine sn_iadd hO dL_law_903 ?_
  refine sn_sld hO dL_law_904 ?_
  refine sn_lcM hO hwM (c2 := mc) (s2 := ms) (rm := rmX9_read) [.int (xs (i + 1).toNatClampNeg)] cvL_110 (fun h => ctX9_read h) ⟨Nat.le_of_ble_eq_true rfl, Nat.le_of_ble_eq_true rfl⟩ rfl rfl (Nat.le_of_ble_eq_true rfl) ⟨Nat.zero_le _, Nat.zero_le _, rfl, rfl⟩ dL_law_905 (sn_eI (fun r2 SM2 => ?_))
  refine sn_icmp_eq hO 1292 (by decide) dL_law_908 ?_ ?_
  · exact hK _ _ _ _
  · refine sn_iconst hO kc_0 dL_law_911 ?_
    exact sn_zret (r := 0) (Qi := fun r _ => r = 1) hO (ty := .boolean) rfl rfl dL_law_912
def wpL_23 (wX : sn_W) (L : Nat) (xs : Nat → Int32) (i : Int32) (mc ms : Nat) (SX SM : sn_S) (K : Nat → Nat → sn_S → sn_S → Prop) : Prop :=
  wpX0_safe wX SX (fun r1 SX1 => wpX9_safe SM (fun r2 SM2 => ((r1 = r2 → K mc ms SX1 SM2) ∧ (¬ r1 = r2 → (0 : Int32) = 1))))
theorem wkL_23 {b L : Nat} {xs : Nat → Int32} {w wX wM : sn_W} {C : sn_C} {nm : String} {tb : List ExceptionTableEntry} (hO : sn_Ok (LoL b L xs) w C RL cL_law 4 ret tb nm) (hwX : sn_wok w wX) (hwM : sn_wok w wM) {i : Int32} {K : Nat → Nat → sn_S → sn_S → Prop} (hK : ∀ (mc ms : Nat) (SX SM : sn_S), K mc ms SX SM → sn_G (LoL b L xs) w room_1 (sn_qI (fun r _ => r = 1)) sn_noE C mc ms 1292 [(0, .ref b), (1, .ref (wX.2.2.1 0)), (2, .ref (wM.2.2.1 0)), (3, .int i)] [] (sn_two wX wM SX SM)) {mc ms : Nat} {SX SM : sn_S} : wpL_23 wX L xs i mc ms SX SM K → sn_G (LoL b L xs) w room_1 (sn_qI (fun r _ => r = 1)) sn_noE C mc ms 913 [(0, .ref b), (1, .ref (wX.2.2.1 0)), (2, .ref (wM.2.2.1 0)), (3, .int i)] [] (sn_two wX wM SX SM) := by
  unfold wpL_23
  refine sn_aload_n hO 1 rfl dL_law_913 ?_
  refine sn_lcX hO hwX (c2 := mc) (s2 := ms) (rm := rmX0_safe) [] cvL_111 (fun h => ctX0_safe h) ⟨Nat.le_of_ble_eq_true rfl, Nat.le_of_ble_eq_true rfl⟩ rfl rfl (Nat.le_of_ble_eq_true rfl) ⟨Nat.zero_le _, Nat.zero_le _, rfl, rfl⟩ dL_law_914 (sn_dI (fun r1 SX1 => ?_))
  refine sn_aload_n hO 2 rfl dL_law_917 ?_
  refine sn_lcM hO hwM (c2 := mc) (s2 := ms) (rm := rmX9_safe) [] cvL_114 (fun h => ctX9_safe h) ⟨Nat.le_of_ble_eq_true rfl, Nat.le_of_ble_eq_true rfl⟩ rfl rfl (Nat.le_of_ble_eq_true rfl) ⟨Nat.zero_le _, Nat.zero_le _, rfl, rfl⟩ dL_law_918 (sn_eI (fun r2 SM2 => ?_))
  refine sn_icmp_eq hO 1292 (by decide) dL_law_921 ?_ ?_
  · exact hK _ _ _ _
  · refine sn_iconst hO kc_0 dL_law_924 ?_
    exact sn_zret (r := 0) (Qi := fun r _ => r = 1) hO (ty := .boolean) rfl rfl dL_law_925
def wpL_24 (wX : sn_W) (L : Nat) (xs : Nat → Int32) (i : Int32) (mc ms : Nat) (SX SM : sn_S) (K : Nat → Nat → sn_S → sn_S → Prop) : Prop :=
  wpX0_odds wX SX (fun r1 SX1 => wpX9_odds SM (fun r2 SM2 => (((lg_cmp r1 r2) = 0 → K mc ms SX1 SM2) ∧ (¬ (lg_cmp r1 r2) = 0 → (0 : Int32) = 1))))
theorem wkL_24 {b L : Nat} {xs : Nat → Int32} {w wX wM : sn_W} {C : sn_C} {nm : String} {tb : List ExceptionTableEntry} (hO : sn_Ok (LoL b L xs) w C RL cL_law 4 ret tb nm) (hwX : sn_wok w wX) (hwM : sn_wok w wM) {i : Int32} {K : Nat → Nat → sn_S → sn_S → Prop} (hK : ∀ (mc ms : Nat) (SX SM : sn_S), K mc ms SX SM → sn_G (LoL b L xs) w room_1 (sn_qI (fun r _ => r = 1)) sn_noE C mc ms 1292 [(0, .ref b), (1, .ref (wX.2.2.1 0)), (2, .ref (wM.2.2.1 0)), (3, .int i)] [] (sn_two wX wM SX SM)) {mc ms : Nat} {SX SM : sn_S} : wpL_24 wX L xs i mc ms SX SM K → sn_G (LoL b L xs) w room_1 (sn_qI (fun r _ => r = 1)) sn_noE C mc ms 926 [(0, .ref b), (1, .ref (wX.2.2.1 0)), (2, .ref (wM.2.2.1 0)), (3, .int i)] [] (sn_two wX wM SX SM) := by
  unfold wpL_24
  refine sn_aload_n hO 1 rfl dL_law_926 ?_
  refine sn_lcX hO hwX (c2 := mc) (s2 := ms) (rm := rmX0_odds) [] cvL_115 (fun h => ctX0_odds h) ⟨Nat.le_of_ble_eq_true rfl, Nat.le_of_ble_eq_true rfl⟩ rfl rfl (Nat.le_of_ble_eq_true rfl) ⟨Nat.zero_le _, Nat.zero_le _, rfl, rfl⟩ dL_law_927 (sn_dL (fun r1 SX1 => ?_))
  refine sn_aload_n hO 2 rfl dL_law_930 ?_
  refine sn_lcM hO hwM (c2 := mc) (s2 := ms) (rm := rmX9_odds) [] cvL_119 (fun h => ctX9_odds h) ⟨Nat.le_of_ble_eq_true rfl, Nat.le_of_ble_eq_true rfl⟩ rfl rfl (Nat.le_of_ble_eq_true rfl) ⟨Nat.zero_le _, Nat.zero_le _, rfl, rfl⟩ dL_law_931 (sn_eL (fun r2 SM2 => ?_))
  refine sn_lcmp hO dL_law_934 ?_
  refine sn_if_eq hO 1292 (by decide) dL_law_935 ?_ ?_
  · exact hK _ _ _ _
  · refine sn_iconst hO kc_0 dL_law_938 ?_
    exact sn_zret (r := 0) (Qi := fun r _ => r = 1) hO (ty := .boolean) rfl rfl dL_law_939
def wpL_25 (wX : sn_W) (L : Nat) (xs : Nat → Int32) (i : Int32) (mc ms : Nat) (SX SM : sn_S) (K : Nat → Nat → sn_S → sn_S → Prop) : Prop :=
  wpX0_keys wX SX (fun r1 SX1 => wpX9_keys SM (fun r2 SM2 => ((r1 = r2 → K mc ms SX1 SM2) ∧ (¬ r1 = r2 → (0 : Int32) = 1))))
theorem wkL_25 {b L : Nat} {xs : Nat → Int32} {w wX wM : sn_W} {C : sn_C} {nm : String} {tb : List ExceptionTableEntry} (hO : sn_Ok (LoL b L xs) w C RL cL_law 4 ret tb nm) (hwX : sn_wok w wX) (hwM : sn_wok w wM) {i : Int32} {K : Nat → Nat → sn_S → sn_S → Prop} (hK : ∀ (mc ms : Nat) (SX SM : sn_S), K mc ms SX SM → sn_G (LoL b L xs) w room_1 (sn_qI (fun r _ => r = 1)) sn_noE C mc ms 1292 [(0, .ref b), (1, .ref (wX.2.2.1 0)), (2, .ref (wM.2.2.1 0)), (3, .int i)] [] (sn_two wX wM SX SM)) {mc ms : Nat} {SX SM : sn_S} : wpL_25 wX L xs i mc ms SX SM K → sn_G (LoL b L xs) w room_1 (sn_qI (fun r _ => r = 1)) sn_noE C mc ms 940 [(0, .ref b), (1, .ref (wX.2.2.1 0)), (2, .ref (wM.2.2.1 0)), (3, .int i)] [] (sn_two wX wM SX SM) := by
  unfold wpL_25
  refine sn_aload_n hO 1 rfl dL_law_940 ?_
  refine sn_lcX hO hwX (c2 := mc) (s2 := ms) (rm := rmX0_keys) [] cvL_120 (fun h => ctX0_keys h) ⟨Nat.le_of_ble_eq_true rfl, Nat.le_of_ble_eq_true rfl⟩ rfl rfl (Nat.le_of_ble_eq_true rfl) ⟨Nat.zero_le _, Nat.zero_le _, rfl, rfl⟩ dL_law_941 (sn_dI (fun r1 SX1 => ?_))
  refine sn_aload_n hO 2 rfl dL_law_944 ?_
  refine sn_lcM hO hwM (c2 := mc) (s2 := ms) (rm := rmX9_keys) [] cvL_123 (fun h => ctX9_keys h) ⟨Nat.le_of_ble_eq_true rfl, Nat.le_of_ble_eq_true rfl⟩ rfl rfl (Nat.le_of_ble_eq_true rfl) ⟨Nat.zero_le _, Nat.zero_le _, rfl, rfl⟩ dL_law_945 (sn_eI (fun r2 SM2 => ?_))
  refine sn_icmp_eq hO 1292 (by decide) dL_law_948 ?_ ?_
  · exact hK _ _ _ _
  · refine sn_iconst hO kc_0 dL_law_951 ?_
    exact sn_zret (r := 0) (Qi := fun r _ => r = 1) hO (ty := .boolean) rfl rfl dL_law_952
def wpL_26 (wX : sn_W) (L : Nat) (xs : Nat → Int32) (i : Int32) (mc ms : Nat) (SX SM : sn_S) (K : Nat → Nat → sn_S → sn_S → Prop) : Prop :=
  (vp_in (i + 1) L ∧ wpX0_send wX (xs (i + 1).toNatClampNeg) SX (fun r1 SX1 => (vp_in (i + 1) L ∧ wpX9_send (xs (i + 1).toNatClampNeg) SM (fun r2 SM2 => ((r1 = r2 → K mc ms SX1 SM2) ∧ (¬ r1 = r2 → (0 : Int32) = 1))))))
theorem wkL_26 {b L : Nat} {xs : Nat → Int32} {w wX wM : sn_W} {C : sn_C} {nm : String} {tb : List ExceptionTableEntry} (hO : sn_Ok (LoL b L xs) w C RL cL_law 4 ret tb nm) (hwX : sn_wok w wX) (hwM : sn_wok w wM) {i : Int32} {K : Nat → Nat → sn_S → sn_S → Prop} (hK : ∀ (mc ms : Nat) (SX SM : sn_S), K mc ms SX SM → sn_G (LoL b L xs) w room_1 (sn_qI (fun r _ => r = 1)) sn_noE C mc ms 1292 [(0, .ref b), (1, .ref (wX.2.2.1 0)), (2, .ref (wM.2.2.1 0)), (3, .int i)] [] (sn_two wX wM SX SM)) {mc ms : Nat} {SX SM : sn_S} : wpL_26 wX L xs i mc ms SX SM K → sn_G (LoL b L xs) w room_1 (sn_qI (fun r _ => r = 1)) sn_noE C mc ms 953 [(0, .ref b), (1, .ref (wX.2.2.1 0)), (2, .ref (wM.2.2.1 0)), (3, .int i)] [] (sn_two wX wM SX SM) := by
  unfold wpL_26
  refine sn_aload_n hO 1 rfl dL_law_953 ?_
  refine sn_aload_n hO 0 rfl dL_law_954 ?_
  refine sn_iload_n hO 3 rfl dL_law_955 ?_
  refine sn_iconst hO kc_1 dL_law_956 ?_
  refine sn_iadd hO dL_law_957 ?_
  refine sn_sld hO dL_law_958 ?_
  refine sn_lcX hO hwX (c2 := mc) (s2 := ms) (rm := rmX0_send) [.int (xs (i + 1).toNatClampNeg)] cvL_124 (fun h => ctX0_send h) ⟨Nat.le_of_ble_eq_true rfl, Nat.le_of_ble_eq_true rfl⟩ rfl rfl (Nat.le_of_ble_eq_true rfl) ⟨Nat.zero_le _, Nat.zero_le _, rfl, rfl⟩ dL_law_959 (sn_dI (fun r1 SX1 => ?_))
  refine sn_aload_n hO 2 rfl dL_law_962 ?_
  refine sn_aload_n hO 0 rfl dL_law_963 ?_
  refine sn_iload_n hO 3 rfl dL_law_964 ?_
  refine sn_iconst hO kc_1 dL_law_965 ?_
  refine sn_iadd hO dL_law_966 ?_
  refine sn_sld hO dL_law_967 ?_
  refine sn_lcM hO hwM (c2 := mc) (s2 := ms) (rm := rmX9_send) [.int (xs (i + 1).toNatClampNeg)] cvL_127 (fun h => ctX9_send h) ⟨Nat.le_of_ble_eq_true rfl, Nat.le_of_ble_eq_true rfl⟩ rfl rfl (Nat.le_of_ble_eq_true rfl) ⟨Nat.zero_le _, Nat.zero_le _, rfl, rfl⟩ dL_law_968 (sn_eI (fun r2 SM2 => ?_))
  refine sn_icmp_eq hO 1292 (by decide) dL_law_971 ?_ ?_
  · exact hK _ _ _ _
  · refine sn_iconst hO kc_0 dL_law_974 ?_
    exact sn_zret (r := 0) (Qi := fun r _ => r = 1) hO (ty := .boolean) rfl rfl dL_law_975
def wpL_27 (wX : sn_W) (L : Nat) (xs : Nat → Int32) (i : Int32) (mc ms : Nat) (SX SM : sn_S) (K : Nat → Nat → sn_S → sn_S → Prop) : Prop :=
  (vp_in (i + 1) L ∧ (vp_in (i + 2) L ∧ (vp_in (i + 3) L ∧ wpX0_shells wX (xs (i + 1).toNatClampNeg) (xs (i + 2).toNatClampNeg) (xs (i + 3).toNatClampNeg) SX (fun r1 SX1 => (vp_in (i + 1) L ∧ (vp_in (i + 2) L ∧ (vp_in (i + 3) L ∧ wpX9_shells (xs (i + 1).toNatClampNeg) (xs (i + 2).toNatClampNeg) (xs (i + 3).toNatClampNeg) SM (fun r2 SM2 => ((r1 = r2 → K mc ms SX1 SM2) ∧ (¬ r1 = r2 → (0 : Int32) = 1))))))))))
theorem wkL_27 {b L : Nat} {xs : Nat → Int32} {w wX wM : sn_W} {C : sn_C} {nm : String} {tb : List ExceptionTableEntry} (hO : sn_Ok (LoL b L xs) w C RL cL_law 4 ret tb nm) (hwX : sn_wok w wX) (hwM : sn_wok w wM) {i : Int32} {K : Nat → Nat → sn_S → sn_S → Prop} (hK : ∀ (mc ms : Nat) (SX SM : sn_S), K mc ms SX SM → sn_G (LoL b L xs) w room_1 (sn_qI (fun r _ => r = 1)) sn_noE C mc ms 1292 [(0, .ref b), (1, .ref (wX.2.2.1 0)), (2, .ref (wM.2.2.1 0)), (3, .int i)] [] (sn_two wX wM SX SM)) {mc ms : Nat} {SX SM : sn_S} : wpL_27 wX L xs i mc ms SX SM K → sn_G (LoL b L xs) w room_1 (sn_qI (fun r _ => r = 1)) sn_noE C mc ms 976 [(0, .ref b), (1, .ref (wX.2.2.1 0)), (2, .ref (wM.2.2.1 0)), (3, .int i)] [] (sn_two wX wM SX SM) := by
  unfold wpL_27
  refine sn_aload_n hO 1 rfl dL_law_976 ?_
  refine sn_aload_n hO 0 rfl dL_law_977 ?_
  refine sn_iload_n hO 3 rfl dL_law_978 ?_
  refine sn_iconst hO kc_1 dL_law_979 ?_
  refine sn_iadd hO dL_law_980 ?_
  refine sn_sld hO dL_law_981 ?_
  refine sn_aload_n hO 0 rfl dL_law_982 ?_
  refine sn_iload_n hO 3 rfl dL_law_983 ?_
  refine sn_iconst hO kc_2 dL_law_984 ?_
  refine sn_iadd hO dL_law_985 ?_
  refine sn_sld hO dL_law_986 ?_
  refine sn_aload_n hO 0 rfl dL_law_987 ?_
  refine sn_iload_n hO 3 rfl dL_law_988 ?_
  refine sn_iconst hO kc_3 dL_law_989 ?_
  refine sn_iadd hO dL_law_990 ?_
  refine sn_sld hO dL_law_991 ?_
  refine sn_lcX hO hwX (c2 := mc) (s2 := ms) (rm := rmX0_shells) [.int (xs (i + 1).toNatClampNeg), .int (xs (i + 2).toNatClampNeg), .int (xs (i + 3).toNatClampNeg)] cvL_128 (fun h => ctX0_shells h) ⟨Nat.le_of_ble_eq_true rfl, Nat.le_of_ble_eq_true rfl⟩ rfl rfl (Nat.le_of_ble_eq_true rfl) ⟨Nat.zero_le _, Nat.zero_le _, rfl, rfl⟩ dL_law_992 (sn_dI (fun r1 SX1 => ?_))
  refine sn_aload_n hO 2 rfl dL_law_995 ?_
  refine sn_aload_n hO 0 rfl dL_law_996 ?_
  refine sn_iload_n hO 3 rfl dL_law_997 ?_
  refine sn_iconst hO kc_1 dL_law_998 ?_
  refine sn_iadd hO dL_law_999 ?_
  refine sn_sld hO dL_law_1000 ?_
  refine sn_aload_n hO 0 rfl dL_law_1001 ?_
  refine sn_iload_n hO 3 rfl dL_law_1002 ?_
  refine sn_iconst hO kc_2 dL_law_1003 ?_
  refine sn_iadd hO dL_law_1004 ?_
  refine sn_sld hO dL_law_1005 ?_
  refine sn_aload_n hO 0 rfl dL_law_1006 ?_
  refine sn_iload_n hO 3 rfl dL_law_1007 ?_
  refine sn_iconst hO kc_3 dL_law_1008 ?_
  refine sn_iadd hO dL_law_1009 ?_
  refine sn_sld hO dL_law_1010 ?_
  refine sn_lcM hO hwM (c2 := mc) (s2 := ms) (rm := rmX9_shells) [.int (xs (i + 1).toNatClampNeg), .int (xs (i + 2).toNatClampNeg), .int (xs (i + 3).toNatClampNeg)] cvL_131 (fun h => ctX9_shells h) ⟨Nat.le_of_ble_eq_true rfl, Nat.le_of_ble_eq_true rfl⟩ rfl rfl (Nat.le_of_ble_eq_true rfl) ⟨Nat.zero_le _, Nat.zero_le _, rfl, rfl⟩ dL_law_1011 (sn_eI (fun r2 SM2 => ?_))
  refine sn_icmp_eq hO 1292 (by decide) dL_law_1014 ?_ ?_
  · exact hK _ _ _ _
  · refine sn_iconst hO kc_0 dL_law_1017 ?_
    exact sn_zret (r := 0) (Qi := fun r _ => r = 1) hO (ty := .boolean) rfl rfl dL_law_1018
def wpL_28 (wX : sn_W) (L : Nat) (xs : Nat → Int32) (i : Int32) (mc ms : Nat) (SX SM : sn_S) (K : Nat → Nat → sn_S → sn_S → Prop) : Prop :=
  (vp_in (i + 1) L ∧ (vp_in (i + 2) L ∧ wpX0_cross wX (xs (i + 1).toNatClampNeg) (xs (i + 2).toNatClampNeg) SX (fun r1 SX1 => (vp_in (i + 1) L ∧ (vp_in (i + 2) L ∧ wpX9_cross (xs (i + 1).toNatClampNeg) (xs (i + 2).toNatClampNeg) SM (fun r2 SM2 => ((r1 = r2 → K mc ms SX1 SM2) ∧ (¬ r1 = r2 → (0 : Int32) = 1))))))))
theorem wkL_28 {b L : Nat} {xs : Nat → Int32} {w wX wM : sn_W} {C : sn_C} {nm : String} {tb : List ExceptionTableEntry} (hO : sn_Ok (LoL b L xs) w C RL cL_law 4 ret tb nm) (hwX : sn_wok w wX) (hwM : sn_wok w wM) {i : Int32} {K : Nat → Nat → sn_S → sn_S → Prop} (hK : ∀ (mc ms : Nat) (SX SM : sn_S), K mc ms SX SM → sn_G (LoL b L xs) w room_1 (sn_qI (fun r _ => r = 1)) sn_noE C mc ms 1292 [(0, .ref b), (1, .ref (wX.2.2.1 0)), (2, .ref (wM.2.2.1 0)), (3, .int i)] [] (sn_two wX wM SX SM)) {mc ms : Nat} {SX SM : sn_S} : wpL_28 wX L xs i mc ms SX SM K → sn_G (LoL b L xs) w room_1 (sn_qI (fun r _ => r = 1)) sn_noE C mc ms 1019 [(0, .ref b), (1, .ref (wX.2.2.1 0)), (2, .ref (wM.2.2.1 0)), (3, .int i)] [] (sn_two wX wM SX SM) := by
  unfold wpL_28
  refine sn_aload_n hO 1 rfl dL_law_1019 ?_
  refine sn_aload_n hO 0 rfl dL_law_1020 ?_
  refine sn_iload_n hO 3 rfl dL_law_1021 ?_
  refine sn_iconst hO kc_1 dL_law_1022 ?_
  refine sn_iadd hO dL_law_1023 ?_
  refine sn_sld hO dL_law_1024 ?_
  refine sn_aload_n hO 0 rfl dL_law_1025 ?_
  refine sn_iload_n hO 3 rfl dL_law_1026 ?_
  refine sn_iconst hO kc_2 dL_law_1027 ?_
  refine sn_iadd hO dL_law_1028 ?_
  refine sn_sld hO dL_law_1029 ?_
  refine sn_lcX hO hwX (c2 := mc) (s2 := ms) (rm := rmX0_cross) [.int (xs (i + 1).toNatClampNeg), .int (xs (i + 2).toNatClampNeg)] cvL_132 (fun h => ctX0_cross h) ⟨Nat.le_of_ble_eq_true rfl, Nat.le_of_ble_eq_true rfl⟩ rfl rfl (Nat.le_of_ble_eq_true rfl) ⟨Nat.zero_le _, Nat.zero_le _, rfl, rfl⟩ dL_law_1030 (sn_dI (fun r1 SX1 => ?_))
  refine sn_aload_n hO 2 rfl dL_law_1033 ?_
  refine sn_aload_n hO 0 rfl dL_law_1034 ?_
  refine sn_iload_n hO 3 rfl dL_law_1035 ?_
  refine sn_iconst hO kc_1 dL_law_1036 ?_
  refine sn_iadd hO dL_law_1037 ?_
  refine sn_sld hO dL_law_1038 ?_
  refine sn_aload_n hO 0 rfl dL_law_1039 ?_
  refine sn_iload_n hO 3 rfl dL_law_1040 ?_
  refine sn_iconst hO kc_2 dL_law_1041 ?_
  refine sn_iadd hO dL_law_1042 ?_
  refine sn_sld hO dL_law_1043 ?_
  refine sn_lcM hO hwM (c2 := mc) (s2 := ms) (rm := rmX9_cross) [.int (xs (i + 1).toNatClampNeg), .int (xs (i + 2).toNatClampNeg)] cvL_135 (fun h => ctX9_cross h) ⟨Nat.le_of_ble_eq_true rfl, Nat.le_of_ble_eq_true rfl⟩ rfl rfl (Nat.le_of_ble_eq_true rfl) ⟨Nat.zero_le _, Nat.zero_le _, rfl, rfl⟩ dL_law_1044 (sn_eI (fun r2 SM2 => ?_))
  refine sn_icmp_eq hO 1292 (by decide) dL_law_1047 ?_ ?_
  · exact hK _ _ _ _
  · refine sn_iconst hO kc_0 dL_law_1050 ?_
    exact sn_zret (r := 0) (Qi := fun r _ => r = 1) hO (ty := .boolean) rfl rfl dL_law_1051
def wpL_29 (wX : sn_W) (L : Nat) (xs : Nat → Int32) (i : Int32) (mc ms : Nat) (SX SM : sn_S) (K : Nat → Nat → sn_S → sn_S → Prop) : Prop :=
  (vp_in (i + 1) L ∧ wpX0_drop wX (xs (i + 1).toNatClampNeg) SX (fun r1 SX1 => (vp_in (i + 1) L ∧ wpX9_drop (xs (i + 1).toNatClampNeg) SM (fun r2 SM2 => ((r1 = r2 → K mc ms SX1 SM2) ∧ (¬ r1 = r2 → (0 : Int32) = 1))))))
theorem wkL_29 {b L : Nat} {xs : Nat → Int32} {w wX wM : sn_W} {C : sn_C} {nm : String} {tb : List ExceptionTableEntry} (hO : sn_Ok (LoL b L xs) w C RL cL_law 4 ret tb nm) (hwX : sn_wok w wX) (hwM : sn_wok w wM) {i : Int32} {K : Nat → Nat → sn_S → sn_S → Prop} (hK : ∀ (mc ms : Nat) (SX SM : sn_S), K mc ms SX SM → sn_G (LoL b L xs) w room_1 (sn_qI (fun r _ => r = 1)) sn_noE C mc ms 1292 [(0, .ref b), (1, .ref (wX.2.2.1 0)), (2, .ref (wM.2.2.1 0)), (3, .int i)] [] (sn_two wX wM SX SM)) {mc ms : Nat} {SX SM : sn_S} : wpL_29 wX L xs i mc ms SX SM K → sn_G (LoL b L xs) w room_1 (sn_qI (fun r _ => r = 1)) sn_noE C mc ms 1052 [(0, .ref b), (1, .ref (wX.2.2.1 0)), (2, .ref (wM.2.2.1 0)), (3, .int i)] [] (sn_two wX wM SX SM) := by
  unfold wpL_29
  refine sn_aload_n hO 1 rfl dL_law_1052 ?_
  refine sn_aload_n hO 0 rfl dL_law_1053 ?_
  refine sn_iload_n hO 3 rfl dL_law_1054 ?_
  refine sn_iconst hO kc_1 dL_law_1055 ?_
  refine sn_iadd hO dL_law_1056 ?_
  refine sn_sld hO dL_law_1057 ?_
  refine sn_lcX hO hwX (c2 := mc) (s2 := ms) (rm := rmX0_drop) [.int (xs (i + 1).toNatClampNeg)] cvL_136 (fun h => ctX0_drop h) ⟨Nat.le_of_ble_eq_true rfl, Nat.le_of_ble_eq_true rfl⟩ rfl rfl (Nat.le_of_ble_eq_true rfl) ⟨Nat.zero_le _, Nat.zero_le _, rfl, rfl⟩ dL_law_1058 (sn_dI (fun r1 SX1 => ?_))
  refine sn_aload_n hO 2 rfl dL_law_1061 ?_
  refine sn_aload_n hO 0 rfl dL_law_1062 ?_
  refine sn_iload_n hO 3 rfl dL_law_1063 ?_
  refine sn_iconst hO kc_1 dL_law_1064 ?_
  refine sn_iadd hO dL_law_1065 ?_
  refine sn_sld hO dL_law_1066 ?_
  refine sn_lcM hO hwM (c2 := mc) (s2 := ms) (rm := rmX9_drop) [.int (xs (i + 1).toNatClampNeg)] cvL_139 (fun h => ctX9_drop h) ⟨Nat.le_of_ble_eq_true rfl, Nat.le_of_ble_eq_true rfl⟩ rfl rfl (Nat.le_of_ble_eq_true rfl) ⟨Nat.zero_le _, Nat.zero_le _, rfl, rfl⟩ dL_law_1067 (sn_eI (fun r2 SM2 => ?_))
  refine sn_icmp_eq hO 1292 (by decide) dL_law_1070 ?_ ?_
  · exact hK _ _ _ _
  · refine sn_iconst hO kc_0 dL_law_1073 ?_
    exact sn_zret (r := 0) (Qi := fun r _ => r = 1) hO (ty := .boolean) rfl rfl dL_law_1074
def wpL_30 (wX : sn_W) (L : Nat) (xs : Nat → Int32) (i : Int32) (mc ms : Nat) (SX SM : sn_S) (K : Nat → Nat → sn_S → sn_S → Prop) : Prop :=
  (vp_in (i + 1) L ∧ wpX0_orders wX (xs (i + 1).toNatClampNeg) SX (fun r1 SX1 => (vp_in (i + 1) L ∧ wpX9_orders (xs (i + 1).toNatClampNeg) SM (fun r2 SM2 => ((r1 = r2 → K mc ms SX1 SM2) ∧ (¬ r1 = r2 → (0 : Int32) = 1))))))
theorem wkL_30 {b L : Nat} {xs : Nat → Int32} {w wX wM : sn_W} {C : sn_C} {nm : String} {tb : List ExceptionTableEntry} (hO : sn_Ok (LoL b L xs) w C RL cL_law 4 ret tb nm) (hwX : sn_wok w wX) (hwM : sn_wok w wM) {i : Int32} {K : Nat → Nat → sn_S → sn_S → Prop} (hK : ∀ (mc ms : Nat) (SX SM : sn_S), K mc ms SX SM → sn_G (LoL b L xs) w room_1 (sn_qI (fun r _ => r = 1)) sn_noE C mc ms 1292 [(0, .ref b), (1, .ref (wX.2.2.1 0)), (2, .ref (wM.2.2.1 0)), (3, .int i)] [] (sn_two wX wM SX SM)) {mc ms : Nat} {SX SM : sn_S} : wpL_30 wX L xs i mc ms SX SM K → sn_G (LoL b L xs) w room_1 (sn_qI (fun r _ => r = 1)) sn_noE C mc ms 1075 [(0, .ref b), (1, .ref (wX.2.2.1 0)), (2, .ref (wM.2.2.1 0)), (3, .int i)] [] (sn_two wX wM SX SM) := by
  unfold wpL_30
  refine sn_aload_n hO 1 rfl dL_law_1075 ?_
  refine sn_aload_n hO 0 rfl dL_law_1076 ?_
  refine sn_iload_n hO 3 rfl dL_law_1077 ?_
  refine sn_iconst hO kc_1 dL_law_1078 ?_
  refine sn_iadd hO dL_law_1079 ?_
  refine sn_sld hO dL_law_1080 ?_
  refine sn_lcX hO hwX (c2 := mc) (s2 := ms) (rm := rmX0_orders) [.int (xs (i + 1).toNatClampNeg)] cvL_140 (fun h => ctX0_orders h) ⟨Nat.le_of_ble_eq_true rfl, Nat.le_of_ble_eq_true rfl⟩ rfl rfl (Nat.le_of_ble_eq_true rfl) ⟨Nat.zero_le _, Nat.zero_le _, rfl, rfl⟩ dL_law_1081 (sn_dI (fun r1 SX1 => ?_))
  refine sn_aload_n hO 2 rfl dL_law_1084 ?_
  refine sn_aload_n hO 0 rfl dL_law_1085 ?_
  refine sn_iload_n hO 3 rfl dL_law_1086 ?_
  refine sn_iconst hO kc_1 dL_law_1087 ?_
  refine sn_iadd hO dL_law_1088 ?_
  refine sn_sld hO dL_law_1089 ?_
  refine sn_lcM hO hwM (c2 := mc) (s2 := ms) (rm := rmX9_orders) [.int (xs (i + 1).toNatClampNeg)] cvL_143 (fun h => ctX9_orders h) ⟨Nat.le_of_ble_eq_true rfl, Nat.le_of_ble_eq_true rfl⟩ rfl rfl (Nat.le_of_ble_eq_true rfl) ⟨Nat.zero_le _, Nat.zero_le _, rfl, rfl⟩ dL_law_1090 (sn_eI (fun r2 SM2 => ?_))
  refine sn_icmp_eq hO 1292 (by decide) dL_law_1093 ?_ ?_
  · exact hK _ _ _ _
  · refine sn_iconst hO kc_0 dL_law_1096 ?_
    exact sn_zret (r := 0) (Qi := fun r _ => r = 1) hO (ty := .boolean) rfl rfl dL_law_1097
def wpL_31 (wX : sn_W) (L : Nat) (xs : Nat → Int32) (i : Int32) (mc ms : Nat) (SX SM : sn_S) (K : Nat → Nat → sn_S → sn_S → Prop) : Prop :=
  (vp_in (i + 1) L ∧ wpX0_sure wX (xs (i + 1).toNatClampNeg) SX (fun r1 SX1 => (vp_in (i + 1) L ∧ wpX9_sure (xs (i + 1).toNatClampNeg) SM (fun r2 SM2 => ((r1 = r2 → K mc ms SX1 SM2) ∧ (¬ r1 = r2 → (0 : Int32) = 1))))))
theorem wkL_31 {b L : Nat} {xs : Nat → Int32} {w wX wM : sn_W} {C : sn_C} {nm : String} {tb : List ExceptionTableEntry} (hO : sn_Ok (LoL b L xs) w C RL cL_law 4 ret tb nm) (hwX : sn_wok w wX) (hwM : sn_wok w wM) {i : Int32} {K : Nat → Nat → sn_S → sn_S → Prop} (hK : ∀ (mc ms : Nat) (SX SM : sn_S), K mc ms SX SM → sn_G (LoL b L xs) w room_1 (sn_qI (fun r _ => r = 1)) sn_noE C mc ms 1292 [(0, .ref b), (1, .ref (wX.2.2.1 0)), (2, .ref (wM.2.2.1 0)), (3, .int i)] [] (sn_two wX wM SX SM)) {mc ms : Nat} {SX SM : sn_S} : wpL_31 wX L xs i mc ms SX SM K → sn_G (LoL b L xs) w room_1 (sn_qI (fun r _ => r = 1)) sn_noE C mc ms 1098 [(0, .ref b), (1, .ref (wX.2.2.1 0)), (2, .ref (wM.2.2.1 0)), (3, .int i)] [] (sn_two wX wM SX SM) := by
  unfold wpL_31
  refine sn_aload_n hO 1 rfl dL_law_1098 ?_
  refine sn_aload_n hO 0 rfl dL_law_1099 ?_
  refine sn_iload_n hO 3 rfl dL_law_1100 ?_
  refine sn_iconst hO kc_1 dL_law_1101 ?_
  refine sn_iadd hO dL_law_1102 ?_
  refine sn_sld hO dL_law_1103 ?_
  refine sn_lcX hO hwX (c2 := mc) (s2 := ms) (rm := rmX0_sure) [.int (xs (i + 1).toNatClampNeg)] cvL_144 (fun h => ctX0_sure h) ⟨Nat.le_of_ble_eq_true rfl, Nat.le_of_ble_eq_true rfl⟩ rfl rfl (Nat.le_of_ble_eq_true rfl) ⟨Nat.zero_le _, Nat.zero_le _, rfl, rfl⟩ dL_law_1104 (sn_dI (fun r1 SX1 => ?_))
  refine sn_aload_n hO 2 rfl dL_law_1107 ?_
  refine sn_aload_n hO 0 rfl dL_law_1108 ?_
  refine sn_iload_n hO 3 rfl dL_law_1109 ?_
  refine sn_iconst hO kc_1 dL_law_1110 ?_
  refine sn_iadd hO dL_law_1111 ?_
  refine sn_sld hO dL_law_1112 ?_
  refine sn_lcM hO hwM (c2 := mc) (s2 := ms) (rm := rmX9_sure) [.int (xs (i + 1).toNatClampNeg)] cvL_147 (fun h => ctX9_sure h) ⟨Nat.le_of_ble_eq_true rfl, Nat.le_of_ble_eq_true rfl⟩ rfl rfl (Nat.le_of_ble_eq_true rfl) ⟨Nat.zero_le _, Nat.zero_le _, rfl, rfl⟩ dL_law_1113 (sn_eI (fun r2 SM2 => ?_))
  refine sn_icmp_eq hO 1292 (by decide) dL_law_1116 ?_ ?_
  · exact hK _ _ _ _
  · refine sn_iconst hO kc_0 dL_law_1119 ?_
    exact sn_zret (r := 0) (Qi := fun r _ => r = 1) hO (ty := .boolean) rfl rfl dL_law_1120
def wpL_32 (wX : sn_W) (L : Nat) (xs : Nat → Int32) (i : Int32) (mc ms : Nat) (SX SM : sn_S) (K : Nat → Nat → sn_S → sn_S → Prop) : Prop :=
  (vp_in (i + 1) L ∧ (vp_in (i + 2) L ∧ wpX0_ahead wX (xs (i + 1).toNatClampNeg) (xs (i + 2).toNatClampNeg) SX (fun r1 SX1 => (vp_in (i + 1) L ∧ (vp_in (i + 2) L ∧ wpX9_ahead (xs (i + 1).toNatClampNeg) (xs (i + 2).toNatClampNeg) SM (fun r2 SM2 => ((r1 = r2 → K mc ms SX1 SM2) ∧ (¬ r1 = r2 → (0 : Int32) = 1))))))))
theorem wkL_32 {b L : Nat} {xs : Nat → Int32} {w wX wM : sn_W} {C : sn_C} {nm : String} {tb : List ExceptionTableEntry} (hO : sn_Ok (LoL b L xs) w C RL cL_law 4 ret tb nm) (hwX : sn_wok w wX) (hwM : sn_wok w wM) {i : Int32} {K : Nat → Nat → sn_S → sn_S → Prop} (hK : ∀ (mc ms : Nat) (SX SM : sn_S), K mc ms SX SM → sn_G (LoL b L xs) w room_1 (sn_qI (fun r _ => r = 1)) sn_noE C mc ms 1292 [(0, .ref b), (1, .ref (wX.2.2.1 0)), (2, .ref (wM.2.2.1 0)), (3, .int i)] [] (sn_two wX wM SX SM)) {mc ms : Nat} {SX SM : sn_S} : wpL_32 wX L xs i mc ms SX SM K → sn_G (LoL b L xs) w room_1 (sn_qI (fun r _ => r = 1)) sn_noE C mc ms 1121 [(0, .ref b), (1, .ref (wX.2.2.1 0)), (2, .ref (wM.2.2.1 0)), (3, .int i)] [] (sn_two wX wM SX SM) := by
  unfold wpL_32
  refine sn_aload_n hO 1 rfl dL_law_1121 ?_
  refine sn_aload_n hO 0 rfl dL_law_1122 ?_
  refine sn_iload_n hO 3 rfl dL_law_1123 ?_
  refine sn_iconst hO kc_1 dL_law_1124 ?_
  refine sn_iadd hO dL_law_1125 ?_
  refine sn_sld hO dL_law_1126 ?_
  refine sn_aload_n hO 0 rfl dL_law_1127 ?_
  refine sn_iload_n hO 3 rfl dL_law_1128 ?_
  refine sn_iconst hO kc_2 dL_law_1129 ?_
  refine sn_iadd hO dL_law_1130 ?_
  refine sn_sld hO dL_law_1131 ?_
  refine sn_lcX hO hwX (c2 := mc) (s2 := ms) (rm := rmX0_ahead) [.int (xs (i + 1).toNatClampNeg), .int (xs (i + 2).toNatClampNeg)] cvL_148 (fun h => ctX0_ahead h) ⟨Nat.le_of_ble_eq_true rfl, Nat.le_of_ble_eq_true rfl⟩ rfl rfl (Nat.le_of_ble_eq_true rfl) ⟨Nat.zero_le _, Nat.zero_le _, rfl, rfl⟩ dL_law_1132 (sn_dI (fun r1 SX1 => ?_))
  refine sn_aload_n hO 2 rfl dL_law_1135 ?_
  refine sn_aload_n hO 0 rfl dL_law_1136 ?_
  refine sn_iload_n hO 3 rfl dL_law_1137 ?_
  refine sn_iconst hO kc_1 dL_law_1138 ?_
  refine sn_iadd hO dL_law_1139 ?_
  refine sn_sld hO dL_law_1140 ?_
  refine sn_aload_n hO 0 rfl dL_law_1141 ?_
  refine sn_iload_n hO 3 rfl dL_law_1142 ?_
  refine sn_iconst hO kc_2 dL_law_1143 ?_
  refine sn_iadd hO dL_law_1144 ?_
  refine sn_sld hO dL_law_1145 ?_
  refine sn_lcM hO hwM (c2 := mc) (s2 := ms) (rm := rmX9_ahead) [.int (xs (i + 1).toNatClampNeg), .int (xs (i + 2).toNatClampNeg)] cvL_151 (fun h => ctX9_ahead h) ⟨Nat.le_of_ble_eq_true rfl, Nat.le_of_ble_eq_true rfl⟩ rfl rfl (Nat.le_of_ble_eq_true rfl) ⟨Nat.zero_le _, Nat.zero_le _, rfl, rfl⟩ dL_law_1146 (sn_eI (fun r2 SM2 => ?_))
  refine sn_icmp_eq hO 1292 (by decide) dL_law_1149 ?_ ?_
  · exact hK _ _ _ _
  · refine sn_iconst hO kc_0 dL_law_1152 ?_
    exact sn_zret (r := 0) (Qi := fun r _ => r = 1) hO (ty := .boolean) rfl rfl dL_law_1153
def wpL_33 (wX : sn_W) (L : Nat) (xs : Nat → Int32) (i : Int32) (mc ms : Nat) (SX SM : sn_S) (K : Nat → Nat → sn_S → sn_S → Prop) : Prop :=
  (vp_in (i + 1) L ∧ wpX0_hunt wX (xs (i + 1).toNatClampNeg) SX (fun r1 SX1 => (vp_in (i + 1) L ∧ wpX9_hunt (xs (i + 1).toNatClampNeg) SM (fun r2 SM2 => ((r1 = r2 → K mc ms SX1 SM2) ∧ (¬ r1 = r2 → (0 : Int32) = 1))))))
theorem wkL_33 {b L : Nat} {xs : Nat → Int32} {w wX wM : sn_W} {C : sn_C} {nm : String} {tb : List ExceptionTableEntry} (hO : sn_Ok (LoL b L xs) w C RL cL_law 4 ret tb nm) (hwX : sn_wok w wX) (hwM : sn_wok w wM) {i : Int32} {K : Nat → Nat → sn_S → sn_S → Prop} (hK : ∀ (mc ms : Nat) (SX SM : sn_S), K mc ms SX SM → sn_G (LoL b L xs) w room_1 (sn_qI (fun r _ => r = 1)) sn_noE C mc ms 1292 [(0, .ref b), (1, .ref (wX.2.2.1 0)), (2, .ref (wM.2.2.1 0)), (3, .int i)] [] (sn_two wX wM SX SM)) {mc ms : Nat} {SX SM : sn_S} : wpL_33 wX L xs i mc ms SX SM K → sn_G (LoL b L xs) w room_1 (sn_qI (fun r _ => r = 1)) sn_noE C mc ms 1154 [(0, .ref b), (1, .ref (wX.2.2.1 0)), (2, .ref (wM.2.2.1 0)), (3, .int i)] [] (sn_two wX wM SX SM) := by
  unfold wpL_33
  refine sn_aload_n hO 1 rfl dL_law_1154 ?_
  refine sn_aload_n hO 0 rfl dL_law_1155 ?_
  refine sn_iload_n hO 3 rfl dL_law_1156 ?_
  refine sn_iconst hO kc_1 dL_law_1157 ?_
  refine sn_iadd hO dL_law_1158 ?_
  refine sn_sld hO dL_law_1159 ?_
  refine sn_lcX hO hwX (c2 := mc) (s2 := ms) (rm := rmX0_hunt) [.int (xs (i + 1).toNatClampNeg)] cvL_152 (fun h => ctX0_hunt h) ⟨Nat.le_of_ble_eq_true rfl, Nat.le_of_ble_eq_true rfl⟩ rfl rfl (Nat.le_of_ble_eq_true rfl) ⟨Nat.zero_le _, Nat.zero_le _, rfl, rfl⟩ dL_law_1160 (sn_dI (fun r1 SX1 => ?_))
  refine sn_aload_n hO 2 rfl dL_law_1163 ?_
  refine sn_aload_n hO 0 rfl dL_law_1164 ?_
  refine sn_iload_n hO 3 rfl dL_law_1165 ?_
  refine sn_iconst hO kc_1 dL_law_1166 ?_
  refine sn_iadd hO dL_law_1167 ?_
  refine sn_sld hO dL_law_1168 ?_
  refine sn_lcM hO hwM (c2 := mc) (s2 := ms) (rm := rmX9_hunt) [.int (xs (i + 1).toNatClampNeg)] cvL_155 (fun h => ctX9_hunt h) ⟨Nat.le_of_ble_eq_true rfl, Nat.le_of_ble_eq_true rfl⟩ rfl rfl (Nat.le_of_ble_eq_true rfl) ⟨Nat.zero_le _, Nat.zero_le _, rfl, rfl⟩ dL_law_1169 (sn_eI (fun r2 SM2 => ?_))
  refine sn_icmp_eq hO 1292 (by decide) dL_law_1172 ?_ ?_
  · exact hK _ _ _ _
  · refine sn_iconst hO kc_0 dL_law_1175 ?_
    exact sn_zret (r := 0) (Qi := fun r _ => r = 1) hO (ty := .boolean) rfl rfl dL_law_1176
def wpL_34 (wX : sn_W) (L : Nat) (xs : Nat → Int32) (i : Int32) (mc ms : Nat) (SX SM : sn_S) (K : Nat → Nat → sn_S → sn_S → Prop) : Prop :=
  (vp_in (i + 1) L ∧ (vp_in (i + 2) L ∧ wpX0_hunted wX (xs (i + 1).toNatClampNeg) (xs (i + 2).toNatClampNeg) SX (fun r1 => (vp_in (i + 1) L ∧ (vp_in (i + 2) L ∧ wpX9_hunted (xs (i + 1).toNatClampNeg) (xs (i + 2).toNatClampNeg) SM (fun r2 SM2 => ((r1 = r2 → K mc ms SX SM2) ∧ (¬ r1 = r2 → (0 : Int32) = 1))))))))
theorem wkL_34 {b L : Nat} {xs : Nat → Int32} {w wX wM : sn_W} {C : sn_C} {nm : String} {tb : List ExceptionTableEntry} (hO : sn_Ok (LoL b L xs) w C RL cL_law 4 ret tb nm) (hwX : sn_wok w wX) (hwM : sn_wok w wM) {i : Int32} {K : Nat → Nat → sn_S → sn_S → Prop} (hK : ∀ (mc ms : Nat) (SX SM : sn_S), K mc ms SX SM → sn_G (LoL b L xs) w room_1 (sn_qI (fun r _ => r = 1)) sn_noE C mc ms 1292 [(0, .ref b), (1, .ref (wX.2.2.1 0)), (2, .ref (wM.2.2.1 0)), (3, .int i)] [] (sn_two wX wM SX SM)) {mc ms : Nat} {SX SM : sn_S} : wpL_34 wX L xs i mc ms SX SM K → sn_G (LoL b L xs) w room_1 (sn_qI (fun r _ => r = 1)) sn_noE C mc ms 1177 [(0, .ref b), (1, .ref (wX.2.2.1 0)), (2, .ref (wM.2.2.1 0)), (3, .int i)] [] (sn_two wX wM SX SM) := by
  unfold wpL_34
  refine sn_aload_n hO 1 rfl dL_law_1177 ?_
  refine sn_aload_n hO 0 rfl dL_law_1178 ?_
  refine sn_iload_n hO 3 rfl dL_law_1179 ?_
  refine sn_iconst hO kc_1 dL_law_1180 ?_
  refine sn_iadd hO dL_law_1181 ?_
  refine sn_sld hO dL_law_1182 ?_
  refine sn_aload_n hO 0 rfl dL_law_1183 ?_
  refine sn_iload_n hO 3 rfl dL_law_1184 ?_
  refine sn_iconst hO kc_2 dL_law_1185 ?_
  refine sn_iadd hO dL_law_1186 ?_
  refine sn_sld hO dL_law_1187 ?_
  refine sn_lcX hO hwX (c2 := mc) (s2 := ms) (rm := rmX0_hunted) [.int (xs (i + 1).toNatClampNeg), .int (xs (i + 2).toNatClampNeg)] cvL_156 (fun h => ctX0_hunted h) ⟨Nat.le_of_ble_eq_true rfl, Nat.le_of_ble_eq_true rfl⟩ rfl rfl (Nat.le_of_ble_eq_true rfl) ⟨Nat.zero_le _, Nat.zero_le _, rfl, rfl⟩ dL_law_1188 (sn_dIp (fun r1 => ?_))
  refine sn_aload_n hO 2 rfl dL_law_1191 ?_
  refine sn_aload_n hO 0 rfl dL_law_1192 ?_
  refine sn_iload_n hO 3 rfl dL_law_1193 ?_
  refine sn_iconst hO kc_1 dL_law_1194 ?_
  refine sn_iadd hO dL_law_1195 ?_
  refine sn_sld hO dL_law_1196 ?_
  refine sn_aload_n hO 0 rfl dL_law_1197 ?_
  refine sn_iload_n hO 3 rfl dL_law_1198 ?_
  refine sn_iconst hO kc_2 dL_law_1199 ?_
  refine sn_iadd hO dL_law_1200 ?_
  refine sn_sld hO dL_law_1201 ?_
  refine sn_lcM hO hwM (c2 := mc) (s2 := ms) (rm := rmX9_hunted) [.int (xs (i + 1).toNatClampNeg), .int (xs (i + 2).toNatClampNeg)] cvL_159 (fun h => ctX9_hunted h) ⟨Nat.le_of_ble_eq_true rfl, Nat.le_of_ble_eq_true rfl⟩ rfl rfl (Nat.le_of_ble_eq_true rfl) ⟨Nat.zero_le _, Nat.zero_le _, rfl, rfl⟩ dL_law_1202 (sn_eI (fun r2 SM2 => ?_))
  refine sn_icmp_eq hO 1292 (by decide) dL_law_1205 ?_ ?_
  · exact hK _ _ _ _
  · refine sn_iconst hO kc_0 dL_law_1208 ?_
    exact sn_zret (r := 0) (Qi := fun r _ => r = 1) hO (ty := .boolean) rfl rfl dL_law_1209
def wpL_35 (wX : sn_W) (L : Nat) (xs : Nat → Int32) (i : Int32) (mc ms : Nat) (SX SM : sn_S) (K : Nat → Nat → sn_S → sn_S → Prop) : Prop :=
  (vp_in (i + 1) L ∧ (∃ u1 v1 : Nat, u1 ≤ mc ∧ v1 ≤ ms ∧ wpX0_image wX (xs (i + 1).toNatClampNeg) SX u1 v1 (fun r1 SX1 => (vp_in (i + 1) L ∧ wpX9_image (xs (i + 1).toNatClampNeg) SM (fun r2 SM2 => ((r1 = r2 → K (mc - u1) (ms - v1) SX1 SM2) ∧ (¬ r1 = r2 → (0 : Int32) = 1)))))))
theorem wkL_35 {b L : Nat} {xs : Nat → Int32} {w wX wM : sn_W} {C : sn_C} {nm : String} {tb : List ExceptionTableEntry} (hO : sn_Ok (LoL b L xs) w C RL cL_law 4 ret tb nm) (hwX : sn_wok w wX) (hwM : sn_wok w wM) {i : Int32} {K : Nat → Nat → sn_S → sn_S → Prop} (hK : ∀ (mc ms : Nat) (SX SM : sn_S), K mc ms SX SM → sn_G (LoL b L xs) w room_1 (sn_qI (fun r _ => r = 1)) sn_noE C mc ms 1292 [(0, .ref b), (1, .ref (wX.2.2.1 0)), (2, .ref (wM.2.2.1 0)), (3, .int i)] [] (sn_two wX wM SX SM)) {mc ms : Nat} {SX SM : sn_S} : wpL_35 wX L xs i mc ms SX SM K → sn_G (LoL b L xs) w room_1 (sn_qI (fun r _ => r = 1)) sn_noE C mc ms 1210 [(0, .ref b), (1, .ref (wX.2.2.1 0)), (2, .ref (wM.2.2.1 0)), (3, .int i)] [] (sn_two wX wM SX SM) := by
  unfold wpL_35
  refine sn_aload_n hO 1 rfl dL_law_1210 ?_
  refine sn_aload_n hO 0 rfl dL_law_1211 ?_
  refine sn_iload_n hO 3 rfl dL_law_1212 ?_
  refine sn_iconst hO kc_1 dL_law_1213 ?_
  refine sn_iadd hO dL_law_1214 ?_
  refine sn_sld hO dL_law_1215 ?_
  refine sn_bud (fun u1 v1 hu1 hv1 => ?_)
  refine sn_lcX hO hwX (c2 := (mc - u1)) (s2 := (ms - v1)) (rm := (rmX0_image u1 v1)) [.int (xs (i + 1).toNatClampNeg)] cvL_160 (fun h => ctX0_image h) ⟨Nat.le_of_ble_eq_true rfl, Nat.le_of_ble_eq_true rfl⟩ rfl rfl (Nat.le_of_ble_eq_true rfl) ⟨hu1, hv1, rfl, rfl⟩ dL_law_1216 (sn_dI (fun r1 SX1 => ?_))
  refine sn_aload_n hO 2 rfl dL_law_1219 ?_
  refine sn_aload_n hO 0 rfl dL_law_1220 ?_
  refine sn_iload_n hO 3 rfl dL_law_1221 ?_
  refine sn_iconst hO kc_1 dL_law_1222 ?_
  refine sn_iadd hO dL_law_1223 ?_
  refine sn_sld hO dL_law_1224 ?_
  refine sn_lcM hO hwM (c2 := (mc - u1)) (s2 := (ms - v1)) (rm := rmX9_image) [.int (xs (i + 1).toNatClampNeg)] cvL_163 (fun h => ctX9_image h) ⟨Nat.le_of_ble_eq_true rfl, Nat.le_of_ble_eq_true rfl⟩ rfl rfl (Nat.le_of_ble_eq_true rfl) ⟨Nat.zero_le _, Nat.zero_le _, rfl, rfl⟩ dL_law_1225 (sn_eI (fun r2 SM2 => ?_))
  refine sn_icmp_eq hO 1292 (by decide) dL_law_1228 ?_ ?_
  · exact hK _ _ _ _
  · refine sn_iconst hO kc_0 dL_law_1231 ?_
    exact sn_zret (r := 0) (Qi := fun r _ => r = 1) hO (ty := .boolean) rfl rfl dL_law_1232
def wpL_36 (wX : sn_W) (L : Nat) (xs : Nat → Int32) (i : Int32) (mc ms : Nat) (SX SM : sn_S) (K : Nat → Nat → sn_S → sn_S → Prop) : Prop :=
  (vp_in (i + 1) L ∧ (∃ u1 v1 : Nat, u1 ≤ mc ∧ v1 ≤ ms ∧ wpX0_back wX (xs (i + 1).toNatClampNeg) SX u1 v1 (fun r1 SX1 => (vp_in (i + 1) L ∧ wpX9_back (xs (i + 1).toNatClampNeg) SM (fun r2 SM2 => ((r1 = r2 → K (mc - u1) (ms - v1) SX1 SM2) ∧ (¬ r1 = r2 → (0 : Int32) = 1)))))))
theorem wkL_36 {b L : Nat} {xs : Nat → Int32} {w wX wM : sn_W} {C : sn_C} {nm : String} {tb : List ExceptionTableEntry} (hO : sn_Ok (LoL b L xs) w C RL cL_law 4 ret tb nm) (hwX : sn_wok w wX) (hwM : sn_wok w wM) {i : Int32} {K : Nat → Nat → sn_S → sn_S → Prop} (hK : ∀ (mc ms : Nat) (SX SM : sn_S), K mc ms SX SM → sn_G (LoL b L xs) w room_1 (sn_qI (fun r _ => r = 1)) sn_noE C mc ms 1292 [(0, .ref b), (1, .ref (wX.2.2.1 0)), (2, .ref (wM.2.2.1 0)), (3, .int i)] [] (sn_two wX wM SX SM)) {mc ms : Nat} {SX SM : sn_S} : wpL_36 wX L xs i mc ms SX SM K → sn_G (LoL b L xs) w room_1 (sn_qI (fun r _ => r = 1)) sn_noE C mc ms 1233 [(0, .ref b), (1, .ref (wX.2.2.1 0)), (2, .ref (wM.2.2.1 0)), (3, .int i)] [] (sn_two wX wM SX SM) := by
  unfold wpL_36
  refine sn_aload_n hO 1 rfl dL_law_1233 ?_
  refine sn_aload_n hO 0 rfl dL_law_1234 ?_
  refine sn_iload_n hO 3 rfl dL_law_1235 ?_
  refine sn_iconst hO kc_1 dL_law_1236 ?_
  refine sn_iadd hO dL_law_1237 ?_
  refine sn_sld hO dL_law_1238 ?_
  refine sn_bud (fun u1 v1 hu1 hv1 => ?_)
  refine sn_lcX hO hwX (c2 := (mc - u1)) (s2 := (ms - v1)) (rm := (rmX0_back u1 v1)) [.int (xs (i + 1).toNatClampNeg)] cvL_164 (fun h => ctX0_back h) ⟨Nat.le_of_ble_eq_true rfl, Nat.le_of_ble_eq_true rfl⟩ rfl rfl (Nat.le_of_ble_eq_true rfl) ⟨hu1, hv1, rfl, rfl⟩ dL_law_1239 (sn_dI (fun r1 SX1 => ?_))
  refine sn_aload_n hO 2 rfl dL_law_1242 ?_
  refine sn_aload_n hO 0 rfl dL_law_1243 ?_
  refine sn_iload_n hO 3 rfl dL_law_1244 ?_
  refine sn_iconst hO kc_1 dL_law_1245 ?_
  refine sn_iadd hO dL_law_1246 ?_
  refine sn_sld hO dL_law_1247 ?_
  refine sn_lcM hO hwM (c2 := (mc - u1)) (s2 := (ms - v1)) (rm := rmX9_back) [.int (xs (i + 1).toNatClampNeg)] cvL_167 (fun h => ctX9_back h) ⟨Nat.le_of_ble_eq_true rfl, Nat.le_of_ble_eq_true rfl⟩ rfl rfl (Nat.le_of_ble_eq_true rfl) ⟨Nat.zero_le _, Nat.zero_le _, rfl, rfl⟩ dL_law_1248 (sn_eI (fun r2 SM2 => ?_))
  refine sn_icmp_eq hO 1292 (by decide) dL_law_1251 ?_ ?_
  · exact hK _ _ _ _
  · refine sn_iconst hO kc_0 dL_law_1254 ?_
    exact sn_zret (r := 0) (Qi := fun r _ => r = 1) hO (ty := .boolean) rfl rfl dL_law_1255
def wpL_37 (wX : sn_W) (L : Nat) (xs : Nat → Int32) (i : Int32) (mc ms : Nat) (SX SM : sn_S) (K : Nat → Nat → sn_S → sn_S → Prop) : Prop :=
  (vp_in (i + 1) L ∧ wpX0_count wX (xs (i + 1).toNatClampNeg) SX (fun r1 => (vp_in (i + 1) L ∧ wpX9_count (xs (i + 1).toNatClampNeg) SM (fun r2 SM2 => ((r1 = r2 → K mc ms SX SM2) ∧ (¬ r1 = r2 → (0 : Int32) = 1))))))
theorem wkL_37 {b L : Nat} {xs : Nat → Int32} {w wX wM : sn_W} {C : sn_C} {nm : String} {tb : List ExceptionTableEntry} (hO : sn_Ok (LoL b L xs) w C RL cL_law 4 ret tb nm) (hwX : sn_wok w wX) (hwM : sn_wok w wM) {i : Int32} {K : Nat → Nat → sn_S → sn_S → Prop} (hK : ∀ (mc ms : Nat) (SX SM : sn_S), K mc ms SX SM → sn_G (LoL b L xs) w room_1 (sn_qI (fun r _ => r = 1)) sn_noE C mc ms 1292 [(0, .ref b), (1, .ref (wX.2.2.1 0)), (2, .ref (wM.2.2.1 0)), (3, .int i)] [] (sn_two wX wM SX SM)) {mc ms : Nat} {SX SM : sn_S} : wpL_37 wX L xs i mc ms SX SM K → sn_G (LoL b L xs) w room_1 (sn_qI (fun r _ => r = 1)) sn_noE C mc ms 1256 [(0, .ref b), (1, .ref (wX.2.2.1 0)), (2, .ref (wM.2.2.1 0)), (3, .int i)] [] (sn_two wX wM SX SM) := by
  unfold wpL_37
  refine sn_aload_n hO 1 rfl dL_law_1256 ?_
  refine sn_aload_n hO 0 rfl dL_law_1257 ?_
  refine sn_iload_n hO 3 rfl dL_law_1258 ?_
  refine sn_iconst hO kc_1 dL_law_1259 ?_
  refine sn_iadd hO dL_law_1260 ?_
  refine sn_sld hO dL_law_1261 ?_
  refine sn_lcX hO hwX (c2 := mc) (s2 := ms) (rm := rmX0_count) [.int (xs (i + 1).toNatClampNeg)] cvL_168 (fun h => ctX0_count h) ⟨Nat.le_of_ble_eq_true rfl, Nat.le_of_ble_eq_true rfl⟩ rfl rfl (Nat.le_of_ble_eq_true rfl) ⟨Nat.zero_le _, Nat.zero_le _, rfl, rfl⟩ dL_law_1262 (sn_dIp (fun r1 => ?_))
  refine sn_aload_n hO 2 rfl dL_law_1265 ?_
  refine sn_aload_n hO 0 rfl dL_law_1266 ?_
  refine sn_iload_n hO 3 rfl dL_law_1267 ?_
  refine sn_iconst hO kc_1 dL_law_1268 ?_
  refine sn_iadd hO dL_law_1269 ?_
  refine sn_sld hO dL_law_1270 ?_
  refine sn_lcM hO hwM (c2 := mc) (s2 := ms) (rm := rmX9_count) [.int (xs (i + 1).toNatClampNeg)] cvL_171 (fun h => ctX9_count h) ⟨Nat.le_of_ble_eq_true rfl, Nat.le_of_ble_eq_true rfl⟩ rfl rfl (Nat.le_of_ble_eq_true rfl) ⟨Nat.zero_le _, Nat.zero_le _, rfl, rfl⟩ dL_law_1271 (sn_eI (fun r2 SM2 => ?_))
  refine sn_icmp_eq hO 1292 (by decide) dL_law_1274 ?_ ?_
  · exact hK _ _ _ _
  · refine sn_iconst hO kc_0 dL_law_1277 ?_
    exact sn_zret (r := 0) (Qi := fun r _ => r = 1) hO (ty := .boolean) rfl rfl dL_law_1278
def wpL_38 (wX : sn_W) (L : Nat) (xs : Nat → Int32) (i : Int32) (mc ms : Nat) (SX SM : sn_S) (K : Nat → Nat → sn_S → sn_S → Prop) : Prop :=
  wpX0_status wX SX (fun r1 => wpX9_status SM (fun r2 SM2 => ((r1 = r2 → K mc ms SX SM2) ∧ (¬ r1 = r2 → (0 : Int32) = 1))))
theorem wkL_38 {b L : Nat} {xs : Nat → Int32} {w wX wM : sn_W} {C : sn_C} {nm : String} {tb : List ExceptionTableEntry} (hO : sn_Ok (LoL b L xs) w C RL cL_law 4 ret tb nm) (hwX : sn_wok w wX) (hwM : sn_wok w wM) {i : Int32} {K : Nat → Nat → sn_S → sn_S → Prop} (hK : ∀ (mc ms : Nat) (SX SM : sn_S), K mc ms SX SM → sn_G (LoL b L xs) w room_1 (sn_qI (fun r _ => r = 1)) sn_noE C mc ms 1292 [(0, .ref b), (1, .ref (wX.2.2.1 0)), (2, .ref (wM.2.2.1 0)), (3, .int i)] [] (sn_two wX wM SX SM)) {mc ms : Nat} {SX SM : sn_S} : wpL_38 wX L xs i mc ms SX SM K → sn_G (LoL b L xs) w room_1 (sn_qI (fun r _ => r = 1)) sn_noE C mc ms 1279 [(0, .ref b), (1, .ref (wX.2.2.1 0)), (2, .ref (wM.2.2.1 0)), (3, .int i)] [] (sn_two wX wM SX SM) := by
  unfold wpL_38
  refine sn_aload_n hO 1 rfl dL_law_1279 ?_
  refine sn_lcX hO hwX (c2 := mc) (s2 := ms) (rm := rmX0_status) [] cvL_172 (fun h => ctX0_status h) ⟨Nat.le_of_ble_eq_true rfl, Nat.le_of_ble_eq_true rfl⟩ rfl rfl (Nat.le_of_ble_eq_true rfl) ⟨Nat.zero_le _, Nat.zero_le _, rfl, rfl⟩ dL_law_1280 (sn_dIp (fun r1 => ?_))
  refine sn_aload_n hO 2 rfl dL_law_1283 ?_
  refine sn_lcM hO hwM (c2 := mc) (s2 := ms) (rm := rmX9_status) [] cvL_175 (fun h => ctX9_status h) ⟨Nat.le_of_ble_eq_true rfl, Nat.le_of_ble_eq_true rfl⟩ rfl rfl (Nat.le_of_ble_eq_true rfl) ⟨Nat.zero_le _, Nat.zero_le _, rfl, rfl⟩ dL_law_1284 (sn_eI (fun r2 SM2 => ?_))
  refine sn_icmp_eq hO 1292 (by decide) dL_law_1287 ?_ ?_
  · exact hK _ _ _ _
  · refine sn_iconst hO kc_0 dL_law_1290 ?_
    exact sn_zret (r := 0) (Qi := fun r _ => r = 1) hO (ty := .boolean) rfl rfl dL_law_1291
def wpL_loop (wX : sn_W) (L : Nat) (xs : Nat → Int32) : Int32 → Nat → Nat → sn_S → sn_S → Prop := sn_lp5 (fun (rec : Int32 → Nat → Nat → sn_S → sn_S → Prop) (i : Int32) (mc ms : Nat) (SX SM : sn_S) => ((Int32.ofNat L - 6 < i → (1 : Int32) = 1) ∧ (¬ Int32.ofNat L - 6 < i → (vp_in i L ∧ sn_sw ((xs i.toNatClampNeg) &&& 63) 0 [wpL_0 wX L xs i mc ms SX SM (rec (i + 6)), wpL_1 wX L xs i mc ms SX SM (rec (i + 6)), wpL_2 wX L xs i mc ms SX SM (rec (i + 6)), wpL_3 wX L xs i mc ms SX SM (rec (i + 6)), wpL_4 wX L xs i mc ms SX SM (rec (i + 6)), wpL_5 wX L xs i mc ms SX SM (rec (i + 6)), wpL_6 wX L xs i mc ms SX SM (rec (i + 6)), wpL_7 wX L xs i mc ms SX SM (rec (i + 6)), wpL_8 wX L xs i mc ms SX SM (rec (i + 6)), wpL_9 wX L xs i mc ms SX SM (rec (i + 6)), wpL_10 wX L xs i mc ms SX SM (rec (i + 6)), wpL_11 wX L xs i mc ms SX SM (rec (i + 6)), wpL_12 wX L xs i mc ms SX SM (rec (i + 6)), wpL_13 wX L xs i mc ms SX SM (rec (i + 6)), wpL_14 wX L xs i mc ms SX SM (rec (i + 6)), wpL_15 wX L xs i mc ms SX SM (rec (i + 6)), wpL_16 wX L xs i mc ms SX SM (rec (i + 6)), wpL_17 wX L xs i mc ms SX SM (rec (i + 6)), wpL_18 wX L xs i mc ms SX SM (rec (i + 6)), wpL_19 wX L xs i mc ms SX SM (rec (i + 6)), wpL_20 wX L xs i mc ms SX SM (rec (i + 6)), wpL_21 wX L xs i mc ms SX SM (rec (i + 6)), wpL_22 wX L xs i mc ms SX SM (rec (i + 6)), wpL_23 wX L xs i mc ms SX SM (rec (i + 6)), wpL_24 wX L xs i mc ms SX SM (rec (i + 6)), wpL_25 wX L xs i mc ms SX SM (rec (i + 6)), wpL_26 wX L xs i mc ms SX SM (rec (i + 6)), wpL_27 wX L xs i mc ms SX SM (rec (i + 6)), wpL_28 wX L xs i mc ms SX SM (rec (i + 6)), wpL_29 wX L xs i mc ms SX SM (rec (i + 6)), wpL_30 wX L xs i mc ms SX SM (rec (i + 6)), wpL_31 wX L xs i mc ms SX SM (rec (i + 6)), wpL_32 wX L xs i mc ms SX SM (rec (i + 6)), wpL_33 wX L xs i mc ms SX SM (rec (i + 6)), wpL_34 wX L xs i mc ms SX SM (rec (i + 6)), wpL_35 wX L xs i mc ms SX SM (rec (i + 6)), wpL_36 wX L xs i mc ms SX SM (rec (i + 6)), wpL_37 wX L xs i mc ms SX SM (rec (i + 6)), wpL_38 wX L xs i mc ms SX SM (rec (i + 6))] (rec (i + 6) mc ms SX SM)))))
theorem wkL_loop {b L : Nat} {xs : Nat → Int32} {w wX wM : sn_W} {C : sn_C} {nm : String} {tb : List ExceptionTableEntry} (hO : sn_Ok (LoL b L xs) w C RL cL_law 4 ret tb nm) (hwX : sn_wok w wX) (hwM : sn_wok w wM) {i : Int32} {mc ms : Nat} {SX SM : sn_S} : wpL_loop wX L xs i mc ms SX SM → sn_G (LoL b L xs) w room_1 (sn_qI (fun r _ => r = 1)) sn_noE C mc ms 18 [(0, .ref b), (1, .ref (wX.2.2.1 0)), (2, .ref (wM.2.2.1 0)), (3, .int i)] [] (sn_two wX wM SX SM) := by
  refine sn_lp5_walk (Gd := fun i mc ms SX SM => sn_G (LoL b L xs) w room_1 (sn_qI (fun r _ => r = 1)) sn_noE C mc ms 18 [(0, .ref b), (1, .ref (wX.2.2.1 0)), (2, .ref (wM.2.2.1 0)), (3, .int i)] [] (sn_two wX wM SX SM)) ?_ _ _ _ _ _
  intro rec hrec i mc ms SX SM
  have hK : ∀ (mc ms : Nat) (SX SM : sn_S), rec (i + 6) mc ms SX SM → sn_G (LoL b L xs) w room_1 (sn_qI (fun r _ => r = 1)) sn_noE C mc ms 1292 [(0, .ref b), (1, .ref (wX.2.2.1 0)), (2, .ref (wM.2.2.1 0)), (3, .int i)] [] (sn_two wX wM SX SM) := by
    intro mc ms SX SM
    refine sn_iinc hO (lv' := [(3, .int (i + 6)), (0, .ref b), (1, .ref (wX.2.2.1 0)), (2, .ref (wM.2.2.1 0))]) 3 rfl (by decide) (by decide) rfl dL_law_1292 ?_
    refine sn_goto hO 18 (by decide) dL_law_1295 ?_
    refine sn_sub [1, 2, 3, 0] rfl ?_
    exact hrec _ _ _ _ _
  refine sn_iload_n hO 3 rfl dL_law_18 ?_
  refine sn_aload_n hO 0 rfl dL_law_19 ?_
  refine sn_slen hO dL_law_20 ?_
  refine sn_bipush hO (v := 6) (by decide) dL_law_21 ?_
  refine sn_isub hO dL_law_23 ?_
  refine sn_icmp_gt hO 1298 (by decide) dL_law_24 ?_ ?_
  · refine sn_iconst hO kc_1 dL_law_1298 ?_
    exact sn_zret (r := 1) (Qi := fun r _ => r = 1) hO (ty := .boolean) rfl rfl dL_law_1299
  · refine sn_aload_n hO 0 rfl dL_law_27 ?_
    refine sn_iload_n hO 3 rfl dL_law_28 ?_
    refine sn_sld hO dL_law_29 ?_
    refine sn_bipush hO (v := 63) (by decide) dL_law_30 ?_
    refine sn_iand hO dL_law_32 ?_
    refine sn_tsw hO [204, 237, 270, 303, 356, 399, 432, 455, 488, 521, 584, 607, 620, 633, 646, 659, 682, 715, 748, 771, 814, 847, 890, 913, 926, 940, 953, 976, 1019, 1052, 1075, 1098, 1121, 1154, 1177, 1210, 1233, 1256, 1279] 1292 (by decide) (by decide) (by decide) dL_law_33 ?_ ?_
    · exact ⟨wkL_0 hO hwX hwM hK, wkL_1 hO hwX hwM hK, wkL_2 hO hwX hwM hK, wkL_3 hO hwX hwM hK, wkL_4 hO hwX hwM hK, wkL_5 hO hwX hwM hK, wkL_6 hO hwX hwM hK, wkL_7 hO hwX hwM hK, wkL_8 hO hwX hwM hK, wkL_9 hO hwX hwM hK, wkL_10 hO hwX hwM hK, wkL_11 hO hwX hwM hK, wkL_12 hO hwX hwM hK, wkL_13 hO hwX hwM hK, wkL_14 hO hwX hwM hK, wkL_15 hO hwX hwM hK, wkL_16 hO hwX hwM hK, wkL_17 hO hwX hwM hK, wkL_18 hO hwX hwM hK, wkL_19 hO hwX hwM hK, wkL_20 hO hwX hwM hK, wkL_21 hO hwX hwM hK, wkL_22 hO hwX hwM hK, wkL_23 hO hwX hwM hK, wkL_24 hO hwX hwM hK, wkL_25 hO hwX hwM hK, wkL_26 hO hwX hwM hK, wkL_27 hO hwX hwM hK, wkL_28 hO hwX hwM hK, wkL_29 hO hwX hwM hK, wkL_30 hO hwX hwM hK, wkL_31 hO hwX hwM hK, wkL_32 hO hwX hwM hK, wkL_33 hO hwX hwM hK, wkL_34 hO hwX hwM hK, wkL_35 hO hwX hwM hK, wkL_36 hO hwX hwM hK, wkL_37 hO hwX hwM hK, wkL_38 hO hwX hwM hK, trivial⟩
    · exact hK _ _ _ _
