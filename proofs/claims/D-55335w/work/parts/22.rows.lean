/-! rows of jumps and constants; none-rows of the tables -/
theorem tg_1_6 : tgt 1 (6) = 7 := rfl
theorem jk_1_6 : jok 1 (6) = True := eq_true (by unfold jok; decide)
theorem tg_1_7 : tgt 1 (7) = 8 := rfl
theorem jk_1_7 : jok 1 (7) = True := eq_true (by unfold jok; decide)
theorem tg_1_8 : tgt 1 (8) = 9 := rfl
theorem jk_1_8 : jok 1 (8) = True := eq_true (by unfold jok; decide)
theorem tg_1_9 : tgt 1 (9) = 10 := rfl
theorem jk_1_9 : jok 1 (9) = True := eq_true (by unfold jok; decide)
theorem tg_1_11 : tgt 1 (11) = 12 := rfl
theorem jk_1_11 : jok 1 (11) = True := eq_true (by unfold jok; decide)
theorem tg_1_12 : tgt 1 (12) = 13 := rfl
theorem jk_1_12 : jok 1 (12) = True := eq_true (by unfold jok; decide)
theorem tg_1_13 : tgt 1 (13) = 14 := rfl
theorem jk_1_13 : jok 1 (13) = True := eq_true (by unfold jok; decide)
theorem tg_1_14 : tgt 1 (14) = 15 := rfl
theorem jk_1_14 : jok 1 (14) = True := eq_true (by unfold jok; decide)
theorem tg_1_15 : tgt 1 (15) = 16 := rfl
theorem jk_1_15 : jok 1 (15) = True := eq_true (by unfold jok; decide)
theorem tg_2_5 : tgt 2 (5) = 7 := rfl
theorem jk_2_5 : jok 2 (5) = True := eq_true (by unfold jok; decide)
theorem tg_2_7 : tgt 2 (7) = 9 := rfl
theorem jk_2_7 : jok 2 (7) = True := eq_true (by unfold jok; decide)
theorem tg_2_8 : tgt 2 (8) = 10 := rfl
theorem jk_2_8 : jok 2 (8) = True := eq_true (by unfold jok; decide)
theorem tg_2_12 : tgt 2 (12) = 14 := rfl
theorem jk_2_12 : jok 2 (12) = True := eq_true (by unfold jok; decide)
theorem tg_2_26 : tgt 2 (26) = 28 := rfl
theorem jk_2_26 : jok 2 (26) = True := eq_true (by unfold jok; decide)
theorem tg_2_30 : tgt 2 (30) = 32 := rfl
theorem jk_2_30 : jok 2 (30) = True := eq_true (by unfold jok; decide)
theorem tg_2_35 : tgt 2 (35) = 37 := rfl
theorem jk_2_35 : jok 2 (35) = True := eq_true (by unfold jok; decide)
theorem tg_2_38 : tgt 2 (38) = 40 := rfl
theorem jk_2_38 : jok 2 (38) = True := eq_true (by unfold jok; decide)
theorem tg_2_40 : tgt 2 (40) = 42 := rfl
theorem jk_2_40 : jok 2 (40) = True := eq_true (by unfold jok; decide)
theorem tg_2_42 : tgt 2 (42) = 44 := rfl
theorem jk_2_42 : jok 2 (42) = True := eq_true (by unfold jok; decide)
theorem tg_2_44 : tgt 2 (44) = 46 := rfl
theorem jk_2_44 : jok 2 (44) = True := eq_true (by unfold jok; decide)
theorem tg_2_55 : tgt 2 (55) = 57 := rfl
theorem jk_2_55 : jok 2 (55) = True := eq_true (by unfold jok; decide)
theorem tg_2_88 : tgt 2 (88) = 90 := rfl
theorem jk_2_88 : jok 2 (88) = True := eq_true (by unfold jok; decide)
theorem tg_2_101 : tgt 2 (101) = 103 := rfl
theorem jk_2_101 : jok 2 (101) = True := eq_true (by unfold jok; decide)
theorem tg_2_114 : tgt 2 (114) = 116 := rfl
theorem jk_2_114 : jok 2 (114) = True := eq_true (by unfold jok; decide)
theorem tg_2_127 : tgt 2 (127) = 129 := rfl
theorem jk_2_127 : jok 2 (127) = True := eq_true (by unfold jok; decide)
theorem tg_3_8 : tgt 3 (8) = 11 := rfl
theorem jk_3_8 : jok 3 (8) = True := eq_true (by unfold jok; decide)
theorem tg_3_10 : tgt 3 (10) = 13 := rfl
theorem jk_3_10 : jok 3 (10) = True := eq_true (by unfold jok; decide)
theorem tg_3_11 : tgt 3 (11) = 14 := rfl
theorem jk_3_11 : jok 3 (11) = True := eq_true (by unfold jok; decide)
theorem tg_3_14 : tgt 3 (14) = 17 := rfl
theorem jk_3_14 : jok 3 (14) = True := eq_true (by unfold jok; decide)
theorem tg_3_16 : tgt 3 (16) = 19 := rfl
theorem jk_3_16 : jok 3 (16) = True := eq_true (by unfold jok; decide)
theorem tg_3_18 : tgt 3 (18) = 21 := rfl
theorem jk_3_18 : jok 3 (18) = True := eq_true (by unfold jok; decide)
theorem tg_3_20 : tgt 3 (20) = 23 := rfl
theorem jk_3_20 : jok 3 (20) = True := eq_true (by unfold jok; decide)
theorem tg_3_25 : tgt 3 (25) = 28 := rfl
theorem jk_3_25 : jok 3 (25) = True := eq_true (by unfold jok; decide)
theorem tg_3_27 : tgt 3 (27) = 30 := rfl
theorem jk_3_27 : jok 3 (27) = True := eq_true (by unfold jok; decide)
theorem tg_4_4 : tgt 4 (4) = 8 := rfl
theorem jk_4_4 : jok 4 (4) = True := eq_true (by unfold jok; decide)
theorem tg_4_5 : tgt 4 (5) = 9 := rfl
theorem jk_4_5 : jok 4 (5) = True := eq_true (by unfold jok; decide)
theorem tg_4_7 : tgt 4 (7) = 11 := rfl
theorem jk_4_7 : jok 4 (7) = True := eq_true (by unfold jok; decide)
theorem tg_4_12 : tgt 4 (12) = 16 := rfl
theorem jk_4_12 : jok 4 (12) = True := eq_true (by unfold jok; decide)
theorem tg_4_19 : tgt 4 (19) = 23 := rfl
theorem jk_4_19 : jok 4 (19) = True := eq_true (by unfold jok; decide)
theorem tg_4_30 : tgt 4 (30) = 34 := rfl
theorem jk_4_30 : jok 4 (30) = True := eq_true (by unfold jok; decide)
theorem tg_4_65 : tgt 4 (65) = 69 := rfl
theorem jk_4_65 : jok 4 (65) = True := eq_true (by unfold jok; decide)
theorem tg_5_5 : tgt 5 (5) = 10 := rfl
theorem jk_5_5 : jok 5 (5) = True := eq_true (by unfold jok; decide)
theorem tg_5_7 : tgt 5 (7) = 12 := rfl
theorem jk_5_7 : jok 5 (7) = True := eq_true (by unfold jok; decide)
theorem tg_5_10 : tgt 5 (10) = 15 := rfl
theorem jk_5_10 : jok 5 (10) = True := eq_true (by unfold jok; decide)
theorem tg_5_11 : tgt 5 (11) = 16 := rfl
theorem jk_5_11 : jok 5 (11) = True := eq_true (by unfold jok; decide)
theorem tg_5_14 : tgt 5 (14) = 19 := rfl
theorem jk_5_14 : jok 5 (14) = True := eq_true (by unfold jok; decide)
theorem tg_5_16 : tgt 5 (16) = 21 := rfl
theorem jk_5_16 : jok 5 (16) = True := eq_true (by unfold jok; decide)
theorem tg_5_18 : tgt 5 (18) = 23 := rfl
theorem jk_5_18 : jok 5 (18) = True := eq_true (by unfold jok; decide)
theorem tg_5_22 : tgt 5 (22) = 27 := rfl
theorem jk_5_22 : jok 5 (22) = True := eq_true (by unfold jok; decide)
theorem tg_5_23 : tgt 5 (23) = 28 := rfl
theorem jk_5_23 : jok 5 (23) = True := eq_true (by unfold jok; decide)
theorem tg_5_44 : tgt 5 (44) = 49 := rfl
theorem jk_5_44 : jok 5 (44) = True := eq_true (by unfold jok; decide)
theorem tg_6_4 : tgt 6 (4) = 10 := rfl
theorem jk_6_4 : jok 6 (4) = True := eq_true (by unfold jok; decide)
theorem tg_6_5 : tgt 6 (5) = 11 := rfl
theorem jk_6_5 : jok 6 (5) = True := eq_true (by unfold jok; decide)
theorem tg_6_7 : tgt 6 (7) = 13 := rfl
theorem jk_6_7 : jok 6 (7) = True := eq_true (by unfold jok; decide)
theorem tg_6_8 : tgt 6 (8) = 14 := rfl
theorem jk_6_8 : jok 6 (8) = True := eq_true (by unfold jok; decide)
theorem tg_6_10 : tgt 6 (10) = 16 := rfl
theorem jk_6_10 : jok 6 (10) = True := eq_true (by unfold jok; decide)
theorem tg_6_11 : tgt 6 (11) = 17 := rfl
theorem jk_6_11 : jok 6 (11) = True := eq_true (by unfold jok; decide)
theorem tg_6_13 : tgt 6 (13) = 19 := rfl
theorem jk_6_13 : jok 6 (13) = True := eq_true (by unfold jok; decide)
theorem tg_6_15 : tgt 6 (15) = 21 := rfl
theorem jk_6_15 : jok 6 (15) = True := eq_true (by unfold jok; decide)
theorem tg_6_17 : tgt 6 (17) = 23 := rfl
theorem jk_6_17 : jok 6 (17) = True := eq_true (by unfold jok; decide)
theorem tg_6_20 : tgt 6 (20) = 26 := rfl
theorem jk_6_20 : jok 6 (20) = True := eq_true (by unfold jok; decide)
theorem tg_6_21 : tgt 6 (21) = 27 := rfl
theorem jk_6_21 : jok 6 (21) = True := eq_true (by unfold jok; decide)
theorem tg_6_22 : tgt 6 (22) = 28 := rfl
theorem jk_6_22 : jok 6 (22) = True := eq_true (by unfold jok; decide)
theorem tg_6_43 : tgt 6 (43) = 49 := rfl
theorem jk_6_43 : jok 6 (43) = True := eq_true (by unfold jok; decide)
theorem tg_6_44 : tgt 6 (44) = 50 := rfl
theorem jk_6_44 : jok 6 (44) = True := eq_true (by unfold jok; decide)
theorem tg_6_52 : tgt 6 (52) = 58 := rfl
theorem jk_6_52 : jok 6 (52) = True := eq_true (by unfold jok; decide)
theorem tg_7_5 : tgt 7 (5) = 12 := rfl
theorem jk_7_5 : jok 7 (5) = True := eq_true (by unfold jok; decide)
theorem tg_7_6 : tgt 7 (6) = 13 := rfl
theorem jk_7_6 : jok 7 (6) = True := eq_true (by unfold jok; decide)
theorem tg_7_7 : tgt 7 (7) = 14 := rfl
theorem jk_7_7 : jok 7 (7) = True := eq_true (by unfold jok; decide)
theorem tg_7_10 : tgt 7 (10) = 17 := rfl
theorem jk_7_10 : jok 7 (10) = True := eq_true (by unfold jok; decide)
theorem tg_7_11 : tgt 7 (11) = 18 := rfl
theorem jk_7_11 : jok 7 (11) = True := eq_true (by unfold jok; decide)
theorem tg_7_12 : tgt 7 (12) = 19 := rfl
theorem jk_7_12 : jok 7 (12) = True := eq_true (by unfold jok; decide)
theorem tg_7_13 : tgt 7 (13) = 20 := rfl
theorem jk_7_13 : jok 7 (13) = True := eq_true (by unfold jok; decide)
theorem tg_7_18 : tgt 7 (18) = 25 := rfl
theorem jk_7_18 : jok 7 (18) = True := eq_true (by unfold jok; decide)
theorem tg_7_28 : tgt 7 (28) = 35 := rfl
theorem jk_7_28 : jok 7 (28) = True := eq_true (by unfold jok; decide)
theorem tg_7_35 : tgt 7 (35) = 42 := rfl
theorem jk_7_35 : jok 7 (35) = True := eq_true (by unfold jok; decide)
theorem tg_8_4 : tgt 8 (4) = 12 := rfl
theorem jk_8_4 : jok 8 (4) = True := eq_true (by unfold jok; decide)
theorem tg_8_6 : tgt 8 (6) = 14 := rfl
theorem jk_8_6 : jok 8 (6) = True := eq_true (by unfold jok; decide)
theorem tg_8_7 : tgt 8 (7) = 15 := rfl
theorem jk_8_7 : jok 8 (7) = True := eq_true (by unfold jok; decide)
theorem tg_8_9 : tgt 8 (9) = 17 := rfl
theorem jk_8_9 : jok 8 (9) = True := eq_true (by unfold jok; decide)
theorem tg_8_11 : tgt 8 (11) = 19 := rfl
theorem jk_8_11 : jok 8 (11) = True := eq_true (by unfold jok; decide)
theorem tg_8_16 : tgt 8 (16) = 24 := rfl
theorem jk_8_16 : jok 8 (16) = True := eq_true (by unfold jok; decide)
theorem tg_8_29 : tgt 8 (29) = 37 := rfl
theorem jk_8_29 : jok 8 (29) = True := eq_true (by unfold jok; decide)
theorem tg_8_88 : tgt 8 (88) = 96 := rfl
theorem jk_8_88 : jok 8 (88) = True := eq_true (by unfold jok; decide)
theorem tg_8_95 : tgt 8 (95) = 103 := rfl
theorem jk_8_95 : jok 8 (95) = True := eq_true (by unfold jok; decide)
theorem tg_8_103 : tgt 8 (103) = 111 := rfl
theorem jk_8_103 : jok 8 (103) = True := eq_true (by unfold jok; decide)
theorem tg_8_111 : tgt 8 (111) = 119 := rfl
theorem jk_8_111 : jok 8 (111) = True := eq_true (by unfold jok; decide)
theorem tg_8_118 : tgt 8 (118) = 126 := rfl
theorem jk_8_118 : jok 8 (118) = True := eq_true (by unfold jok; decide)
theorem tg_8_125 : tgt 8 (125) = 133 := rfl
theorem jk_8_125 : jok 8 (125) = True := eq_true (by unfold jok; decide)
theorem tg_8_132 : tgt 8 (132) = 140 := rfl
theorem jk_8_132 : jok 8 (132) = True := eq_true (by unfold jok; decide)
theorem tg_8_139 : tgt 8 (139) = 147 := rfl
theorem jk_8_139 : jok 8 (139) = True := eq_true (by unfold jok; decide)
theorem tg_8_146 : tgt 8 (146) = 154 := rfl
theorem jk_8_146 : jok 8 (146) = True := eq_true (by unfold jok; decide)
theorem tg_8_154 : tgt 8 (154) = 162 := rfl
theorem jk_8_154 : jok 8 (154) = True := eq_true (by unfold jok; decide)
theorem tg_8_162 : tgt 8 (162) = 170 := rfl
theorem jk_8_162 : jok 8 (162) = True := eq_true (by unfold jok; decide)
theorem tg_8_167 : tgt 8 (167) = 175 := rfl
theorem jk_8_167 : jok 8 (167) = True := eq_true (by unfold jok; decide)
theorem tg_8_190 : tgt 8 (190) = 198 := rfl
theorem jk_8_190 : jok 8 (190) = True := eq_true (by unfold jok; decide)
theorem tg_8_195 : tgt 8 (195) = 203 := rfl
theorem jk_8_195 : jok 8 (195) = True := eq_true (by unfold jok; decide)
theorem tg_8_200 : tgt 8 (200) = 208 := rfl
theorem jk_8_200 : jok 8 (200) = True := eq_true (by unfold jok; decide)
theorem tg_9_4 : tgt 9 (4) = 13 := rfl
theorem jk_9_4 : jok 9 (4) = True := eq_true (by unfold jok; decide)
theorem tg_9_5 : tgt 9 (5) = 14 := rfl
theorem jk_9_5 : jok 9 (5) = True := eq_true (by unfold jok; decide)
theorem tg_9_6 : tgt 9 (6) = 15 := rfl
theorem jk_9_6 : jok 9 (6) = True := eq_true (by unfold jok; decide)
theorem tg_9_7 : tgt 9 (7) = 16 := rfl
theorem jk_9_7 : jok 9 (7) = True := eq_true (by unfold jok; decide)
theorem tg_9_8 : tgt 9 (8) = 17 := rfl
theorem jk_9_8 : jok 9 (8) = True := eq_true (by unfold jok; decide)
theorem tg_9_9 : tgt 9 (9) = 18 := rfl
theorem jk_9_9 : jok 9 (9) = True := eq_true (by unfold jok; decide)
theorem tg_9_11 : tgt 9 (11) = 20 := rfl
theorem jk_9_11 : jok 9 (11) = True := eq_true (by unfold jok; decide)
theorem tg_9_14 : tgt 9 (14) = 23 := rfl
theorem jk_9_14 : jok 9 (14) = True := eq_true (by unfold jok; decide)
theorem tg_9_16 : tgt 9 (16) = 25 := rfl
theorem jk_9_16 : jok 9 (16) = True := eq_true (by unfold jok; decide)
theorem tg_9_117 : tgt 9 (117) = 126 := rfl
theorem jk_9_117 : jok 9 (117) = True := eq_true (by unfold jok; decide)
theorem tg_10_4 : tgt 10 (4) = 14 := rfl
theorem jk_10_4 : jok 10 (4) = True := eq_true (by unfold jok; decide)
theorem tg_10_7 : tgt 10 (7) = 17 := rfl
theorem jk_10_7 : jok 10 (7) = True := eq_true (by unfold jok; decide)
theorem tg_10_9 : tgt 10 (9) = 19 := rfl
theorem jk_10_9 : jok 10 (9) = True := eq_true (by unfold jok; decide)
theorem tg_10_11 : tgt 10 (11) = 21 := rfl
theorem jk_10_11 : jok 10 (11) = True := eq_true (by unfold jok; decide)
theorem tg_10_13 : tgt 10 (13) = 23 := rfl
theorem jk_10_13 : jok 10 (13) = True := eq_true (by unfold jok; decide)
theorem tg_10_14 : tgt 10 (14) = 24 := rfl
theorem jk_10_14 : jok 10 (14) = True := eq_true (by unfold jok; decide)
theorem tg_10_19 : tgt 10 (19) = 29 := rfl
theorem jk_10_19 : jok 10 (19) = True := eq_true (by unfold jok; decide)
theorem tg_10_21 : tgt 10 (21) = 31 := rfl
theorem jk_10_21 : jok 10 (21) = True := eq_true (by unfold jok; decide)
theorem tg_10_36 : tgt 10 (36) = 46 := rfl
theorem jk_10_36 : jok 10 (36) = True := eq_true (by unfold jok; decide)
theorem tg_11_4 : tgt 11 (4) = 15 := rfl
theorem jk_11_4 : jok 11 (4) = True := eq_true (by unfold jok; decide)
theorem tg_11_5 : tgt 11 (5) = 16 := rfl
theorem jk_11_5 : jok 11 (5) = True := eq_true (by unfold jok; decide)
theorem tg_11_7 : tgt 11 (7) = 18 := rfl
theorem jk_11_7 : jok 11 (7) = True := eq_true (by unfold jok; decide)
theorem tg_11_9 : tgt 11 (9) = 20 := rfl
theorem jk_11_9 : jok 11 (9) = True := eq_true (by unfold jok; decide)
theorem tg_11_10 : tgt 11 (10) = 21 := rfl
theorem jk_11_10 : jok 11 (10) = True := eq_true (by unfold jok; decide)
theorem tg_11_11 : tgt 11 (11) = 22 := rfl
theorem jk_11_11 : jok 11 (11) = True := eq_true (by unfold jok; decide)
theorem tg_11_14 : tgt 11 (14) = 25 := rfl
theorem jk_11_14 : jok 11 (14) = True := eq_true (by unfold jok; decide)
theorem tg_11_21 : tgt 11 (21) = 32 := rfl
theorem jk_11_21 : jok 11 (21) = True := eq_true (by unfold jok; decide)
theorem tg_11_27 : tgt 11 (27) = 38 := rfl
theorem jk_11_27 : jok 11 (27) = True := eq_true (by unfold jok; decide)
theorem tg_11_28 : tgt 11 (28) = 39 := rfl
theorem jk_11_28 : jok 11 (28) = True := eq_true (by unfold jok; decide)
theorem tg_11_43 : tgt 11 (43) = 54 := rfl
theorem jk_11_43 : jok 11 (43) = True := eq_true (by unfold jok; decide)
theorem tg_11_73 : tgt 11 (73) = 84 := rfl
theorem jk_11_73 : jok 11 (73) = True := eq_true (by unfold jok; decide)
theorem tg_11_74 : tgt 11 (74) = 85 := rfl
theorem jk_11_74 : jok 11 (74) = True := eq_true (by unfold jok; decide)
theorem tg_11_87 : tgt 11 (87) = 98 := rfl
theorem jk_11_87 : jok 11 (87) = True := eq_true (by unfold jok; decide)
theorem tg_11_101 : tgt 11 (101) = 112 := rfl
theorem jk_11_101 : jok 11 (101) = True := eq_true (by unfold jok; decide)
theorem tg_11_115 : tgt 11 (115) = 126 := rfl
theorem jk_11_115 : jok 11 (115) = True := eq_true (by unfold jok; decide)
theorem tg_11_129 : tgt 11 (129) = 140 := rfl
theorem jk_11_129 : jok 11 (129) = True := eq_true (by unfold jok; decide)
theorem tg_11_143 : tgt 11 (143) = 154 := rfl
theorem jk_11_143 : jok 11 (143) = True := eq_true (by unfold jok; decide)
theorem tg_11_157 : tgt 11 (157) = 168 := rfl
theorem jk_11_157 : jok 11 (157) = True := eq_true (by unfold jok; decide)
theorem tg_11_173 : tgt 11 (173) = 184 := rfl
theorem jk_11_173 : jok 11 (173) = True := eq_true (by unfold jok; decide)
theorem tg_11_186 : tgt 11 (186) = 197 := rfl
theorem jk_11_186 : jok 11 (186) = True := eq_true (by unfold jok; decide)
theorem tg_12_4 : tgt 12 (4) = 16 := rfl
theorem jk_12_4 : jok 12 (4) = True := eq_true (by unfold jok; decide)
theorem tg_12_7 : tgt 12 (7) = 19 := rfl
theorem jk_12_7 : jok 12 (7) = True := eq_true (by unfold jok; decide)
theorem tg_12_10 : tgt 12 (10) = 22 := rfl
theorem jk_12_10 : jok 12 (10) = True := eq_true (by unfold jok; decide)
theorem tg_12_11 : tgt 12 (11) = 23 := rfl
theorem jk_12_11 : jok 12 (11) = True := eq_true (by unfold jok; decide)
theorem tg_12_12 : tgt 12 (12) = 24 := rfl
theorem jk_12_12 : jok 12 (12) = True := eq_true (by unfold jok; decide)
theorem tg_12_15 : tgt 12 (15) = 27 := rfl
theorem jk_12_15 : jok 12 (15) = True := eq_true (by unfold jok; decide)
theorem tg_12_17 : tgt 12 (17) = 29 := rfl
theorem jk_12_17 : jok 12 (17) = True := eq_true (by unfold jok; decide)
theorem tg_12_19 : tgt 12 (19) = 31 := rfl
theorem jk_12_19 : jok 12 (19) = True := eq_true (by unfold jok; decide)
theorem tg_12_20 : tgt 12 (20) = 32 := rfl
theorem jk_12_20 : jok 12 (20) = True := eq_true (by unfold jok; decide)
theorem tg_12_22 : tgt 12 (22) = 34 := rfl
theorem jk_12_22 : jok 12 (22) = True := eq_true (by unfold jok; decide)
theorem tg_12_23 : tgt 12 (23) = 35 := rfl
theorem jk_12_23 : jok 12 (23) = True := eq_true (by unfold jok; decide)
theorem tg_12_26 : tgt 12 (26) = 38 := rfl
theorem jk_12_26 : jok 12 (26) = True := eq_true (by unfold jok; decide)
theorem tg_12_36 : tgt 12 (36) = 48 := rfl
theorem jk_12_36 : jok 12 (36) = True := eq_true (by unfold jok; decide)
theorem tg_12_44 : tgt 12 (44) = 56 := rfl
theorem jk_12_44 : jok 12 (44) = True := eq_true (by unfold jok; decide)
theorem tg_13_4 : tgt 13 (4) = 17 := rfl
theorem jk_13_4 : jok 13 (4) = True := eq_true (by unfold jok; decide)
theorem tg_13_5 : tgt 13 (5) = 18 := rfl
theorem jk_13_5 : jok 13 (5) = True := eq_true (by unfold jok; decide)
theorem tg_13_7 : tgt 13 (7) = 20 := rfl
theorem jk_13_7 : jok 13 (7) = True := eq_true (by unfold jok; decide)
theorem tg_13_14 : tgt 13 (14) = 27 := rfl
theorem jk_13_14 : jok 13 (14) = True := eq_true (by unfold jok; decide)
theorem tg_13_20 : tgt 13 (20) = 33 := rfl
theorem jk_13_20 : jok 13 (20) = True := eq_true (by unfold jok; decide)
theorem tg_13_45 : tgt 13 (45) = 58 := rfl
theorem jk_13_45 : jok 13 (45) = True := eq_true (by unfold jok; decide)
theorem tg_14_4 : tgt 14 (4) = 18 := rfl
theorem jk_14_4 : jok 14 (4) = True := eq_true (by unfold jok; decide)
theorem tg_14_5 : tgt 14 (5) = 19 := rfl
theorem jk_14_5 : jok 14 (5) = True := eq_true (by unfold jok; decide)
theorem tg_14_6 : tgt 14 (6) = 20 := rfl
theorem jk_14_6 : jok 14 (6) = True := eq_true (by unfold jok; decide)
theorem tg_14_7 : tgt 14 (7) = 21 := rfl
theorem jk_14_7 : jok 14 (7) = True := eq_true (by unfold jok; decide)
theorem tg_14_13 : tgt 14 (13) = 27 := rfl
theorem jk_14_13 : jok 14 (13) = True := eq_true (by unfold jok; decide)
theorem tg_14_24 : tgt 14 (24) = 38 := rfl
theorem jk_14_24 : jok 14 (24) = True := eq_true (by unfold jok; decide)
theorem tg_14_27 : tgt 14 (27) = 41 := rfl
theorem jk_14_27 : jok 14 (27) = True := eq_true (by unfold jok; decide)
theorem tg_14_29 : tgt 14 (29) = 43 := rfl
theorem jk_14_29 : jok 14 (29) = True := eq_true (by unfold jok; decide)
theorem tg_14_31 : tgt 14 (31) = 45 := rfl
theorem jk_14_31 : jok 14 (31) = True := eq_true (by unfold jok; decide)
theorem tg_14_39 : tgt 14 (39) = 53 := rfl
theorem jk_14_39 : jok 14 (39) = True := eq_true (by unfold jok; decide)
theorem tg_15_4 : tgt 15 (4) = 19 := rfl
theorem jk_15_4 : jok 15 (4) = True := eq_true (by unfold jok; decide)
theorem tg_15_6 : tgt 15 (6) = 21 := rfl
theorem jk_15_6 : jok 15 (6) = True := eq_true (by unfold jok; decide)
theorem tg_15_13 : tgt 15 (13) = 28 := rfl
theorem jk_15_13 : jok 15 (13) = True := eq_true (by unfold jok; decide)
theorem tg_15_17 : tgt 15 (17) = 32 := rfl
theorem jk_15_17 : jok 15 (17) = True := eq_true (by unfold jok; decide)
theorem tg_15_18 : tgt 15 (18) = 33 := rfl
theorem jk_15_18 : jok 15 (18) = True := eq_true (by unfold jok; decide)
theorem tg_15_21 : tgt 15 (21) = 36 := rfl
theorem jk_15_21 : jok 15 (21) = True := eq_true (by unfold jok; decide)
theorem tg_15_25 : tgt 15 (25) = 40 := rfl
theorem jk_15_25 : jok 15 (25) = True := eq_true (by unfold jok; decide)
theorem tg_15_34 : tgt 15 (34) = 49 := rfl
theorem jk_15_34 : jok 15 (34) = True := eq_true (by unfold jok; decide)
theorem tg_15_39 : tgt 15 (39) = 54 := rfl
theorem jk_15_39 : jok 15 (39) = True := eq_true (by unfold jok; decide)
theorem tg_15_40 : tgt 15 (40) = 55 := rfl
theorem jk_15_40 : jok 15 (40) = True := eq_true (by unfold jok; decide)
theorem tg_15_44 : tgt 15 (44) = 59 := rfl
theorem jk_15_44 : jok 15 (44) = True := eq_true (by unfold jok; decide)
theorem tg_15_58 : tgt 15 (58) = 73 := rfl
theorem jk_15_58 : jok 15 (58) = True := eq_true (by unfold jok; decide)
theorem tg_16_4 : tgt 16 (4) = 20 := rfl
theorem jk_16_4 : jok 16 (4) = True := eq_true (by unfold jok; decide)
theorem tg_16_5 : tgt 16 (5) = 21 := rfl
theorem jk_16_5 : jok 16 (5) = True := eq_true (by unfold jok; decide)
theorem tg_16_6 : tgt 16 (6) = 22 := rfl
theorem jk_16_6 : jok 16 (6) = True := eq_true (by unfold jok; decide)
theorem tg_16_7 : tgt 16 (7) = 23 := rfl
theorem jk_16_7 : jok 16 (7) = True := eq_true (by unfold jok; decide)
theorem tg_16_10 : tgt 16 (10) = 26 := rfl
theorem jk_16_10 : jok 16 (10) = True := eq_true (by unfold jok; decide)
theorem tg_16_11 : tgt 16 (11) = 27 := rfl
theorem jk_16_11 : jok 16 (11) = True := eq_true (by unfold jok; decide)
theorem tg_16_15 : tgt 16 (15) = 31 := rfl
theorem jk_16_15 : jok 16 (15) = True := eq_true (by unfold jok; decide)
theorem tg_16_16 : tgt 16 (16) = 32 := rfl
theorem jk_16_16 : jok 16 (16) = True := eq_true (by unfold jok; decide)
theorem tg_16_21 : tgt 16 (21) = 37 := rfl
theorem jk_16_21 : jok 16 (21) = True := eq_true (by unfold jok; decide)
theorem tg_16_84 : tgt 16 (84) = 100 := rfl
theorem jk_16_84 : jok 16 (84) = True := eq_true (by unfold jok; decide)
theorem tg_16_91 : tgt 16 (91) = 107 := rfl
theorem jk_16_91 : jok 16 (91) = True := eq_true (by unfold jok; decide)
theorem tg_16_103 : tgt 16 (103) = 119 := rfl
theorem jk_16_103 : jok 16 (103) = True := eq_true (by unfold jok; decide)
theorem tg_16_113 : tgt 16 (113) = 129 := rfl
theorem jk_16_113 : jok 16 (113) = True := eq_true (by unfold jok; decide)
theorem tg_16_120 : tgt 16 (120) = 136 := rfl
theorem jk_16_120 : jok 16 (120) = True := eq_true (by unfold jok; decide)
theorem tg_16_127 : tgt 16 (127) = 143 := rfl
theorem jk_16_127 : jok 16 (127) = True := eq_true (by unfold jok; decide)
theorem tg_16_134 : tgt 16 (134) = 150 := rfl
theorem jk_16_134 : jok 16 (134) = True := eq_true (by unfold jok; decide)
theorem tg_16_141 : tgt 16 (141) = 157 := rfl
theorem jk_16_141 : jok 16 (141) = True := eq_true (by unfold jok; decide)
theorem tg_16_148 : tgt 16 (148) = 164 := rfl
theorem jk_16_148 : jok 16 (148) = True := eq_true (by unfold jok; decide)
theorem tg_16_155 : tgt 16 (155) = 171 := rfl
theorem jk_16_155 : jok 16 (155) = True := eq_true (by unfold jok; decide)
theorem tg_16_162 : tgt 16 (162) = 178 := rfl
theorem jk_16_162 : jok 16 (162) = True := eq_true (by unfold jok; decide)
theorem tg_16_169 : tgt 16 (169) = 185 := rfl
theorem jk_16_169 : jok 16 (169) = True := eq_true (by unfold jok; decide)
theorem tg_16_176 : tgt 16 (176) = 192 := rfl
theorem jk_16_176 : jok 16 (176) = True := eq_true (by unfold jok; decide)
theorem tg_16_186 : tgt 16 (186) = 202 := rfl
theorem jk_16_186 : jok 16 (186) = True := eq_true (by unfold jok; decide)
theorem tg_17_4 : tgt 17 (4) = 21 := rfl
theorem jk_17_4 : jok 17 (4) = True := eq_true (by unfold jok; decide)
theorem tg_17_5 : tgt 17 (5) = 22 := rfl
theorem jk_17_5 : jok 17 (5) = True := eq_true (by unfold jok; decide)
theorem tg_17_7 : tgt 17 (7) = 24 := rfl
theorem jk_17_7 : jok 17 (7) = True := eq_true (by unfold jok; decide)
theorem tg_17_11 : tgt 17 (11) = 28 := rfl
theorem jk_17_11 : jok 17 (11) = True := eq_true (by unfold jok; decide)
theorem tg_17_15 : tgt 17 (15) = 32 := rfl
theorem jk_17_15 : jok 17 (15) = True := eq_true (by unfold jok; decide)
theorem tg_17_17 : tgt 17 (17) = 34 := rfl
theorem jk_17_17 : jok 17 (17) = True := eq_true (by unfold jok; decide)
theorem tg_17_28 : tgt 17 (28) = 45 := rfl
theorem jk_17_28 : jok 17 (28) = True := eq_true (by unfold jok; decide)
theorem tg_17_47 : tgt 17 (47) = 64 := rfl
theorem jk_17_47 : jok 17 (47) = True := eq_true (by unfold jok; decide)
theorem tg_17_54 : tgt 17 (54) = 71 := rfl
theorem jk_17_54 : jok 17 (54) = True := eq_true (by unfold jok; decide)
theorem tg_17_61 : tgt 17 (61) = 78 := rfl
theorem jk_17_61 : jok 17 (61) = True := eq_true (by unfold jok; decide)
theorem tg_17_73 : tgt 17 (73) = 90 := rfl
theorem jk_17_73 : jok 17 (73) = True := eq_true (by unfold jok; decide)
theorem tg_17_80 : tgt 17 (80) = 97 := rfl
theorem jk_17_80 : jok 17 (80) = True := eq_true (by unfold jok; decide)
theorem tg_17_87 : tgt 17 (87) = 104 := rfl
theorem jk_17_87 : jok 17 (87) = True := eq_true (by unfold jok; decide)
theorem tg_17_94 : tgt 17 (94) = 111 := rfl
theorem jk_17_94 : jok 17 (94) = True := eq_true (by unfold jok; decide)
theorem tg_17_101 : tgt 17 (101) = 118 := rfl
theorem jk_17_101 : jok 17 (101) = True := eq_true (by unfold jok; decide)
theorem tg_17_108 : tgt 17 (108) = 125 := rfl
theorem jk_17_108 : jok 17 (108) = True := eq_true (by unfold jok; decide)
theorem tg_18_4 : tgt 18 (4) = 22 := rfl
theorem jk_18_4 : jok 18 (4) = True := eq_true (by unfold jok; decide)
theorem tg_18_5 : tgt 18 (5) = 23 := rfl
theorem jk_18_5 : jok 18 (5) = True := eq_true (by unfold jok; decide)
theorem tg_18_7 : tgt 18 (7) = 25 := rfl
theorem jk_18_7 : jok 18 (7) = True := eq_true (by unfold jok; decide)
theorem tg_18_9 : tgt 18 (9) = 27 := rfl
theorem jk_18_9 : jok 18 (9) = True := eq_true (by unfold jok; decide)
theorem tg_18_13 : tgt 18 (13) = 31 := rfl
theorem jk_18_13 : jok 18 (13) = True := eq_true (by unfold jok; decide)
theorem tg_18_16 : tgt 18 (16) = 34 := rfl
theorem jk_18_16 : jok 18 (16) = True := eq_true (by unfold jok; decide)
theorem tg_18_20 : tgt 18 (20) = 38 := rfl
theorem jk_18_20 : jok 18 (20) = True := eq_true (by unfold jok; decide)
theorem tg_18_23 : tgt 18 (23) = 41 := rfl
theorem jk_18_23 : jok 18 (23) = True := eq_true (by unfold jok; decide)
theorem tg_18_31 : tgt 18 (31) = 49 := rfl
theorem jk_18_31 : jok 18 (31) = True := eq_true (by unfold jok; decide)
theorem tg_18_34 : tgt 18 (34) = 52 := rfl
theorem jk_18_34 : jok 18 (34) = True := eq_true (by unfold jok; decide)
theorem tg_18_42 : tgt 18 (42) = 60 := rfl
theorem jk_18_42 : jok 18 (42) = True := eq_true (by unfold jok; decide)
theorem tg_18_68 : tgt 18 (68) = 86 := rfl
theorem jk_18_68 : jok 18 (68) = True := eq_true (by unfold jok; decide)
theorem tg_18_83 : tgt 18 (83) = 101 := rfl
theorem jk_18_83 : jok 18 (83) = True := eq_true (by unfold jok; decide)
theorem tg_18_101 : tgt 18 (101) = 119 := rfl
theorem jk_18_101 : jok 18 (101) = True := eq_true (by unfold jok; decide)
theorem tg_19_4 : tgt 19 (4) = 23 := rfl
theorem jk_19_4 : jok 19 (4) = True := eq_true (by unfold jok; decide)
theorem tg_19_6 : tgt 19 (6) = 25 := rfl
theorem jk_19_6 : jok 19 (6) = True := eq_true (by unfold jok; decide)
theorem tg_19_7 : tgt 19 (7) = 26 := rfl
theorem jk_19_7 : jok 19 (7) = True := eq_true (by unfold jok; decide)
theorem tg_19_10 : tgt 19 (10) = 29 := rfl
theorem jk_19_10 : jok 19 (10) = True := eq_true (by unfold jok; decide)
theorem tg_19_14 : tgt 19 (14) = 33 := rfl
theorem jk_19_14 : jok 19 (14) = True := eq_true (by unfold jok; decide)
theorem tg_19_18 : tgt 19 (18) = 37 := rfl
theorem jk_19_18 : jok 19 (18) = True := eq_true (by unfold jok; decide)
theorem tg_19_22 : tgt 19 (22) = 41 := rfl
theorem jk_19_22 : jok 19 (22) = True := eq_true (by unfold jok; decide)
theorem tg_19_23 : tgt 19 (23) = 42 := rfl
theorem jk_19_23 : jok 19 (23) = True := eq_true (by unfold jok; decide)
theorem tg_19_29 : tgt 19 (29) = 48 := rfl
theorem jk_19_29 : jok 19 (29) = True := eq_true (by unfold jok; decide)
theorem tg_19_43 : tgt 19 (43) = 62 := rfl
theorem jk_19_43 : jok 19 (43) = True := eq_true (by unfold jok; decide)
theorem tg_19_49 : tgt 19 (49) = 68 := rfl
theorem jk_19_49 : jok 19 (49) = True := eq_true (by unfold jok; decide)
theorem tg_19_55 : tgt 19 (55) = 74 := rfl
theorem jk_19_55 : jok 19 (55) = True := eq_true (by unfold jok; decide)
theorem tg_19_69 : tgt 19 (69) = 88 := rfl
theorem jk_19_69 : jok 19 (69) = True := eq_true (by unfold jok; decide)
theorem tg_19_89 : tgt 19 (89) = 108 := rfl
theorem jk_19_89 : jok 19 (89) = True := eq_true (by unfold jok; decide)
theorem tg_19_104 : tgt 19 (104) = 123 := rfl
theorem jk_19_104 : jok 19 (104) = True := eq_true (by unfold jok; decide)
theorem tg_19_119 : tgt 19 (119) = 138 := rfl
theorem jk_19_119 : jok 19 (119) = True := eq_true (by unfold jok; decide)
theorem tg_19_134 : tgt 19 (134) = 153 := rfl
theorem jk_19_134 : jok 19 (134) = True := eq_true (by unfold jok; decide)
theorem tg_19_149 : tgt 19 (149) = 168 := rfl
theorem jk_19_149 : jok 19 (149) = True := eq_true (by unfold jok; decide)
theorem tg_19_164 : tgt 19 (164) = 183 := rfl
theorem jk_19_164 : jok 19 (164) = True := eq_true (by unfold jok; decide)
theorem tg_19_179 : tgt 19 (179) = 198 := rfl
theorem jk_19_179 : jok 19 (179) = True := eq_true (by unfold jok; decide)
theorem tg_19_195 : tgt 19 (195) = 214 := rfl
theorem jk_19_195 : jok 19 (195) = True := eq_true (by unfold jok; decide)
theorem tg_19_211 : tgt 19 (211) = 230 := rfl
theorem jk_19_211 : jok 19 (211) = True := eq_true (by unfold jok; decide)
theorem tg_19_227 : tgt 19 (227) = 246 := rfl
theorem jk_19_227 : jok 19 (227) = True := eq_true (by unfold jok; decide)
theorem tg_19_240 : tgt 19 (240) = 259 := rfl
theorem jk_19_240 : jok 19 (240) = True := eq_true (by unfold jok; decide)
theorem tg_20_4 : tgt 20 (4) = 24 := rfl
theorem jk_20_4 : jok 20 (4) = True := eq_true (by unfold jok; decide)
theorem tg_20_5 : tgt 20 (5) = 25 := rfl
theorem jk_20_5 : jok 20 (5) = True := eq_true (by unfold jok; decide)
theorem tg_20_6 : tgt 20 (6) = 26 := rfl
theorem jk_20_6 : jok 20 (6) = True := eq_true (by unfold jok; decide)
theorem tg_20_7 : tgt 20 (7) = 27 := rfl
theorem jk_20_7 : jok 20 (7) = True := eq_true (by unfold jok; decide)
theorem tg_20_8 : tgt 20 (8) = 28 := rfl
theorem jk_20_8 : jok 20 (8) = True := eq_true (by unfold jok; decide)
theorem tg_20_13 : tgt 20 (13) = 33 := rfl
theorem jk_20_13 : jok 20 (13) = True := eq_true (by unfold jok; decide)
theorem tg_20_16 : tgt 20 (16) = 36 := rfl
theorem jk_20_16 : jok 20 (16) = True := eq_true (by unfold jok; decide)
theorem tg_21_4 : tgt 21 (4) = 25 := rfl
theorem jk_21_4 : jok 21 (4) = True := eq_true (by unfold jok; decide)
theorem tg_21_5 : tgt 21 (5) = 26 := rfl
theorem jk_21_5 : jok 21 (5) = True := eq_true (by unfold jok; decide)
theorem tg_21_7 : tgt 21 (7) = 28 := rfl
theorem jk_21_7 : jok 21 (7) = True := eq_true (by unfold jok; decide)
theorem tg_21_16 : tgt 21 (16) = 37 := rfl
theorem jk_21_16 : jok 21 (16) = True := eq_true (by unfold jok; decide)
theorem tg_21_20 : tgt 21 (20) = 41 := rfl
theorem jk_21_20 : jok 21 (20) = True := eq_true (by unfold jok; decide)
theorem tg_21_24 : tgt 21 (24) = 45 := rfl
theorem jk_21_24 : jok 21 (24) = True := eq_true (by unfold jok; decide)
theorem tg_22_4 : tgt 22 (4) = 26 := rfl
theorem jk_22_4 : jok 22 (4) = True := eq_true (by unfold jok; decide)
theorem tg_22_6 : tgt 22 (6) = 28 := rfl
theorem jk_22_6 : jok 22 (6) = True := eq_true (by unfold jok; decide)
theorem tg_22_10 : tgt 22 (10) = 32 := rfl
theorem jk_22_10 : jok 22 (10) = True := eq_true (by unfold jok; decide)
theorem tg_22_11 : tgt 22 (11) = 33 := rfl
theorem jk_22_11 : jok 22 (11) = True := eq_true (by unfold jok; decide)
theorem tg_22_12 : tgt 22 (12) = 34 := rfl
theorem jk_22_12 : jok 22 (12) = True := eq_true (by unfold jok; decide)
theorem tg_22_14 : tgt 22 (14) = 36 := rfl
theorem jk_22_14 : jok 22 (14) = True := eq_true (by unfold jok; decide)
theorem tg_22_15 : tgt 22 (15) = 37 := rfl
theorem jk_22_15 : jok 22 (15) = True := eq_true (by unfold jok; decide)
theorem tg_22_16 : tgt 22 (16) = 38 := rfl
theorem jk_22_16 : jok 22 (16) = True := eq_true (by unfold jok; decide)
theorem tg_22_42 : tgt 22 (42) = 64 := rfl
theorem jk_22_42 : jok 22 (42) = True := eq_true (by unfold jok; decide)
theorem tg_22_56 : tgt 22 (56) = 78 := rfl
theorem jk_22_56 : jok 22 (56) = True := eq_true (by unfold jok; decide)
theorem tg_22_63 : tgt 22 (63) = 85 := rfl
theorem jk_22_63 : jok 22 (63) = True := eq_true (by unfold jok; decide)
theorem tg_22_70 : tgt 22 (70) = 92 := rfl
theorem jk_22_70 : jok 22 (70) = True := eq_true (by unfold jok; decide)
theorem tg_22_84 : tgt 22 (84) = 106 := rfl
theorem jk_22_84 : jok 22 (84) = True := eq_true (by unfold jok; decide)
theorem tg_22_95 : tgt 22 (95) = 117 := rfl
theorem jk_22_95 : jok 22 (95) = True := eq_true (by unfold jok; decide)
theorem tg_23_m19 : tgt 23 (-19) = 4 := rfl
theorem jk_23_m19 : jok 23 (-19) = True := eq_true (by unfold jok; decide)
theorem tg_23_4 : tgt 23 (4) = 27 := rfl
theorem jk_23_4 : jok 23 (4) = True := eq_true (by unfold jok; decide)
theorem tg_23_7 : tgt 23 (7) = 30 := rfl
theorem jk_23_7 : jok 23 (7) = True := eq_true (by unfold jok; decide)
theorem tg_23_9 : tgt 23 (9) = 32 := rfl
theorem jk_23_9 : jok 23 (9) = True := eq_true (by unfold jok; decide)
theorem tg_23_11 : tgt 23 (11) = 34 := rfl
theorem jk_23_11 : jok 23 (11) = True := eq_true (by unfold jok; decide)
theorem tg_23_19 : tgt 23 (19) = 42 := rfl
theorem jk_23_19 : jok 23 (19) = True := eq_true (by unfold jok; decide)
theorem tg_23_40 : tgt 23 (40) = 63 := rfl
theorem jk_23_40 : jok 23 (40) = True := eq_true (by unfold jok; decide)
theorem tg_24_m22 : tgt 24 (-22) = 2 := rfl
theorem jk_24_m22 : jok 24 (-22) = True := eq_true (by unfold jok; decide)
theorem tg_24_m14 : tgt 24 (-14) = 10 := rfl
theorem jk_24_m14 : jok 24 (-14) = True := eq_true (by unfold jok; decide)
theorem tg_24_m12 : tgt 24 (-12) = 12 := rfl
theorem jk_24_m12 : jok 24 (-12) = True := eq_true (by unfold jok; decide)
theorem tg_24_4 : tgt 24 (4) = 28 := rfl
theorem jk_24_4 : jok 24 (4) = True := eq_true (by unfold jok; decide)
theorem tg_24_5 : tgt 24 (5) = 29 := rfl
theorem jk_24_5 : jok 24 (5) = True := eq_true (by unfold jok; decide)
theorem tg_24_7 : tgt 24 (7) = 31 := rfl
theorem jk_24_7 : jok 24 (7) = True := eq_true (by unfold jok; decide)
theorem tg_24_11 : tgt 24 (11) = 35 := rfl
theorem jk_24_11 : jok 24 (11) = True := eq_true (by unfold jok; decide)
theorem tg_24_12 : tgt 24 (12) = 36 := rfl
theorem jk_24_12 : jok 24 (12) = True := eq_true (by unfold jok; decide)
theorem tg_24_17 : tgt 24 (17) = 41 := rfl
theorem jk_24_17 : jok 24 (17) = True := eq_true (by unfold jok; decide)
theorem tg_24_21 : tgt 24 (21) = 45 := rfl
theorem jk_24_21 : jok 24 (21) = True := eq_true (by unfold jok; decide)
theorem tg_24_25 : tgt 24 (25) = 49 := rfl
theorem jk_24_25 : jok 24 (25) = True := eq_true (by unfold jok; decide)
theorem tg_24_26 : tgt 24 (26) = 50 := rfl
theorem jk_24_26 : jok 24 (26) = True := eq_true (by unfold jok; decide)
theorem tg_24_38 : tgt 24 (38) = 62 := rfl
theorem jk_24_38 : jok 24 (38) = True := eq_true (by unfold jok; decide)
theorem tg_24_128 : tgt 24 (128) = 152 := rfl
theorem jk_24_128 : jok 24 (128) = True := eq_true (by unfold jok; decide)
theorem tg_25_m22 : tgt 25 (-22) = 3 := rfl
theorem jk_25_m22 : jok 25 (-22) = True := eq_true (by unfold jok; decide)
theorem tg_25_4 : tgt 25 (4) = 29 := rfl
theorem jk_25_4 : jok 25 (4) = True := eq_true (by unfold jok; decide)
theorem tg_25_9 : tgt 25 (9) = 34 := rfl
theorem jk_25_9 : jok 25 (9) = True := eq_true (by unfold jok; decide)
theorem tg_25_11 : tgt 25 (11) = 36 := rfl
theorem jk_25_11 : jok 25 (11) = True := eq_true (by unfold jok; decide)
theorem tg_25_13 : tgt 25 (13) = 38 := rfl
theorem jk_25_13 : jok 25 (13) = True := eq_true (by unfold jok; decide)
theorem tg_25_18 : tgt 25 (18) = 43 := rfl
theorem jk_25_18 : jok 25 (18) = True := eq_true (by unfold jok; decide)
theorem tg_25_47 : tgt 25 (47) = 72 := rfl
theorem jk_25_47 : jok 25 (47) = True := eq_true (by unfold jok; decide)
theorem tg_25_51 : tgt 25 (51) = 76 := rfl
theorem jk_25_51 : jok 25 (51) = True := eq_true (by unfold jok; decide)
theorem tg_26_7 : tgt 26 (7) = 33 := rfl
theorem jk_26_7 : jok 26 (7) = True := eq_true (by unfold jok; decide)
theorem tg_26_9 : tgt 26 (9) = 35 := rfl
theorem jk_26_9 : jok 26 (9) = True := eq_true (by unfold jok; decide)
theorem tg_26_11 : tgt 26 (11) = 37 := rfl
theorem jk_26_11 : jok 26 (11) = True := eq_true (by unfold jok; decide)
theorem tg_26_12 : tgt 26 (12) = 38 := rfl
theorem jk_26_12 : jok 26 (12) = True := eq_true (by unfold jok; decide)
theorem tg_26_15 : tgt 26 (15) = 41 := rfl
theorem jk_26_15 : jok 26 (15) = True := eq_true (by unfold jok; decide)
theorem tg_26_24 : tgt 26 (24) = 50 := rfl
theorem jk_26_24 : jok 26 (24) = True := eq_true (by unfold jok; decide)
theorem tg_26_28 : tgt 26 (28) = 54 := rfl
theorem jk_26_28 : jok 26 (28) = True := eq_true (by unfold jok; decide)
theorem tg_26_39 : tgt 26 (39) = 65 := rfl
theorem jk_26_39 : jok 26 (39) = True := eq_true (by unfold jok; decide)
theorem tg_27_5 : tgt 27 (5) = 32 := rfl
theorem jk_27_5 : jok 27 (5) = True := eq_true (by unfold jok; decide)
theorem tg_27_7 : tgt 27 (7) = 34 := rfl
theorem jk_27_7 : jok 27 (7) = True := eq_true (by unfold jok; decide)
theorem tg_27_8 : tgt 27 (8) = 35 := rfl
theorem jk_27_8 : jok 27 (8) = True := eq_true (by unfold jok; decide)
theorem tg_27_10 : tgt 27 (10) = 37 := rfl
theorem jk_27_10 : jok 27 (10) = True := eq_true (by unfold jok; decide)
theorem tg_27_12 : tgt 27 (12) = 39 := rfl
theorem jk_27_12 : jok 27 (12) = True := eq_true (by unfold jok; decide)
theorem tg_27_25 : tgt 27 (25) = 52 := rfl
theorem jk_27_25 : jok 27 (25) = True := eq_true (by unfold jok; decide)
theorem tg_27_38 : tgt 27 (38) = 65 := rfl
theorem jk_27_38 : jok 27 (38) = True := eq_true (by unfold jok; decide)
theorem tg_28_m21 : tgt 28 (-21) = 7 := rfl
theorem jk_28_m21 : jok 28 (-21) = True := eq_true (by unfold jok; decide)
theorem tg_28_m20 : tgt 28 (-20) = 8 := rfl
theorem jk_28_m20 : jok 28 (-20) = True := eq_true (by unfold jok; decide)
theorem tg_28_15 : tgt 28 (15) = 43 := rfl
theorem jk_28_15 : jok 28 (15) = True := eq_true (by unfold jok; decide)
theorem tg_29_m22 : tgt 29 (-22) = 7 := rfl
theorem jk_29_m22 : jok 29 (-22) = True := eq_true (by unfold jok; decide)
theorem tg_29_m20 : tgt 29 (-20) = 9 := rfl
theorem jk_29_m20 : jok 29 (-20) = True := eq_true (by unfold jok; decide)
theorem tg_29_m15 : tgt 29 (-15) = 14 := rfl
theorem jk_29_m15 : jok 29 (-15) = True := eq_true (by unfold jok; decide)
theorem tg_29_6 : tgt 29 (6) = 35 := rfl
theorem jk_29_6 : jok 29 (6) = True := eq_true (by unfold jok; decide)
theorem tg_29_22 : tgt 29 (22) = 51 := rfl
theorem jk_29_22 : jok 29 (22) = True := eq_true (by unfold jok; decide)
theorem tg_29_39 : tgt 29 (39) = 68 := rfl
theorem jk_29_39 : jok 29 (39) = True := eq_true (by unfold jok; decide)
theorem tg_29_103 : tgt 29 (103) = 132 := rfl
theorem jk_29_103 : jok 29 (103) = True := eq_true (by unfold jok; decide)
theorem tg_30_m20 : tgt 30 (-20) = 10 := rfl
theorem jk_30_m20 : jok 30 (-20) = True := eq_true (by unfold jok; decide)
theorem tg_30_m13 : tgt 30 (-13) = 17 := rfl
theorem jk_30_m13 : jok 30 (-13) = True := eq_true (by unfold jok; decide)
theorem tg_30_7 : tgt 30 (7) = 37 := rfl
theorem jk_30_7 : jok 30 (7) = True := eq_true (by unfold jok; decide)
theorem tg_30_8 : tgt 30 (8) = 38 := rfl
theorem jk_30_8 : jok 30 (8) = True := eq_true (by unfold jok; decide)
theorem tg_30_9 : tgt 30 (9) = 39 := rfl
theorem jk_30_9 : jok 30 (9) = True := eq_true (by unfold jok; decide)
theorem tg_30_10 : tgt 30 (10) = 40 := rfl
theorem jk_30_10 : jok 30 (10) = True := eq_true (by unfold jok; decide)
theorem tg_30_12 : tgt 30 (12) = 42 := rfl
theorem jk_30_12 : jok 30 (12) = True := eq_true (by unfold jok; decide)
theorem tg_30_18 : tgt 30 (18) = 48 := rfl
theorem jk_30_18 : jok 30 (18) = True := eq_true (by unfold jok; decide)
theorem tg_31_m27 : tgt 31 (-27) = 4 := rfl
theorem jk_31_m27 : jok 31 (-27) = True := eq_true (by unfold jok; decide)
theorem tg_31_m15 : tgt 31 (-15) = 16 := rfl
theorem jk_31_m15 : jok 31 (-15) = True := eq_true (by unfold jok; decide)
theorem tg_31_4 : tgt 31 (4) = 35 := rfl
theorem jk_31_4 : jok 31 (4) = True := eq_true (by unfold jok; decide)
theorem tg_31_14 : tgt 31 (14) = 45 := rfl
theorem jk_31_14 : jok 31 (14) = True := eq_true (by unfold jok; decide)
theorem tg_31_16 : tgt 31 (16) = 47 := rfl
theorem jk_31_16 : jok 31 (16) = True := eq_true (by unfold jok; decide)
theorem tg_31_29 : tgt 31 (29) = 60 := rfl
theorem jk_31_29 : jok 31 (29) = True := eq_true (by unfold jok; decide)
theorem tg_31_37 : tgt 31 (37) = 68 := rfl
theorem jk_31_37 : jok 31 (37) = True := eq_true (by unfold jok; decide)
theorem tg_31_45 : tgt 31 (45) = 76 := rfl
theorem jk_31_45 : jok 31 (45) = True := eq_true (by unfold jok; decide)
theorem tg_31_53 : tgt 31 (53) = 84 := rfl
theorem jk_31_53 : jok 31 (53) = True := eq_true (by unfold jok; decide)
theorem tg_31_61 : tgt 31 (61) = 92 := rfl
theorem jk_31_61 : jok 31 (61) = True := eq_true (by unfold jok; decide)
theorem tg_32_m24 : tgt 32 (-24) = 8 := rfl
theorem jk_32_m24 : jok 32 (-24) = True := eq_true (by unfold jok; decide)
theorem tg_32_7 : tgt 32 (7) = 39 := rfl
theorem jk_32_7 : jok 32 (7) = True := eq_true (by unfold jok; decide)
theorem tg_32_8 : tgt 32 (8) = 40 := rfl
theorem jk_32_8 : jok 32 (8) = True := eq_true (by unfold jok; decide)
theorem tg_32_10 : tgt 32 (10) = 42 := rfl
theorem jk_32_10 : jok 32 (10) = True := eq_true (by unfold jok; decide)
theorem tg_32_23 : tgt 32 (23) = 55 := rfl
theorem jk_32_23 : jok 32 (23) = True := eq_true (by unfold jok; decide)
theorem tg_32_28 : tgt 32 (28) = 60 := rfl
theorem jk_32_28 : jok 32 (28) = True := eq_true (by unfold jok; decide)
theorem tg_32_46 : tgt 32 (46) = 78 := rfl
theorem jk_32_46 : jok 32 (46) = True := eq_true (by unfold jok; decide)
theorem tg_33_8 : tgt 33 (8) = 41 := rfl
theorem jk_33_8 : jok 33 (8) = True := eq_true (by unfold jok; decide)
theorem tg_33_9 : tgt 33 (9) = 42 := rfl
theorem jk_33_9 : jok 33 (9) = True := eq_true (by unfold jok; decide)
theorem tg_33_12 : tgt 33 (12) = 45 := rfl
theorem jk_33_12 : jok 33 (12) = True := eq_true (by unfold jok; decide)
theorem tg_33_16 : tgt 33 (16) = 49 := rfl
theorem jk_33_16 : jok 33 (16) = True := eq_true (by unfold jok; decide)
theorem tg_33_21 : tgt 33 (21) = 54 := rfl
theorem jk_33_21 : jok 33 (21) = True := eq_true (by unfold jok; decide)
theorem tg_33_26 : tgt 33 (26) = 59 := rfl
theorem jk_33_26 : jok 33 (26) = True := eq_true (by unfold jok; decide)
theorem tg_33_36 : tgt 33 (36) = 69 := rfl
theorem jk_33_36 : jok 33 (36) = True := eq_true (by unfold jok; decide)
theorem tg_33_37 : tgt 33 (37) = 70 := rfl
theorem jk_33_37 : jok 33 (37) = True := eq_true (by unfold jok; decide)
theorem tg_33_62 : tgt 33 (62) = 95 := rfl
theorem jk_33_62 : jok 33 (62) = True := eq_true (by unfold jok; decide)
theorem tg_34_m22 : tgt 34 (-22) = 12 := rfl
theorem jk_34_m22 : jok 34 (-22) = True := eq_true (by unfold jok; decide)
theorem tg_34_m19 : tgt 34 (-19) = 15 := rfl
theorem jk_34_m19 : jok 34 (-19) = True := eq_true (by unfold jok; decide)
theorem tg_34_m17 : tgt 34 (-17) = 17 := rfl
theorem jk_34_m17 : jok 34 (-17) = True := eq_true (by unfold jok; decide)
theorem tg_34_4 : tgt 34 (4) = 38 := rfl
theorem jk_34_4 : jok 34 (4) = True := eq_true (by unfold jok; decide)
theorem tg_34_7 : tgt 34 (7) = 41 := rfl
theorem jk_34_7 : jok 34 (7) = True := eq_true (by unfold jok; decide)
theorem tg_34_9 : tgt 34 (9) = 43 := rfl
theorem jk_34_9 : jok 34 (9) = True := eq_true (by unfold jok; decide)
theorem tg_34_14 : tgt 34 (14) = 48 := rfl
theorem jk_34_14 : jok 34 (14) = True := eq_true (by unfold jok; decide)
theorem tg_34_30 : tgt 34 (30) = 64 := rfl
theorem jk_34_30 : jok 34 (30) = True := eq_true (by unfold jok; decide)
theorem tg_35_m27 : tgt 35 (-27) = 8 := rfl
theorem jk_35_m27 : jok 35 (-27) = True := eq_true (by unfold jok; decide)
theorem tg_35_8 : tgt 35 (8) = 43 := rfl
theorem jk_35_8 : jok 35 (8) = True := eq_true (by unfold jok; decide)
theorem tg_35_14 : tgt 35 (14) = 49 := rfl
theorem jk_35_14 : jok 35 (14) = True := eq_true (by unfold jok; decide)
theorem tg_35_18 : tgt 35 (18) = 53 := rfl
theorem jk_35_18 : jok 35 (18) = True := eq_true (by unfold jok; decide)
theorem tg_35_22 : tgt 35 (22) = 57 := rfl
theorem jk_35_22 : jok 35 (22) = True := eq_true (by unfold jok; decide)
theorem tg_35_30 : tgt 35 (30) = 65 := rfl
theorem jk_35_30 : jok 35 (30) = True := eq_true (by unfold jok; decide)
theorem tg_35_33 : tgt 35 (33) = 68 := rfl
theorem jk_35_33 : jok 35 (33) = True := eq_true (by unfold jok; decide)
theorem tg_35_48 : tgt 35 (48) = 83 := rfl
theorem jk_35_48 : jok 35 (48) = True := eq_true (by unfold jok; decide)
theorem tg_35_63 : tgt 35 (63) = 98 := rfl
theorem jk_35_63 : jok 35 (63) = True := eq_true (by unfold jok; decide)
theorem tg_35_75 : tgt 35 (75) = 110 := rfl
theorem jk_35_75 : jok 35 (75) = True := eq_true (by unfold jok; decide)
theorem tg_35_1942 : tgt 35 (1942) = 1977 := rfl
theorem jk_35_1942 : jok 35 (1942) = True := eq_true (by unfold jok; decide)
theorem tg_36_5 : tgt 36 (5) = 41 := rfl
theorem jk_36_5 : jok 36 (5) = True := eq_true (by unfold jok; decide)
theorem tg_36_6 : tgt 36 (6) = 42 := rfl
theorem jk_36_6 : jok 36 (6) = True := eq_true (by unfold jok; decide)
theorem tg_36_7 : tgt 36 (7) = 43 := rfl
theorem jk_36_7 : jok 36 (7) = True := eq_true (by unfold jok; decide)
theorem tg_36_16 : tgt 36 (16) = 52 := rfl
theorem jk_36_16 : jok 36 (16) = True := eq_true (by unfold jok; decide)
theorem tg_36_26 : tgt 36 (26) = 62 := rfl
theorem jk_36_26 : jok 36 (26) = True := eq_true (by unfold jok; decide)
theorem tg_36_38 : tgt 36 (38) = 74 := rfl
theorem jk_36_38 : jok 36 (38) = True := eq_true (by unfold jok; decide)
theorem tg_37_m26 : tgt 37 (-26) = 11 := rfl
theorem jk_37_m26 : jok 37 (-26) = True := eq_true (by unfold jok; decide)
theorem tg_37_10 : tgt 37 (10) = 47 := rfl
theorem jk_37_10 : jok 37 (10) = True := eq_true (by unfold jok; decide)
theorem tg_37_12 : tgt 37 (12) = 49 := rfl
theorem jk_37_12 : jok 37 (12) = True := eq_true (by unfold jok; decide)
theorem tg_37_14 : tgt 37 (14) = 51 := rfl
theorem jk_37_14 : jok 37 (14) = True := eq_true (by unfold jok; decide)
theorem tg_37_15 : tgt 37 (15) = 52 := rfl
theorem jk_37_15 : jok 37 (15) = True := eq_true (by unfold jok; decide)
theorem tg_37_16 : tgt 37 (16) = 53 := rfl
theorem jk_37_16 : jok 37 (16) = True := eq_true (by unfold jok; decide)
theorem tg_37_28 : tgt 37 (28) = 65 := rfl
theorem jk_37_28 : jok 37 (28) = True := eq_true (by unfold jok; decide)
theorem tg_38_m28 : tgt 38 (-28) = 10 := rfl
theorem jk_38_m28 : jok 38 (-28) = True := eq_true (by unfold jok; decide)
theorem tg_38_m26 : tgt 38 (-26) = 12 := rfl
theorem jk_38_m26 : jok 38 (-26) = True := eq_true (by unfold jok; decide)
theorem tg_38_4 : tgt 38 (4) = 42 := rfl
theorem jk_38_4 : jok 38 (4) = True := eq_true (by unfold jok; decide)
theorem tg_38_6 : tgt 38 (6) = 44 := rfl
theorem jk_38_6 : jok 38 (6) = True := eq_true (by unfold jok; decide)
theorem tg_38_11 : tgt 38 (11) = 49 := rfl
theorem jk_38_11 : jok 38 (11) = True := eq_true (by unfold jok; decide)
theorem tg_38_12 : tgt 38 (12) = 50 := rfl
theorem jk_38_12 : jok 38 (12) = True := eq_true (by unfold jok; decide)
theorem tg_38_13 : tgt 38 (13) = 51 := rfl
theorem jk_38_13 : jok 38 (13) = True := eq_true (by unfold jok; decide)
theorem tg_38_16 : tgt 38 (16) = 54 := rfl
theorem jk_38_16 : jok 38 (16) = True := eq_true (by unfold jok; decide)
theorem tg_38_59 : tgt 38 (59) = 97 := rfl
theorem jk_38_59 : jok 38 (59) = True := eq_true (by unfold jok; decide)
theorem tg_39_m27 : tgt 39 (-27) = 12 := rfl
theorem jk_39_m27 : jok 39 (-27) = True := eq_true (by unfold jok; decide)
theorem tg_39_m23 : tgt 39 (-23) = 16 := rfl
theorem jk_39_m23 : jok 39 (-23) = True := eq_true (by unfold jok; decide)
theorem tg_39_5 : tgt 39 (5) = 44 := rfl
theorem jk_39_5 : jok 39 (5) = True := eq_true (by unfold jok; decide)
theorem tg_39_7 : tgt 39 (7) = 46 := rfl
theorem jk_39_7 : jok 39 (7) = True := eq_true (by unfold jok; decide)
theorem tg_39_11 : tgt 39 (11) = 50 := rfl
theorem jk_39_11 : jok 39 (11) = True := eq_true (by unfold jok; decide)
theorem tg_39_12 : tgt 39 (12) = 51 := rfl
theorem jk_39_12 : jok 39 (12) = True := eq_true (by unfold jok; decide)
theorem tg_40_4 : tgt 40 (4) = 44 := rfl
theorem jk_40_4 : jok 40 (4) = True := eq_true (by unfold jok; decide)
theorem tg_40_17 : tgt 40 (17) = 57 := rfl
theorem jk_40_17 : jok 40 (17) = True := eq_true (by unfold jok; decide)
theorem tg_40_19 : tgt 40 (19) = 59 := rfl
theorem jk_40_19 : jok 40 (19) = True := eq_true (by unfold jok; decide)
theorem tg_40_21 : tgt 40 (21) = 61 := rfl
theorem jk_40_21 : jok 40 (21) = True := eq_true (by unfold jok; decide)
theorem tg_40_34 : tgt 40 (34) = 74 := rfl
theorem jk_40_34 : jok 40 (34) = True := eq_true (by unfold jok; decide)
theorem tg_40_45 : tgt 40 (45) = 85 := rfl
theorem jk_40_45 : jok 40 (45) = True := eq_true (by unfold jok; decide)
theorem tg_41_13 : tgt 41 (13) = 54 := rfl
theorem jk_41_13 : jok 41 (13) = True := eq_true (by unfold jok; decide)
theorem tg_41_44 : tgt 41 (44) = 85 := rfl
theorem jk_41_44 : jok 41 (44) = True := eq_true (by unfold jok; decide)
theorem tg_42_m22 : tgt 42 (-22) = 20 := rfl
theorem jk_42_m22 : jok 42 (-22) = True := eq_true (by unfold jok; decide)
theorem tg_42_7 : tgt 42 (7) = 49 := rfl
theorem jk_42_7 : jok 42 (7) = True := eq_true (by unfold jok; decide)
theorem tg_42_8 : tgt 42 (8) = 50 := rfl
theorem jk_42_8 : jok 42 (8) = True := eq_true (by unfold jok; decide)
theorem tg_42_11 : tgt 42 (11) = 53 := rfl
theorem jk_42_11 : jok 42 (11) = True := eq_true (by unfold jok; decide)
theorem tg_42_33 : tgt 42 (33) = 75 := rfl
theorem jk_42_33 : jok 42 (33) = True := eq_true (by unfold jok; decide)
theorem tg_43_4 : tgt 43 (4) = 47 := rfl
theorem jk_43_4 : jok 43 (4) = True := eq_true (by unfold jok; decide)
theorem tg_43_7 : tgt 43 (7) = 50 := rfl
theorem jk_43_7 : jok 43 (7) = True := eq_true (by unfold jok; decide)
theorem tg_43_13 : tgt 43 (13) = 56 := rfl
theorem jk_43_13 : jok 43 (13) = True := eq_true (by unfold jok; decide)
theorem tg_44_5 : tgt 44 (5) = 49 := rfl
theorem jk_44_5 : jok 44 (5) = True := eq_true (by unfold jok; decide)
theorem tg_44_7 : tgt 44 (7) = 51 := rfl
theorem jk_44_7 : jok 44 (7) = True := eq_true (by unfold jok; decide)
theorem tg_44_13 : tgt 44 (13) = 57 := rfl
theorem jk_44_13 : jok 44 (13) = True := eq_true (by unfold jok; decide)
theorem tg_44_19 : tgt 44 (19) = 63 := rfl
theorem jk_44_19 : jok 44 (19) = True := eq_true (by unfold jok; decide)
theorem tg_44_28 : tgt 44 (28) = 72 := rfl
theorem jk_44_28 : jok 44 (28) = True := eq_true (by unfold jok; decide)
theorem tg_44_35 : tgt 44 (35) = 79 := rfl
theorem jk_44_35 : jok 44 (35) = True := eq_true (by unfold jok; decide)
theorem tg_45_m41 : tgt 45 (-41) = 4 := rfl
theorem jk_45_m41 : jok 45 (-41) = True := eq_true (by unfold jok; decide)
theorem tg_45_10 : tgt 45 (10) = 55 := rfl
theorem jk_45_10 : jok 45 (10) = True := eq_true (by unfold jok; decide)
theorem tg_45_11 : tgt 45 (11) = 56 := rfl
theorem jk_45_11 : jok 45 (11) = True := eq_true (by unfold jok; decide)
theorem tg_45_16 : tgt 45 (16) = 61 := rfl
theorem jk_45_16 : jok 45 (16) = True := eq_true (by unfold jok; decide)
theorem tg_45_31 : tgt 45 (31) = 76 := rfl
theorem jk_45_31 : jok 45 (31) = True := eq_true (by unfold jok; decide)
theorem tg_45_57 : tgt 45 (57) = 102 := rfl
theorem jk_45_57 : jok 45 (57) = True := eq_true (by unfold jok; decide)
theorem tg_45_135 : tgt 45 (135) = 180 := rfl
theorem jk_45_135 : jok 45 (135) = True := eq_true (by unfold jok; decide)
theorem tg_45_191 : tgt 45 (191) = 236 := rfl
theorem jk_45_191 : jok 45 (191) = True := eq_true (by unfold jok; decide)
theorem tg_45_295 : tgt 45 (295) = 340 := rfl
theorem jk_45_295 : jok 45 (295) = True := eq_true (by unfold jok; decide)
theorem tg_45_351 : tgt 45 (351) = 396 := rfl
theorem jk_45_351 : jok 45 (351) = True := eq_true (by unfold jok; decide)
theorem tg_45_407 : tgt 45 (407) = 452 := rfl
theorem jk_45_407 : jok 45 (407) = True := eq_true (by unfold jok; decide)
theorem tg_45_475 : tgt 45 (475) = 520 := rfl
theorem jk_45_475 : jok 45 (475) = True := eq_true (by unfold jok; decide)
theorem tg_45_555 : tgt 45 (555) = 600 := rfl
theorem jk_45_555 : jok 45 (555) = True := eq_true (by unfold jok; decide)
theorem tg_45_639 : tgt 45 (639) = 684 := rfl
theorem jk_45_639 : jok 45 (639) = True := eq_true (by unfold jok; decide)
theorem tg_45_707 : tgt 45 (707) = 752 := rfl
theorem jk_45_707 : jok 45 (707) = True := eq_true (by unfold jok; decide)
theorem tg_45_775 : tgt 45 (775) = 820 := rfl
theorem jk_45_775 : jok 45 (775) = True := eq_true (by unfold jok; decide)
theorem tg_45_831 : tgt 45 (831) = 876 := rfl
theorem jk_45_831 : jok 45 (831) = True := eq_true (by unfold jok; decide)
theorem tg_45_911 : tgt 45 (911) = 956 := rfl
theorem jk_45_911 : jok 45 (911) = True := eq_true (by unfold jok; decide)
theorem tg_45_991 : tgt 45 (991) = 1036 := rfl
theorem jk_45_991 : jok 45 (991) = True := eq_true (by unfold jok; decide)
theorem tg_45_1047 : tgt 45 (1047) = 1092 := rfl
theorem jk_45_1047 : jok 45 (1047) = True := eq_true (by unfold jok; decide)
theorem tg_45_1103 : tgt 45 (1103) = 1148 := rfl
theorem jk_45_1103 : jok 45 (1103) = True := eq_true (by unfold jok; decide)
theorem tg_45_1159 : tgt 45 (1159) = 1204 := rfl
theorem jk_45_1159 : jok 45 (1159) = True := eq_true (by unfold jok; decide)
theorem tg_45_1239 : tgt 45 (1239) = 1284 := rfl
theorem jk_45_1239 : jok 45 (1239) = True := eq_true (by unfold jok; decide)
theorem tg_45_1295 : tgt 45 (1295) = 1340 := rfl
theorem jk_45_1295 : jok 45 (1295) = True := eq_true (by unfold jok; decide)
theorem tg_45_1351 : tgt 45 (1351) = 1396 := rfl
theorem jk_45_1351 : jok 45 (1351) = True := eq_true (by unfold jok; decide)
theorem tg_45_1407 : tgt 45 (1407) = 1452 := rfl
theorem jk_45_1407 : jok 45 (1407) = True := eq_true (by unfold jok; decide)
theorem tg_45_1463 : tgt 45 (1463) = 1508 := rfl
theorem jk_45_1463 : jok 45 (1463) = True := eq_true (by unfold jok; decide)
theorem tg_45_1476 : tgt 45 (1476) = 1521 := rfl
theorem jk_45_1476 : jok 45 (1476) = True := eq_true (by unfold jok; decide)
theorem tg_45_1541 : tgt 45 (1541) = 1586 := rfl
theorem jk_45_1541 : jok 45 (1541) = True := eq_true (by unfold jok; decide)
theorem tg_45_1607 : tgt 45 (1607) = 1652 := rfl
theorem jk_45_1607 : jok 45 (1607) = True := eq_true (by unfold jok; decide)
theorem tg_45_1665 : tgt 45 (1665) = 1710 := rfl
theorem jk_45_1665 : jok 45 (1665) = True := eq_true (by unfold jok; decide)
theorem tg_45_1709 : tgt 45 (1709) = 1754 := rfl
theorem jk_45_1709 : jok 45 (1709) = True := eq_true (by unfold jok; decide)
theorem tg_45_1753 : tgt 45 (1753) = 1798 := rfl
theorem jk_45_1753 : jok 45 (1753) = True := eq_true (by unfold jok; decide)
theorem tg_45_1825 : tgt 45 (1825) = 1870 := rfl
theorem jk_45_1825 : jok 45 (1825) = True := eq_true (by unfold jok; decide)
theorem tg_45_1869 : tgt 45 (1869) = 1914 := rfl
theorem jk_45_1869 : jok 45 (1869) = True := eq_true (by unfold jok; decide)
theorem tg_45_1882 : tgt 45 (1882) = 1927 := rfl
theorem jk_45_1882 : jok 45 (1882) = True := eq_true (by unfold jok; decide)
theorem tg_45_1926 : tgt 45 (1926) = 1971 := rfl
theorem jk_45_1926 : jok 45 (1926) = True := eq_true (by unfold jok; decide)
theorem tg_46_m34 : tgt 46 (-34) = 12 := rfl
theorem jk_46_m34 : jok 46 (-34) = True := eq_true (by unfold jok; decide)
theorem tg_46_4 : tgt 46 (4) = 50 := rfl
theorem jk_46_4 : jok 46 (4) = True := eq_true (by unfold jok; decide)
theorem tg_46_6 : tgt 46 (6) = 52 := rfl
theorem jk_46_6 : jok 46 (6) = True := eq_true (by unfold jok; decide)
theorem tg_46_11 : tgt 46 (11) = 57 := rfl
theorem jk_46_11 : jok 46 (11) = True := eq_true (by unfold jok; decide)
theorem tg_46_32 : tgt 46 (32) = 78 := rfl
theorem jk_46_32 : jok 46 (32) = True := eq_true (by unfold jok; decide)
theorem tg_46_43 : tgt 46 (43) = 89 := rfl
theorem jk_46_43 : jok 46 (43) = True := eq_true (by unfold jok; decide)
theorem tg_47_m29 : tgt 47 (-29) = 18 := rfl
theorem jk_47_m29 : jok 47 (-29) = True := eq_true (by unfold jok; decide)
theorem tg_47_4 : tgt 47 (4) = 51 := rfl
theorem jk_47_4 : jok 47 (4) = True := eq_true (by unfold jok; decide)
theorem tg_47_5 : tgt 47 (5) = 52 := rfl
theorem jk_47_5 : jok 47 (5) = True := eq_true (by unfold jok; decide)
theorem tg_47_7 : tgt 47 (7) = 54 := rfl
theorem jk_47_7 : jok 47 (7) = True := eq_true (by unfold jok; decide)
theorem tg_47_8 : tgt 47 (8) = 55 := rfl
theorem jk_47_8 : jok 47 (8) = True := eq_true (by unfold jok; decide)
theorem tg_47_12 : tgt 47 (12) = 59 := rfl
theorem jk_47_12 : jok 47 (12) = True := eq_true (by unfold jok; decide)
theorem tg_48_4 : tgt 48 (4) = 52 := rfl
theorem jk_48_4 : jok 48 (4) = True := eq_true (by unfold jok; decide)
theorem tg_48_6 : tgt 48 (6) = 54 := rfl
theorem jk_48_6 : jok 48 (6) = True := eq_true (by unfold jok; decide)
theorem tg_48_11 : tgt 48 (11) = 59 := rfl
theorem jk_48_11 : jok 48 (11) = True := eq_true (by unfold jok; decide)
theorem tg_48_34 : tgt 48 (34) = 82 := rfl
theorem jk_48_34 : jok 48 (34) = True := eq_true (by unfold jok; decide)
theorem tg_49_m37 : tgt 49 (-37) = 12 := rfl
theorem jk_49_m37 : jok 49 (-37) = True := eq_true (by unfold jok; decide)
theorem tg_49_m19 : tgt 49 (-19) = 30 := rfl
theorem jk_49_m19 : jok 49 (-19) = True := eq_true (by unfold jok; decide)
theorem tg_49_7 : tgt 49 (7) = 56 := rfl
theorem jk_49_7 : jok 49 (7) = True := eq_true (by unfold jok; decide)
theorem tg_49_8 : tgt 49 (8) = 57 := rfl
theorem jk_49_8 : jok 49 (8) = True := eq_true (by unfold jok; decide)
theorem tg_49_14 : tgt 49 (14) = 63 := rfl
theorem jk_49_14 : jok 49 (14) = True := eq_true (by unfold jok; decide)
theorem tg_49_28 : tgt 49 (28) = 77 := rfl
theorem jk_49_28 : jok 49 (28) = True := eq_true (by unfold jok; decide)
theorem tg_50_m40 : tgt 50 (-40) = 10 := rfl
theorem jk_50_m40 : jok 50 (-40) = True := eq_true (by unfold jok; decide)
theorem tg_50_m22 : tgt 50 (-22) = 28 := rfl
theorem jk_50_m22 : jok 50 (-22) = True := eq_true (by unfold jok; decide)
theorem tg_50_8 : tgt 50 (8) = 58 := rfl
theorem jk_50_8 : jok 50 (8) = True := eq_true (by unfold jok; decide)
theorem tg_50_9 : tgt 50 (9) = 59 := rfl
theorem jk_50_9 : jok 50 (9) = True := eq_true (by unfold jok; decide)
theorem tg_51_m37 : tgt 51 (-37) = 14 := rfl
theorem jk_51_m37 : jok 51 (-37) = True := eq_true (by unfold jok; decide)
theorem tg_51_m16 : tgt 51 (-16) = 35 := rfl
theorem jk_51_m16 : jok 51 (-16) = True := eq_true (by unfold jok; decide)
theorem tg_51_4 : tgt 51 (4) = 55 := rfl
theorem jk_51_4 : jok 51 (4) = True := eq_true (by unfold jok; decide)
theorem tg_51_5 : tgt 51 (5) = 56 := rfl
theorem jk_51_5 : jok 51 (5) = True := eq_true (by unfold jok; decide)
theorem tg_51_8 : tgt 51 (8) = 59 := rfl
theorem jk_51_8 : jok 51 (8) = True := eq_true (by unfold jok; decide)
theorem tg_51_28 : tgt 51 (28) = 79 := rfl
theorem jk_51_28 : jok 51 (28) = True := eq_true (by unfold jok; decide)
theorem tg_52_6 : tgt 52 (6) = 58 := rfl
theorem jk_52_6 : jok 52 (6) = True := eq_true (by unfold jok; decide)
theorem tg_52_8 : tgt 52 (8) = 60 := rfl
theorem jk_52_8 : jok 52 (8) = True := eq_true (by unfold jok; decide)
theorem tg_52_22 : tgt 52 (22) = 74 := rfl
theorem jk_52_22 : jok 52 (22) = True := eq_true (by unfold jok; decide)
theorem tg_52_25 : tgt 52 (25) = 77 := rfl
theorem jk_52_25 : jok 52 (25) = True := eq_true (by unfold jok; decide)
theorem tg_52_57 : tgt 52 (57) = 109 := rfl
theorem jk_52_57 : jok 52 (57) = True := eq_true (by unfold jok; decide)
theorem tg_53_m49 : tgt 53 (-49) = 4 := rfl
theorem jk_53_m49 : jok 53 (-49) = True := eq_true (by unfold jok; decide)
theorem tg_53_4 : tgt 53 (4) = 57 := rfl
theorem jk_53_4 : jok 53 (4) = True := eq_true (by unfold jok; decide)
theorem tg_53_7 : tgt 53 (7) = 60 := rfl
theorem jk_53_7 : jok 53 (7) = True := eq_true (by unfold jok; decide)
theorem tg_53_15 : tgt 53 (15) = 68 := rfl
theorem jk_53_15 : jok 53 (15) = True := eq_true (by unfold jok; decide)
theorem tg_53_17 : tgt 53 (17) = 70 := rfl
theorem jk_53_17 : jok 53 (17) = True := eq_true (by unfold jok; decide)
theorem tg_54_4 : tgt 54 (4) = 58 := rfl
theorem jk_54_4 : jok 54 (4) = True := eq_true (by unfold jok; decide)
theorem tg_54_47 : tgt 54 (47) = 101 := rfl
theorem jk_54_47 : jok 54 (47) = True := eq_true (by unfold jok; decide)
theorem tg_54_103 : tgt 54 (103) = 157 := rfl
theorem jk_54_103 : jok 54 (103) = True := eq_true (by unfold jok; decide)
theorem tg_55_15 : tgt 55 (15) = 70 := rfl
theorem jk_55_15 : jok 55 (15) = True := eq_true (by unfold jok; decide)
theorem tg_55_18 : tgt 55 (18) = 73 := rfl
theorem jk_55_18 : jok 55 (18) = True := eq_true (by unfold jok; decide)
theorem tg_55_22 : tgt 55 (22) = 77 := rfl
theorem jk_55_22 : jok 55 (22) = True := eq_true (by unfold jok; decide)
theorem tg_56_m47 : tgt 56 (-47) = 9 := rfl
theorem jk_56_m47 : jok 56 (-47) = True := eq_true (by unfold jok; decide)
theorem tg_56_m37 : tgt 56 (-37) = 19 := rfl
theorem jk_56_m37 : jok 56 (-37) = True := eq_true (by unfold jok; decide)
theorem tg_56_5 : tgt 56 (5) = 61 := rfl
theorem jk_56_5 : jok 56 (5) = True := eq_true (by unfold jok; decide)
theorem tg_56_30 : tgt 56 (30) = 86 := rfl
theorem jk_56_30 : jok 56 (30) = True := eq_true (by unfold jok; decide)
theorem tg_56_57 : tgt 56 (57) = 113 := rfl
theorem jk_56_57 : jok 56 (57) = True := eq_true (by unfold jok; decide)
theorem tg_57_m45 : tgt 57 (-45) = 12 := rfl
theorem jk_57_m45 : jok 57 (-45) = True := eq_true (by unfold jok; decide)
theorem tg_57_m34 : tgt 57 (-34) = 23 := rfl
theorem jk_57_m34 : jok 57 (-34) = True := eq_true (by unfold jok; decide)
theorem tg_57_4 : tgt 57 (4) = 61 := rfl
theorem jk_57_4 : jok 57 (4) = True := eq_true (by unfold jok; decide)
theorem tg_57_6 : tgt 57 (6) = 63 := rfl
theorem jk_57_6 : jok 57 (6) = True := eq_true (by unfold jok; decide)
theorem tg_57_13 : tgt 57 (13) = 70 := rfl
theorem jk_57_13 : jok 57 (13) = True := eq_true (by unfold jok; decide)
theorem tg_57_29 : tgt 57 (29) = 86 := rfl
theorem jk_57_29 : jok 57 (29) = True := eq_true (by unfold jok; decide)
theorem tg_58_m22 : tgt 58 (-22) = 36 := rfl
theorem jk_58_m22 : jok 58 (-22) = True := eq_true (by unfold jok; decide)
theorem tg_58_6 : tgt 58 (6) = 64 := rfl
theorem jk_58_6 : jok 58 (6) = True := eq_true (by unfold jok; decide)
theorem tg_58_56 : tgt 58 (56) = 114 := rfl
theorem jk_58_56 : jok 58 (56) = True := eq_true (by unfold jok; decide)
theorem tg_59_m25 : tgt 59 (-25) = 34 := rfl
theorem jk_59_m25 : jok 59 (-25) = True := eq_true (by unfold jok; decide)
theorem tg_59_11 : tgt 59 (11) = 70 := rfl
theorem jk_59_11 : jok 59 (11) = True := eq_true (by unfold jok; decide)
theorem tg_59_13 : tgt 59 (13) = 72 := rfl
theorem jk_59_13 : jok 59 (13) = True := eq_true (by unfold jok; decide)
theorem tg_59_17 : tgt 59 (17) = 76 := rfl
theorem jk_59_17 : jok 59 (17) = True := eq_true (by unfold jok; decide)
theorem tg_59_30 : tgt 59 (30) = 89 := rfl
theorem jk_59_30 : jok 59 (30) = True := eq_true (by unfold jok; decide)
theorem tg_60_m13 : tgt 60 (-13) = 47 := rfl
theorem jk_60_m13 : jok 60 (-13) = True := eq_true (by unfold jok; decide)
theorem tg_60_7 : tgt 60 (7) = 67 := rfl
theorem jk_60_7 : jok 60 (7) = True := eq_true (by unfold jok; decide)
theorem tg_60_16 : tgt 60 (16) = 76 := rfl
theorem jk_60_16 : jok 60 (16) = True := eq_true (by unfold jok; decide)
theorem tg_60_25 : tgt 60 (25) = 85 := rfl
theorem jk_60_25 : jok 60 (25) = True := eq_true (by unfold jok; decide)
theorem tg_61_m31 : tgt 61 (-31) = 30 := rfl
theorem jk_61_m31 : jok 61 (-31) = True := eq_true (by unfold jok; decide)
theorem tg_61_12 : tgt 61 (12) = 73 := rfl
theorem jk_61_12 : jok 61 (12) = True := eq_true (by unfold jok; decide)
theorem tg_61_16 : tgt 61 (16) = 77 := rfl
theorem jk_61_16 : jok 61 (16) = True := eq_true (by unfold jok; decide)
theorem tg_61_42 : tgt 61 (42) = 103 := rfl
theorem jk_61_42 : jok 61 (42) = True := eq_true (by unfold jok; decide)
theorem tg_62_m41 : tgt 62 (-41) = 21 := rfl
theorem jk_62_m41 : jok 62 (-41) = True := eq_true (by unfold jok; decide)
theorem tg_62_m39 : tgt 62 (-39) = 23 := rfl
theorem jk_62_m39 : jok 62 (-39) = True := eq_true (by unfold jok; decide)
theorem tg_62_m34 : tgt 62 (-34) = 28 := rfl
theorem jk_62_m34 : jok 62 (-34) = True := eq_true (by unfold jok; decide)
theorem tg_62_5 : tgt 62 (5) = 67 := rfl
theorem jk_62_5 : jok 62 (5) = True := eq_true (by unfold jok; decide)
theorem tg_62_16 : tgt 62 (16) = 78 := rfl
theorem jk_62_16 : jok 62 (16) = True := eq_true (by unfold jok; decide)
theorem tg_62_35 : tgt 62 (35) = 97 := rfl
theorem jk_62_35 : jok 62 (35) = True := eq_true (by unfold jok; decide)
theorem tg_64_4 : tgt 64 (4) = 68 := rfl
theorem jk_64_4 : jok 64 (4) = True := eq_true (by unfold jok; decide)
theorem tg_64_12 : tgt 64 (12) = 76 := rfl
theorem jk_64_12 : jok 64 (12) = True := eq_true (by unfold jok; decide)
theorem tg_64_85 : tgt 64 (85) = 149 := rfl
theorem jk_64_85 : jok 64 (85) = True := eq_true (by unfold jok; decide)
theorem tg_65_m42 : tgt 65 (-42) = 23 := rfl
theorem jk_65_m42 : jok 65 (-42) = True := eq_true (by unfold jok; decide)
theorem tg_65_11 : tgt 65 (11) = 76 := rfl
theorem jk_65_11 : jok 65 (11) = True := eq_true (by unfold jok; decide)
theorem tg_65_34 : tgt 65 (34) = 99 := rfl
theorem jk_65_34 : jok 65 (34) = True := eq_true (by unfold jok; decide)
theorem tg_65_164 : tgt 65 (164) = 229 := rfl
theorem jk_65_164 : jok 65 (164) = True := eq_true (by unfold jok; decide)
theorem tg_66_m38 : tgt 66 (-38) = 28 := rfl
theorem jk_66_m38 : jok 66 (-38) = True := eq_true (by unfold jok; decide)
theorem tg_66_7 : tgt 66 (7) = 73 := rfl
theorem jk_66_7 : jok 66 (7) = True := eq_true (by unfold jok; decide)
theorem tg_66_22 : tgt 66 (22) = 88 := rfl
theorem jk_66_22 : jok 66 (22) = True := eq_true (by unfold jok; decide)
theorem tg_67_m38 : tgt 67 (-38) = 29 := rfl
theorem jk_67_m38 : jok 67 (-38) = True := eq_true (by unfold jok; decide)
theorem tg_67_7 : tgt 67 (7) = 74 := rfl
theorem jk_67_7 : jok 67 (7) = True := eq_true (by unfold jok; decide)
theorem tg_67_11 : tgt 67 (11) = 78 := rfl
theorem jk_67_11 : jok 67 (11) = True := eq_true (by unfold jok; decide)
theorem tg_68_8 : tgt 68 (8) = 76 := rfl
theorem jk_68_8 : jok 68 (8) = True := eq_true (by unfold jok; decide)
theorem tg_68_61 : tgt 68 (61) = 129 := rfl
theorem jk_68_61 : jok 68 (61) = True := eq_true (by unfold jok; decide)
theorem tg_69_m47 : tgt 69 (-47) = 22 := rfl
theorem jk_69_m47 : jok 69 (-47) = True := eq_true (by unfold jok; decide)
theorem tg_69_m31 : tgt 69 (-31) = 38 := rfl
theorem jk_69_m31 : jok 69 (-31) = True := eq_true (by unfold jok; decide)
theorem tg_69_7 : tgt 69 (7) = 76 := rfl
theorem jk_69_7 : jok 69 (7) = True := eq_true (by unfold jok; decide)
theorem tg_69_9 : tgt 69 (9) = 78 := rfl
theorem jk_69_9 : jok 69 (9) = True := eq_true (by unfold jok; decide)
theorem tg_70_m63 : tgt 70 (-63) = 7 := rfl
theorem jk_70_m63 : jok 70 (-63) = True := eq_true (by unfold jok; decide)
theorem tg_70_47 : tgt 70 (47) = 117 := rfl
theorem jk_70_47 : jok 70 (47) = True := eq_true (by unfold jok; decide)
theorem tg_71_4 : tgt 71 (4) = 75 := rfl
theorem jk_71_4 : jok 71 (4) = True := eq_true (by unfold jok; decide)
theorem tg_72_10 : tgt 72 (10) = 82 := rfl
theorem jk_72_10 : jok 72 (10) = True := eq_true (by unfold jok; decide)
theorem tg_72_17 : tgt 72 (17) = 89 := rfl
theorem jk_72_17 : jok 72 (17) = True := eq_true (by unfold jok; decide)
theorem tg_72_24 : tgt 72 (24) = 96 := rfl
theorem jk_72_24 : jok 72 (24) = True := eq_true (by unfold jok; decide)
theorem tg_72_59 : tgt 72 (59) = 131 := rfl
theorem jk_72_59 : jok 72 (59) = True := eq_true (by unfold jok; decide)
theorem tg_73_m51 : tgt 73 (-51) = 22 := rfl
theorem jk_73_m51 : jok 73 (-51) = True := eq_true (by unfold jok; decide)
theorem tg_73_4 : tgt 73 (4) = 77 := rfl
theorem jk_73_4 : jok 73 (4) = True := eq_true (by unfold jok; decide)
theorem tg_73_6 : tgt 73 (6) = 79 := rfl
theorem jk_73_6 : jok 73 (6) = True := eq_true (by unfold jok; decide)
theorem tg_73_26 : tgt 73 (26) = 99 := rfl
theorem jk_73_26 : jok 73 (26) = True := eq_true (by unfold jok; decide)
theorem tg_74_14 : tgt 74 (14) = 88 := rfl
theorem jk_74_14 : jok 74 (14) = True := eq_true (by unfold jok; decide)
theorem tg_74_36 : tgt 74 (36) = 110 := rfl
theorem jk_74_36 : jok 74 (36) = True := eq_true (by unfold jok; decide)
theorem tg_74_83 : tgt 74 (83) = 157 := rfl
theorem jk_74_83 : jok 74 (83) = True := eq_true (by unfold jok; decide)
theorem tg_75_m49 : tgt 75 (-49) = 26 := rfl
theorem jk_75_m49 : jok 75 (-49) = True := eq_true (by unfold jok; decide)
theorem tg_75_42 : tgt 75 (42) = 117 := rfl
theorem jk_75_42 : jok 75 (42) = True := eq_true (by unfold jok; decide)
theorem tg_75_54 : tgt 75 (54) = 129 := rfl
theorem jk_75_54 : jok 75 (54) = True := eq_true (by unfold jok; decide)
theorem tg_76_27 : tgt 76 (27) = 103 := rfl
theorem jk_76_27 : jok 76 (27) = True := eq_true (by unfold jok; decide)
theorem tg_77_8 : tgt 77 (8) = 85 := rfl
theorem jk_77_8 : jok 77 (8) = True := eq_true (by unfold jok; decide)
theorem tg_77_9 : tgt 77 (9) = 86 := rfl
theorem jk_77_9 : jok 77 (9) = True := eq_true (by unfold jok; decide)
theorem tg_77_26 : tgt 77 (26) = 103 := rfl
theorem jk_77_26 : jok 77 (26) = True := eq_true (by unfold jok; decide)
theorem tg_78_7 : tgt 78 (7) = 85 := rfl
theorem jk_78_7 : jok 78 (7) = True := eq_true (by unfold jok; decide)
theorem tg_79_m37 : tgt 79 (-37) = 42 := rfl
theorem jk_79_m37 : jok 79 (-37) = True := eq_true (by unfold jok; decide)
theorem tg_79_7 : tgt 79 (7) = 86 := rfl
theorem jk_79_7 : jok 79 (7) = True := eq_true (by unfold jok; decide)
theorem tg_80_23 : tgt 80 (23) = 103 := rfl
theorem jk_80_23 : jok 80 (23) = True := eq_true (by unfold jok; decide)
theorem tg_80_30 : tgt 80 (30) = 110 := rfl
theorem jk_80_30 : jok 80 (30) = True := eq_true (by unfold jok; decide)
theorem tg_81_16 : tgt 81 (16) = 97 := rfl
theorem jk_81_16 : jok 81 (16) = True := eq_true (by unfold jok; decide)
theorem tg_81_18 : tgt 81 (18) = 99 := rfl
theorem jk_81_18 : jok 81 (18) = True := eq_true (by unfold jok; decide)
theorem tg_82_m73 : tgt 82 (-73) = 9 := rfl
theorem jk_82_m73 : jok 82 (-73) = True := eq_true (by unfold jok; decide)
theorem tg_82_4 : tgt 82 (4) = 86 := rfl
theorem jk_82_4 : jok 82 (4) = True := eq_true (by unfold jok; decide)
theorem tg_83_m32 : tgt 83 (-32) = 51 := rfl
theorem jk_83_m32 : jok 83 (-32) = True := eq_true (by unfold jok; decide)
theorem tg_83_m31 : tgt 83 (-31) = 52 := rfl
theorem jk_83_m31 : jok 83 (-31) = True := eq_true (by unfold jok; decide)
theorem tg_83_4 : tgt 83 (4) = 87 := rfl
theorem jk_83_4 : jok 83 (4) = True := eq_true (by unfold jok; decide)
theorem tg_83_81 : tgt 83 (81) = 164 := rfl
theorem jk_83_81 : jok 83 (81) = True := eq_true (by unfold jok; decide)
theorem tg_84_10 : tgt 84 (10) = 94 := rfl
theorem jk_84_10 : jok 84 (10) = True := eq_true (by unfold jok; decide)
theorem tg_84_29 : tgt 84 (29) = 113 := rfl
theorem jk_84_29 : jok 84 (29) = True := eq_true (by unfold jok; decide)
theorem tg_84_33 : tgt 84 (33) = 117 := rfl
theorem jk_84_33 : jok 84 (33) = True := eq_true (by unfold jok; decide)
theorem tg_85_m22 : tgt 85 (-22) = 63 := rfl
theorem jk_85_m22 : jok 85 (-22) = True := eq_true (by unfold jok; decide)
theorem tg_85_30 : tgt 85 (30) = 115 := rfl
theorem jk_85_30 : jok 85 (30) = True := eq_true (by unfold jok; decide)
theorem tg_85_54 : tgt 85 (54) = 139 := rfl
theorem jk_85_54 : jok 85 (54) = True := eq_true (by unfold jok; decide)
theorem tg_86_7 : tgt 86 (7) = 93 := rfl
theorem jk_86_7 : jok 86 (7) = True := eq_true (by unfold jok; decide)
theorem tg_87_42 : tgt 87 (42) = 129 := rfl
theorem jk_87_42 : jok 87 (42) = True := eq_true (by unfold jok; decide)
theorem tg_87_70 : tgt 87 (70) = 157 := rfl
theorem jk_87_70 : jok 87 (70) = True := eq_true (by unfold jok; decide)
theorem tg_88_5 : tgt 88 (5) = 93 := rfl
theorem jk_88_5 : jok 88 (5) = True := eq_true (by unfold jok; decide)
theorem tg_88_15 : tgt 88 (15) = 103 := rfl
theorem jk_88_15 : jok 88 (15) = True := eq_true (by unfold jok; decide)
theorem tg_88_16 : tgt 88 (16) = 104 := rfl
theorem jk_88_16 : jok 88 (16) = True := eq_true (by unfold jok; decide)
theorem tg_89_10 : tgt 89 (10) = 99 := rfl
theorem jk_89_10 : jok 89 (10) = True := eq_true (by unfold jok; decide)
theorem tg_89_21 : tgt 89 (21) = 110 := rfl
theorem jk_89_21 : jok 89 (21) = True := eq_true (by unfold jok; decide)
theorem tg_89_28 : tgt 89 (28) = 117 := rfl
theorem jk_89_28 : jok 89 (28) = True := eq_true (by unfold jok; decide)
theorem tg_90_4 : tgt 90 (4) = 94 := rfl
theorem jk_90_4 : jok 90 (4) = True := eq_true (by unfold jok; decide)
theorem tg_90_21 : tgt 90 (21) = 111 := rfl
theorem jk_90_21 : jok 90 (21) = True := eq_true (by unfold jok; decide)
theorem tg_90_107 : tgt 90 (107) = 197 := rfl
theorem jk_90_107 : jok 90 (107) = True := eq_true (by unfold jok; decide)
theorem tg_91_7 : tgt 91 (7) = 98 := rfl
theorem jk_91_7 : jok 91 (7) = True := eq_true (by unfold jok; decide)
theorem tg_91_12 : tgt 91 (12) = 103 := rfl
theorem jk_91_12 : jok 91 (12) = True := eq_true (by unfold jok; decide)
theorem tg_91_43 : tgt 91 (43) = 134 := rfl
theorem jk_91_43 : jok 91 (43) = True := eq_true (by unfold jok; decide)
theorem tg_92_m68 : tgt 92 (-68) = 24 := rfl
theorem jk_92_m68 : jok 92 (-68) = True := eq_true (by unfold jok; decide)
theorem tg_93_7 : tgt 93 (7) = 100 := rfl
theorem jk_93_7 : jok 93 (7) = True := eq_true (by unfold jok; decide)
theorem tg_93_71 : tgt 93 (71) = 164 := rfl
theorem jk_93_71 : jok 93 (71) = True := eq_true (by unfold jok; decide)
theorem tg_94_7 : tgt 94 (7) = 101 := rfl
theorem jk_94_7 : jok 94 (7) = True := eq_true (by unfold jok; decide)
theorem tg_94_18 : tgt 94 (18) = 112 := rfl
theorem jk_94_18 : jok 94 (18) = True := eq_true (by unfold jok; decide)
theorem tg_94_35 : tgt 94 (35) = 129 := rfl
theorem jk_94_35 : jok 94 (35) = True := eq_true (by unfold jok; decide)
theorem tg_95_15 : tgt 95 (15) = 110 := rfl
theorem jk_95_15 : jok 95 (15) = True := eq_true (by unfold jok; decide)
theorem tg_95_23 : tgt 95 (23) = 118 := rfl
theorem jk_95_23 : jok 95 (23) = True := eq_true (by unfold jok; decide)
theorem tg_95_102 : tgt 95 (102) = 197 := rfl
theorem jk_95_102 : jok 95 (102) = True := eq_true (by unfold jok; decide)
theorem tg_96_7 : tgt 96 (7) = 103 := rfl
theorem jk_96_7 : jok 96 (7) = True := eq_true (by unfold jok; decide)
theorem tg_96_9 : tgt 96 (9) = 105 := rfl
theorem jk_96_9 : jok 96 (9) = True := eq_true (by unfold jok; decide)
theorem tg_97_4 : tgt 97 (4) = 101 := rfl
theorem jk_97_4 : jok 97 (4) = True := eq_true (by unfold jok; decide)
theorem tg_97_36 : tgt 97 (36) = 133 := rfl
theorem jk_97_36 : jok 97 (36) = True := eq_true (by unfold jok; decide)
theorem tg_98_m89 : tgt 98 (-89) = 9 := rfl
theorem jk_98_m89 : jok 98 (-89) = True := eq_true (by unfold jok; decide)
theorem tg_98_7 : tgt 98 (7) = 105 := rfl
theorem jk_98_7 : jok 98 (7) = True := eq_true (by unfold jok; decide)
theorem tg_98_19 : tgt 98 (19) = 117 := rfl
theorem jk_98_19 : jok 98 (19) = True := eq_true (by unfold jok; decide)
theorem tg_98_35 : tgt 98 (35) = 133 := rfl
theorem jk_98_35 : jok 98 (35) = True := eq_true (by unfold jok; decide)
theorem tg_98_109 : tgt 98 (109) = 207 := rfl
theorem jk_98_109 : jok 98 (109) = True := eq_true (by unfold jok; decide)
theorem tg_99_m67 : tgt 99 (-67) = 32 := rfl
theorem jk_99_m67 : jok 99 (-67) = True := eq_true (by unfold jok; decide)
theorem tg_99_16 : tgt 99 (16) = 115 := rfl
theorem jk_99_16 : jok 99 (16) = True := eq_true (by unfold jok; decide)
theorem tg_99_111 : tgt 99 (111) = 210 := rfl
theorem jk_99_111 : jok 99 (111) = True := eq_true (by unfold jok; decide)
theorem tg_100_m24 : tgt 100 (-24) = 76 := rfl
theorem jk_100_m24 : jok 100 (-24) = True := eq_true (by unfold jok; decide)
theorem tg_100_4 : tgt 100 (4) = 104 := rfl
theorem jk_100_4 : jok 100 (4) = True := eq_true (by unfold jok; decide)
theorem tg_100_11 : tgt 100 (11) = 111 := rfl
theorem jk_100_11 : jok 100 (11) = True := eq_true (by unfold jok; decide)
theorem tg_100_57 : tgt 100 (57) = 157 := rfl
theorem jk_100_57 : jok 100 (57) = True := eq_true (by unfold jok; decide)
theorem tg_101_28 : tgt 101 (28) = 129 := rfl
theorem jk_101_28 : jok 101 (28) = True := eq_true (by unfold jok; decide)
theorem tg_102_5 : tgt 102 (5) = 107 := rfl
theorem jk_102_5 : jok 102 (5) = True := eq_true (by unfold jok; decide)
theorem tg_102_12 : tgt 102 (12) = 114 := rfl
theorem jk_102_12 : jok 102 (12) = True := eq_true (by unfold jok; decide)
theorem tg_103_14 : tgt 103 (14) = 117 := rfl
theorem jk_103_14 : jok 103 (14) = True := eq_true (by unfold jok; decide)
theorem tg_104_6 : tgt 104 (6) = 110 := rfl
theorem jk_104_6 : jok 104 (6) = True := eq_true (by unfold jok; decide)
theorem tg_104_93 : tgt 104 (93) = 197 := rfl
theorem jk_104_93 : jok 104 (93) = True := eq_true (by unfold jok; decide)
theorem tg_104_105 : tgt 104 (105) = 209 := rfl
theorem jk_104_105 : jok 104 (105) = True := eq_true (by unfold jok; decide)
theorem tg_105_4 : tgt 105 (4) = 109 := rfl
theorem jk_105_4 : jok 105 (4) = True := eq_true (by unfold jok; decide)
theorem tg_105_6 : tgt 105 (6) = 111 := rfl
theorem jk_105_6 : jok 105 (6) = True := eq_true (by unfold jok; decide)
theorem tg_105_7 : tgt 105 (7) = 112 := rfl
theorem jk_105_7 : jok 105 (7) = True := eq_true (by unfold jok; decide)
theorem tg_106_m57 : tgt 106 (-57) = 49 := rfl
theorem jk_106_m57 : jok 106 (-57) = True := eq_true (by unfold jok; decide)
theorem tg_106_12 : tgt 106 (12) = 118 := rfl
theorem jk_106_12 : jok 106 (12) = True := eq_true (by unfold jok; decide)
theorem tg_107_6 : tgt 107 (6) = 113 := rfl
theorem jk_107_6 : jok 107 (6) = True := eq_true (by unfold jok; decide)
theorem tg_108_7 : tgt 108 (7) = 115 := rfl
theorem jk_108_7 : jok 108 (7) = True := eq_true (by unfold jok; decide)
theorem tg_108_8 : tgt 108 (8) = 116 := rfl
theorem jk_108_8 : jok 108 (8) = True := eq_true (by unfold jok; decide)
theorem tg_108_21 : tgt 108 (21) = 129 := rfl
theorem jk_108_21 : jok 108 (21) = True := eq_true (by unfold jok; decide)
theorem tg_109_4 : tgt 109 (4) = 113 := rfl
theorem jk_109_4 : jok 109 (4) = True := eq_true (by unfold jok; decide)
theorem tg_109_24 : tgt 109 (24) = 133 := rfl
theorem jk_109_24 : jok 109 (24) = True := eq_true (by unfold jok; decide)
theorem tg_109_27 : tgt 109 (27) = 136 := rfl
theorem jk_109_27 : jok 109 (27) = True := eq_true (by unfold jok; decide)
theorem tg_109_88 : tgt 109 (88) = 197 := rfl
theorem jk_109_88 : jok 109 (88) = True := eq_true (by unfold jok; decide)
theorem tg_110_7 : tgt 110 (7) = 117 := rfl
theorem jk_110_7 : jok 110 (7) = True := eq_true (by unfold jok; decide)
theorem tg_110_23 : tgt 110 (23) = 133 := rfl
theorem jk_110_23 : jok 110 (23) = True := eq_true (by unfold jok; decide)
theorem tg_110_27 : tgt 110 (27) = 137 := rfl
theorem jk_110_27 : jok 110 (27) = True := eq_true (by unfold jok; decide)
theorem tg_111_m60 : tgt 111 (-60) = 51 := rfl
theorem jk_111_m60 : jok 111 (-60) = True := eq_true (by unfold jok; decide)
theorem tg_111_7 : tgt 111 (7) = 118 := rfl
theorem jk_111_7 : jok 111 (7) = True := eq_true (by unfold jok; decide)
theorem tg_111_10 : tgt 111 (10) = 121 := rfl
theorem jk_111_10 : jok 111 (10) = True := eq_true (by unfold jok; decide)
theorem tg_111_11 : tgt 111 (11) = 122 := rfl
theorem jk_111_11 : jok 111 (11) = True := eq_true (by unfold jok; decide)
theorem tg_112_4 : tgt 112 (4) = 116 := rfl
theorem jk_112_4 : jok 112 (4) = True := eq_true (by unfold jok; decide)
theorem tg_112_5 : tgt 112 (5) = 117 := rfl
theorem jk_112_5 : jok 112 (5) = True := eq_true (by unfold jok; decide)
theorem tg_112_16 : tgt 112 (16) = 128 := rfl
theorem jk_112_16 : jok 112 (16) = True := eq_true (by unfold jok; decide)
theorem tg_112_28 : tgt 112 (28) = 140 := rfl
theorem jk_112_28 : jok 112 (28) = True := eq_true (by unfold jok; decide)
theorem tg_112_112 : tgt 112 (112) = 224 := rfl
theorem jk_112_112 : jok 112 (112) = True := eq_true (by unfold jok; decide)
theorem tg_113_44 : tgt 113 (44) = 157 := rfl
theorem jk_113_44 : jok 113 (44) = True := eq_true (by unfold jok; decide)
theorem tg_114_14 : tgt 114 (14) = 128 := rfl
theorem jk_114_14 : jok 114 (14) = True := eq_true (by unfold jok; decide)
theorem tg_114_39 : tgt 114 (39) = 153 := rfl
theorem jk_114_39 : jok 114 (39) = True := eq_true (by unfold jok; decide)
theorem tg_114_145 : tgt 114 (145) = 259 := rfl
theorem jk_114_145 : jok 114 (145) = True := eq_true (by unfold jok; decide)
theorem tg_115_m22 : tgt 115 (-22) = 93 := rfl
theorem jk_115_m22 : jok 115 (-22) = True := eq_true (by unfold jok; decide)
theorem tg_115_4 : tgt 115 (4) = 119 := rfl
theorem jk_115_4 : jok 115 (4) = True := eq_true (by unfold jok; decide)
theorem tg_115_14 : tgt 115 (14) = 129 := rfl
theorem jk_115_14 : jok 115 (14) = True := eq_true (by unfold jok; decide)
theorem tg_116_m102 : tgt 116 (-102) = 14 := rfl
theorem jk_116_m102 : jok 116 (-102) = True := eq_true (by unfold jok; decide)
theorem tg_116_93 : tgt 116 (93) = 209 := rfl
theorem jk_116_93 : jok 116 (93) = True := eq_true (by unfold jok; decide)
theorem tg_118_30 : tgt 118 (30) = 148 := rfl
theorem jk_118_30 : jok 118 (30) = True := eq_true (by unfold jok; decide)
theorem tg_118_35 : tgt 118 (35) = 153 := rfl
theorem jk_118_35 : jok 118 (35) = True := eq_true (by unfold jok; decide)
theorem tg_118_66 : tgt 118 (66) = 184 := rfl
theorem jk_118_66 : jok 118 (66) = True := eq_true (by unfold jok; decide)
theorem tg_118_79 : tgt 118 (79) = 197 := rfl
theorem jk_118_79 : jok 118 (79) = True := eq_true (by unfold jok; decide)
theorem tg_118_97 : tgt 118 (97) = 215 := rfl
theorem jk_118_97 : jok 118 (97) = True := eq_true (by unfold jok; decide)
theorem tg_118_104 : tgt 118 (104) = 222 := rfl
theorem jk_118_104 : jok 118 (104) = True := eq_true (by unfold jok; decide)
theorem tg_119_5 : tgt 119 (5) = 124 := rfl
theorem jk_119_5 : jok 119 (5) = True := eq_true (by unfold jok; decide)
theorem tg_119_7 : tgt 119 (7) = 126 := rfl
theorem jk_119_7 : jok 119 (7) = True := eq_true (by unfold jok; decide)
theorem tg_119_17 : tgt 119 (17) = 136 := rfl
theorem jk_119_17 : jok 119 (17) = True := eq_true (by unfold jok; decide)
theorem tg_120_17 : tgt 120 (17) = 137 := rfl
theorem jk_120_17 : jok 120 (17) = True := eq_true (by unfold jok; decide)
theorem tg_120_139 : tgt 120 (139) = 259 := rfl
theorem jk_120_139 : jok 120 (139) = True := eq_true (by unfold jok; decide)
theorem tg_121_7 : tgt 121 (7) = 128 := rfl
theorem jk_121_7 : jok 121 (7) = True := eq_true (by unfold jok; decide)
theorem tg_122_7 : tgt 122 (7) = 129 := rfl
theorem jk_122_7 : jok 122 (7) = True := eq_true (by unfold jok; decide)
theorem tg_122_11 : tgt 122 (11) = 133 := rfl
theorem jk_122_11 : jok 122 (11) = True := eq_true (by unfold jok; decide)
theorem tg_122_20 : tgt 122 (20) = 142 := rfl
theorem jk_122_20 : jok 122 (20) = True := eq_true (by unfold jok; decide)
theorem tg_123_m119 : tgt 123 (-119) = 4 := rfl
theorem jk_123_m119 : jok 123 (-119) = True := eq_true (by unfold jok; decide)
theorem tg_123_30 : tgt 123 (30) = 153 := rfl
theorem jk_123_30 : jok 123 (30) = True := eq_true (by unfold jok; decide)
theorem tg_123_74 : tgt 123 (74) = 197 := rfl
theorem jk_123_74 : jok 123 (74) = True := eq_true (by unfold jok; decide)
theorem tg_125_4 : tgt 125 (4) = 129 := rfl
theorem jk_125_4 : jok 125 (4) = True := eq_true (by unfold jok; decide)
theorem tg_125_23 : tgt 125 (23) = 148 := rfl
theorem jk_125_23 : jok 125 (23) = True := eq_true (by unfold jok; decide)
theorem tg_126_31 : tgt 126 (31) = 157 := rfl
theorem jk_126_31 : jok 126 (31) = True := eq_true (by unfold jok; decide)
theorem tg_126_83 : tgt 126 (83) = 209 := rfl
theorem jk_126_83 : jok 126 (83) = True := eq_true (by unfold jok; decide)
theorem tg_127_7 : tgt 127 (7) = 134 := rfl
theorem jk_127_7 : jok 127 (7) = True := eq_true (by unfold jok; decide)
theorem tg_127_25 : tgt 127 (25) = 152 := rfl
theorem jk_127_25 : jok 127 (25) = True := eq_true (by unfold jok; decide)
theorem tg_128_m60 : tgt 128 (-60) = 68 := rfl
theorem jk_128_m60 : jok 128 (-60) = True := eq_true (by unfold jok; decide)
theorem tg_129_m123 : tgt 129 (-123) = 6 := rfl
theorem jk_129_m123 : jok 129 (-123) = True := eq_true (by unfold jok; decide)
theorem tg_129_130 : tgt 129 (130) = 259 := rfl
theorem jk_129_130 : jok 129 (130) = True := eq_true (by unfold jok; decide)
theorem tg_130_m38 : tgt 130 (-38) = 92 := rfl
theorem jk_130_m38 : jok 130 (-38) = True := eq_true (by unfold jok; decide)
theorem tg_130_m25 : tgt 130 (-25) = 105 := rfl
theorem jk_130_m25 : jok 130 (-25) = True := eq_true (by unfold jok; decide)
theorem tg_130_6 : tgt 130 (6) = 136 := rfl
theorem jk_130_6 : jok 130 (6) = True := eq_true (by unfold jok; decide)
theorem tg_131_m42 : tgt 131 (-42) = 89 := rfl
theorem jk_131_m42 : jok 131 (-42) = True := eq_true (by unfold jok; decide)
theorem tg_131_6 : tgt 131 (6) = 137 := rfl
theorem jk_131_6 : jok 131 (6) = True := eq_true (by unfold jok; decide)
theorem tg_131_12 : tgt 131 (12) = 143 := rfl
theorem jk_131_12 : jok 131 (12) = True := eq_true (by unfold jok; decide)
theorem tg_132_65 : tgt 132 (65) = 197 := rfl
theorem jk_132_65 : jok 132 (65) = True := eq_true (by unfold jok; decide)
theorem tg_133_m21 : tgt 133 (-21) = 112 := rfl
theorem jk_133_m21 : jok 133 (-21) = True := eq_true (by unfold jok; decide)
theorem tg_133_12 : tgt 133 (12) = 145 := rfl
theorem jk_133_12 : jok 133 (12) = True := eq_true (by unfold jok; decide)
theorem tg_133_76 : tgt 133 (76) = 209 := rfl
theorem jk_133_76 : jok 133 (76) = True := eq_true (by unfold jok; decide)
theorem tg_134_m21 : tgt 134 (-21) = 113 := rfl
theorem jk_134_m21 : jok 134 (-21) = True := eq_true (by unfold jok; decide)
theorem tg_134_7 : tgt 134 (7) = 141 := rfl
theorem jk_134_7 : jok 134 (7) = True := eq_true (by unfold jok; decide)
theorem tg_135_124 : tgt 135 (124) = 259 := rfl
theorem jk_135_124 : jok 135 (124) = True := eq_true (by unfold jok; decide)
theorem tg_136_m55 : tgt 136 (-55) = 81 := rfl
theorem jk_136_m55 : jok 136 (-55) = True := eq_true (by unfold jok; decide)
theorem tg_136_6 : tgt 136 (6) = 142 := rfl
theorem jk_136_6 : jok 136 (6) = True := eq_true (by unfold jok; decide)
theorem tg_137_60 : tgt 137 (60) = 197 := rfl
theorem jk_137_60 : jok 137 (60) = True := eq_true (by unfold jok; decide)
theorem tg_138_8 : tgt 138 (8) = 146 := rfl
theorem jk_138_8 : jok 138 (8) = True := eq_true (by unfold jok; decide)
theorem tg_139_4 : tgt 139 (4) = 143 := rfl
theorem jk_139_4 : jok 139 (4) = True := eq_true (by unfold jok; decide)
theorem tg_140_9 : tgt 140 (9) = 149 := rfl
theorem jk_140_9 : jok 140 (9) = True := eq_true (by unfold jok; decide)
theorem tg_140_61 : tgt 140 (61) = 201 := rfl
theorem jk_140_61 : jok 140 (61) = True := eq_true (by unfold jok; decide)
theorem tg_140_69 : tgt 140 (69) = 209 := rfl
theorem jk_140_69 : jok 140 (69) = True := eq_true (by unfold jok; decide)
theorem tg_141_63 : tgt 141 (63) = 204 := rfl
theorem jk_141_63 : jok 141 (63) = True := eq_true (by unfold jok; decide)
theorem tg_142_17 : tgt 142 (17) = 159 := rfl
theorem jk_142_17 : jok 142 (17) = True := eq_true (by unfold jok; decide)
theorem tg_143_11 : tgt 143 (11) = 154 := rfl
theorem jk_143_11 : jok 143 (11) = True := eq_true (by unfold jok; decide)
theorem tg_144_115 : tgt 144 (115) = 259 := rfl
theorem jk_144_115 : jok 144 (115) = True := eq_true (by unfold jok; decide)
theorem tg_145_m23 : tgt 145 (-23) = 122 := rfl
theorem jk_145_m23 : jok 145 (-23) = True := eq_true (by unfold jok; decide)
theorem tg_145_7 : tgt 145 (7) = 152 := rfl
theorem jk_145_7 : jok 145 (7) = True := eq_true (by unfold jok; decide)
theorem tg_146_m89 : tgt 146 (-89) = 57 := rfl
theorem jk_146_m89 : jok 146 (-89) = True := eq_true (by unfold jok; decide)
theorem tg_146_51 : tgt 146 (51) = 197 := rfl
theorem jk_146_51 : jok 146 (51) = True := eq_true (by unfold jok; decide)
theorem tg_147_62 : tgt 147 (62) = 209 := rfl
theorem jk_147_62 : jok 147 (62) = True := eq_true (by unfold jok; decide)
theorem tg_149_m132 : tgt 149 (-132) = 17 := rfl
theorem jk_149_m132 : jok 149 (-132) = True := eq_true (by unfold jok; decide)
theorem tg_149_4 : tgt 149 (4) = 153 := rfl
theorem jk_149_4 : jok 149 (4) = True := eq_true (by unfold jok; decide)
theorem tg_149_15 : tgt 149 (15) = 164 := rfl
theorem jk_149_15 : jok 149 (15) = True := eq_true (by unfold jok; decide)
theorem tg_150_7 : tgt 150 (7) = 157 := rfl
theorem jk_150_7 : jok 150 (7) = True := eq_true (by unfold jok; decide)
theorem tg_150_109 : tgt 150 (109) = 259 := rfl
theorem jk_150_109 : jok 150 (109) = True := eq_true (by unfold jok; decide)
theorem tg_151_11 : tgt 151 (11) = 162 := rfl
theorem jk_151_11 : jok 151 (11) = True := eq_true (by unfold jok; decide)
theorem tg_151_46 : tgt 151 (46) = 197 := rfl
theorem jk_151_46 : jok 151 (46) = True := eq_true (by unfold jok; decide)
theorem tg_154_55 : tgt 154 (55) = 209 := rfl
theorem jk_154_55 : jok 154 (55) = True := eq_true (by unfold jok; decide)
theorem tg_157_25 : tgt 157 (25) = 182 := rfl
theorem jk_157_25 : jok 157 (25) = True := eq_true (by unfold jok; decide)
theorem tg_159_100 : tgt 159 (100) = 259 := rfl
theorem jk_159_100 : jok 159 (100) = True := eq_true (by unfold jok; decide)
theorem tg_160_37 : tgt 160 (37) = 197 := rfl
theorem jk_160_37 : jok 160 (37) = True := eq_true (by unfold jok; decide)
theorem tg_161_m16 : tgt 161 (-16) = 145 := rfl
theorem jk_161_m16 : jok 161 (-16) = True := eq_true (by unfold jok; decide)
theorem tg_161_32 : tgt 161 (32) = 193 := rfl
theorem jk_161_32 : jok 161 (32) = True := eq_true (by unfold jok; decide)
theorem tg_161_48 : tgt 161 (48) = 209 := rfl
theorem jk_161_48 : jok 161 (48) = True := eq_true (by unfold jok; decide)
theorem tg_164_7 : tgt 164 (7) = 171 := rfl
theorem jk_164_7 : jok 164 (7) = True := eq_true (by unfold jok; decide)
theorem tg_164_27 : tgt 164 (27) = 191 := rfl
theorem jk_164_27 : jok 164 (27) = True := eq_true (by unfold jok; decide)
theorem tg_165_29 : tgt 165 (29) = 194 := rfl
theorem jk_165_29 : jok 165 (29) = True := eq_true (by unfold jok; decide)
theorem tg_165_32 : tgt 165 (32) = 197 := rfl
theorem jk_165_32 : jok 165 (32) = True := eq_true (by unfold jok; decide)
theorem tg_165_94 : tgt 165 (94) = 259 := rfl
theorem jk_165_94 : jok 165 (94) = True := eq_true (by unfold jok; decide)
theorem tg_166_16 : tgt 166 (16) = 182 := rfl
theorem jk_166_16 : jok 166 (16) = True := eq_true (by unfold jok; decide)
theorem tg_168_23 : tgt 168 (23) = 191 := rfl
theorem jk_168_23 : jok 168 (23) = True := eq_true (by unfold jok; decide)
theorem tg_168_41 : tgt 168 (41) = 209 := rfl
theorem jk_168_41 : jok 168 (41) = True := eq_true (by unfold jok; decide)
theorem tg_174_85 : tgt 174 (85) = 259 := rfl
theorem jk_174_85 : jok 174 (85) = True := eq_true (by unfold jok; decide)
theorem tg_175_7 : tgt 175 (7) = 182 := rfl
theorem jk_175_7 : jok 175 (7) = True := eq_true (by unfold jok; decide)
theorem tg_175_22 : tgt 175 (22) = 197 := rfl
theorem jk_175_22 : jok 175 (22) = True := eq_true (by unfold jok; decide)
theorem tg_175_34 : tgt 175 (34) = 209 := rfl
theorem jk_175_34 : jok 175 (34) = True := eq_true (by unfold jok; decide)
theorem tg_179_4 : tgt 179 (4) = 183 := rfl
theorem jk_179_4 : jok 179 (4) = True := eq_true (by unfold jok; decide)
theorem tg_179_12 : tgt 179 (12) = 191 := rfl
theorem jk_179_12 : jok 179 (12) = True := eq_true (by unfold jok; decide)
theorem tg_179_17 : tgt 179 (17) = 196 := rfl
theorem jk_179_17 : jok 179 (17) = True := eq_true (by unfold jok; decide)
theorem tg_180_7 : tgt 180 (7) = 187 := rfl
theorem jk_180_7 : jok 180 (7) = True := eq_true (by unfold jok; decide)
theorem tg_180_79 : tgt 180 (79) = 259 := rfl
theorem jk_180_79 : jok 180 (79) = True := eq_true (by unfold jok; decide)
theorem tg_181_16 : tgt 181 (16) = 197 := rfl
theorem jk_181_16 : jok 181 (16) = True := eq_true (by unfold jok; decide)
theorem tg_182_12 : tgt 182 (12) = 194 := rfl
theorem jk_182_12 : jok 182 (12) = True := eq_true (by unfold jok; decide)
theorem tg_182_27 : tgt 182 (27) = 209 := rfl
theorem jk_182_27 : jok 182 (27) = True := eq_true (by unfold jok; decide)
theorem tg_184_4 : tgt 184 (4) = 188 := rfl
theorem jk_184_4 : jok 184 (4) = True := eq_true (by unfold jok; decide)
theorem tg_188_m28 : tgt 188 (-28) = 160 := rfl
theorem jk_188_m28 : jok 188 (-28) = True := eq_true (by unfold jok; decide)
theorem tg_188_25 : tgt 188 (25) = 213 := rfl
theorem jk_188_25 : jok 188 (25) = True := eq_true (by unfold jok; decide)
theorem tg_189_20 : tgt 189 (20) = 209 := rfl
theorem jk_189_20 : jok 189 (20) = True := eq_true (by unfold jok; decide)
theorem tg_189_70 : tgt 189 (70) = 259 := rfl
theorem jk_189_70 : jok 189 (70) = True := eq_true (by unfold jok; decide)
theorem tg_191_m30 : tgt 191 (-30) = 161 := rfl
theorem jk_191_m30 : jok 191 (-30) = True := eq_true (by unfold jok; decide)
theorem tg_191_6 : tgt 191 (6) = 197 := rfl
theorem jk_191_6 : jok 191 (6) = True := eq_true (by unfold jok; decide)
theorem tg_193_m16 : tgt 193 (-16) = 177 := rfl
theorem jk_193_m16 : jok 193 (-16) = True := eq_true (by unfold jok; decide)
theorem tg_195_6 : tgt 195 (6) = 201 := rfl
theorem jk_195_6 : jok 195 (6) = True := eq_true (by unfold jok; decide)
theorem tg_195_64 : tgt 195 (64) = 259 := rfl
theorem jk_195_64 : jok 195 (64) = True := eq_true (by unfold jok; decide)
theorem tg_197_16 : tgt 197 (16) = 213 := rfl
theorem jk_197_16 : jok 197 (16) = True := eq_true (by unfold jok; decide)
theorem tg_198_6 : tgt 198 (6) = 204 := rfl
theorem jk_198_6 : jok 198 (6) = True := eq_true (by unfold jok; decide)
theorem tg_198_46 : tgt 198 (46) = 244 := rfl
theorem jk_198_46 : jok 198 (46) = True := eq_true (by unfold jok; decide)
theorem tg_198_57 : tgt 198 (57) = 255 := rfl
theorem jk_198_57 : jok 198 (57) = True := eq_true (by unfold jok; decide)
theorem tg_198_82 : tgt 198 (82) = 280 := rfl
theorem jk_198_82 : jok 198 (82) = True := eq_true (by unfold jok; decide)
theorem tg_198_112 : tgt 198 (112) = 310 := rfl
theorem jk_198_112 : jok 198 (112) = True := eq_true (by unfold jok; decide)
theorem tg_198_142 : tgt 198 (142) = 340 := rfl
theorem jk_198_142 : jok 198 (142) = True := eq_true (by unfold jok; decide)
theorem tg_198_153 : tgt 198 (153) = 351 := rfl
theorem jk_198_153 : jok 198 (153) = True := eq_true (by unfold jok; decide)
theorem tg_198_164 : tgt 198 (164) = 362 := rfl
theorem jk_198_164 : jok 198 (164) = True := eq_true (by unfold jok; decide)
theorem tg_198_176 : tgt 198 (176) = 374 := rfl
theorem jk_198_176 : jok 198 (176) = True := eq_true (by unfold jok; decide)
theorem tg_198_188 : tgt 198 (188) = 386 := rfl
theorem jk_198_188 : jok 198 (188) = True := eq_true (by unfold jok; decide)
theorem tg_199_10 : tgt 199 (10) = 209 := rfl
theorem jk_199_10 : jok 199 (10) = True := eq_true (by unfold jok; decide)
theorem tg_202_21 : tgt 202 (21) = 223 := rfl
theorem jk_202_21 : jok 202 (21) = True := eq_true (by unfold jok; decide)
theorem tg_204_m110 : tgt 204 (-110) = 94 := rfl
theorem jk_204_m110 : jok 204 (-110) = True := eq_true (by unfold jok; decide)
theorem tg_204_55 : tgt 204 (55) = 259 := rfl
theorem jk_204_55 : jok 204 (55) = True := eq_true (by unfold jok; decide)
theorem tg_206_7 : tgt 206 (7) = 213 := rfl
theorem jk_206_7 : jok 206 (7) = True := eq_true (by unfold jok; decide)
theorem tg_207_m112 : tgt 207 (-112) = 95 := rfl
theorem jk_207_m112 : jok 207 (-112) = True := eq_true (by unfold jok; decide)
theorem tg_210_4 : tgt 210 (4) = 214 := rfl
theorem jk_210_4 : jok 210 (4) = True := eq_true (by unfold jok; decide)
theorem tg_211_5 : tgt 211 (5) = 216 := rfl
theorem jk_211_5 : jok 211 (5) = True := eq_true (by unfold jok; decide)
theorem tg_211_48 : tgt 211 (48) = 259 := rfl
theorem jk_211_48 : jok 211 (48) = True := eq_true (by unfold jok; decide)
theorem tg_218_15 : tgt 218 (15) = 233 := rfl
theorem jk_218_15 : jok 218 (15) = True := eq_true (by unfold jok; decide)
theorem tg_220_39 : tgt 220 (39) = 259 := rfl
theorem jk_220_39 : jok 220 (39) = True := eq_true (by unfold jok; decide)
theorem tg_226_m168 : tgt 226 (-168) = 58 := rfl
theorem jk_226_m168 : jok 226 (-168) = True := eq_true (by unfold jok; decide)
theorem tg_227_32 : tgt 227 (32) = 259 := rfl
theorem jk_227_32 : jok 227 (32) = True := eq_true (by unfold jok; decide)
theorem tg_228_5 : tgt 228 (5) = 233 := rfl
theorem jk_228_5 : jok 228 (5) = True := eq_true (by unfold jok; decide)
theorem tg_233_1738 : tgt 233 (1738) = 1971 := rfl
theorem jk_233_1738 : jok 233 (1738) = True := eq_true (by unfold jok; decide)
theorem tg_236_23 : tgt 236 (23) = 259 := rfl
theorem jk_236_23 : jok 236 (23) = True := eq_true (by unfold jok; decide)
theorem tg_243_16 : tgt 243 (16) = 259 := rfl
theorem jk_243_16 : jok 243 (16) = True := eq_true (by unfold jok; decide)
theorem tg_252_7 : tgt 252 (7) = 259 := rfl
theorem jk_252_7 : jok 252 (7) = True := eq_true (by unfold jok; decide)
theorem tg_261_55 : tgt 261 (55) = 316 := rfl
theorem jk_261_55 : jok 261 (55) = True := eq_true (by unfold jok; decide)
theorem tg_261_63 : tgt 261 (63) = 324 := rfl
theorem jk_261_63 : jok 261 (63) = True := eq_true (by unfold jok; decide)
theorem tg_261_76 : tgt 261 (76) = 337 := rfl
theorem jk_261_76 : jok 261 (76) = True := eq_true (by unfold jok; decide)
theorem tg_261_89 : tgt 261 (89) = 350 := rfl
theorem jk_261_89 : jok 261 (89) = True := eq_true (by unfold jok; decide)
theorem tg_261_102 : tgt 261 (102) = 363 := rfl
theorem jk_261_102 : jok 261 (102) = True := eq_true (by unfold jok; decide)
theorem tg_261_120 : tgt 261 (120) = 381 := rfl
theorem jk_261_120 : jok 261 (120) = True := eq_true (by unfold jok; decide)
theorem tg_261_128 : tgt 261 (128) = 389 := rfl
theorem jk_261_128 : jok 261 (128) = True := eq_true (by unfold jok; decide)
theorem tg_261_145 : tgt 261 (145) = 406 := rfl
theorem jk_261_145 : jok 261 (145) = True := eq_true (by unfold jok; decide)
theorem tg_261_154 : tgt 261 (154) = 415 := rfl
theorem jk_261_154 : jok 261 (154) = True := eq_true (by unfold jok; decide)
theorem tg_261_163 : tgt 261 (163) = 424 := rfl
theorem jk_261_163 : jok 261 (163) = True := eq_true (by unfold jok; decide)
theorem tg_261_177 : tgt 261 (177) = 438 := rfl
theorem jk_261_177 : jok 261 (177) = True := eq_true (by unfold jok; decide)
theorem tg_315_5 : tgt 315 (5) = 320 := rfl
theorem jk_315_5 : jok 315 (5) = True := eq_true (by unfold jok; decide)
theorem tg_321_122 : tgt 321 (122) = 443 := rfl
theorem jk_321_122 : jok 321 (122) = True := eq_true (by unfold jok; decide)
theorem tg_322_15 : tgt 322 (15) = 337 := rfl
theorem jk_322_15 : jok 322 (15) = True := eq_true (by unfold jok; decide)
theorem tg_332_5 : tgt 332 (5) = 337 := rfl
theorem jk_332_5 : jok 332 (5) = True := eq_true (by unfold jok; decide)
theorem tg_334_109 : tgt 334 (109) = 443 := rfl
theorem jk_334_109 : jok 334 (109) = True := eq_true (by unfold jok; decide)
theorem tg_337_1634 : tgt 337 (1634) = 1971 := rfl
theorem jk_337_1634 : jok 337 (1634) = True := eq_true (by unfold jok; decide)
theorem tg_347_96 : tgt 347 (96) = 443 := rfl
theorem jk_347_96 : jok 347 (96) = True := eq_true (by unfold jok; decide)
theorem tg_360_83 : tgt 360 (83) = 443 := rfl
theorem jk_360_83 : jok 360 (83) = True := eq_true (by unfold jok; decide)
theorem tg_371_5 : tgt 371 (5) = 376 := rfl
theorem jk_371_5 : jok 371 (5) = True := eq_true (by unfold jok; decide)
theorem tg_378_15 : tgt 378 (15) = 393 := rfl
theorem jk_378_15 : jok 378 (15) = True := eq_true (by unfold jok; decide)
theorem tg_378_65 : tgt 378 (65) = 443 := rfl
theorem jk_378_65 : jok 378 (65) = True := eq_true (by unfold jok; decide)
theorem tg_386_57 : tgt 386 (57) = 443 := rfl
theorem jk_386_57 : jok 386 (57) = True := eq_true (by unfold jok; decide)
theorem tg_388_5 : tgt 388 (5) = 393 := rfl
theorem jk_388_5 : jok 388 (5) = True := eq_true (by unfold jok; decide)
theorem tg_393_1578 : tgt 393 (1578) = 1971 := rfl
theorem jk_393_1578 : jok 393 (1578) = True := eq_true (by unfold jok; decide)
theorem tg_403_40 : tgt 403 (40) = 443 := rfl
theorem jk_403_40 : jok 403 (40) = True := eq_true (by unfold jok; decide)
theorem tg_412_31 : tgt 412 (31) = 443 := rfl
theorem jk_412_31 : jok 412 (31) = True := eq_true (by unfold jok; decide)
theorem tg_421_22 : tgt 421 (22) = 443 := rfl
theorem jk_421_22 : jok 421 (22) = True := eq_true (by unfold jok; decide)
theorem tg_427_5 : tgt 427 (5) = 432 := rfl
theorem jk_427_5 : jok 427 (5) = True := eq_true (by unfold jok; decide)
theorem tg_434_15 : tgt 434 (15) = 449 := rfl
theorem jk_434_15 : jok 434 (15) = True := eq_true (by unfold jok; decide)
theorem tg_435_8 : tgt 435 (8) = 443 := rfl
theorem jk_435_8 : jok 435 (8) = True := eq_true (by unfold jok; decide)
theorem tg_444_5 : tgt 444 (5) = 449 := rfl
theorem jk_444_5 : jok 444 (5) = True := eq_true (by unfold jok; decide)
theorem tg_449_1522 : tgt 449 (1522) = 1971 := rfl
theorem jk_449_1522 : jok 449 (1522) = True := eq_true (by unfold jok; decide)
theorem tg_495_5 : tgt 495 (5) = 500 := rfl
theorem jk_495_5 : jok 495 (5) = True := eq_true (by unfold jok; decide)
theorem tg_502_15 : tgt 502 (15) = 517 := rfl
theorem jk_502_15 : jok 502 (15) = True := eq_true (by unfold jok; decide)
theorem tg_512_5 : tgt 512 (5) = 517 := rfl
theorem jk_512_5 : jok 512 (5) = True := eq_true (by unfold jok; decide)
theorem tg_517_1454 : tgt 517 (1454) = 1971 := rfl
theorem jk_517_1454 : jok 517 (1454) = True := eq_true (by unfold jok; decide)
theorem tg_575_5 : tgt 575 (5) = 580 := rfl
theorem jk_575_5 : jok 575 (5) = True := eq_true (by unfold jok; decide)
theorem tg_582_15 : tgt 582 (15) = 597 := rfl
theorem jk_582_15 : jok 582 (15) = True := eq_true (by unfold jok; decide)
theorem tg_592_5 : tgt 592 (5) = 597 := rfl
theorem jk_592_5 : jok 592 (5) = True := eq_true (by unfold jok; decide)
theorem tg_597_1374 : tgt 597 (1374) = 1971 := rfl
theorem jk_597_1374 : jok 597 (1374) = True := eq_true (by unfold jok; decide)
theorem tg_613_7 : tgt 613 (7) = 620 := rfl
theorem jk_613_7 : jok 613 (7) = True := eq_true (by unfold jok; decide)
theorem tg_617_4 : tgt 617 (4) = 621 := rfl
theorem jk_617_4 : jok 617 (4) = True := eq_true (by unfold jok; decide)
theorem tg_640_7 : tgt 640 (7) = 647 := rfl
theorem jk_640_7 : jok 640 (7) = True := eq_true (by unfold jok; decide)
theorem tg_644_4 : tgt 644 (4) = 648 := rfl
theorem jk_644_4 : jok 644 (4) = True := eq_true (by unfold jok; decide)
theorem tg_659_5 : tgt 659 (5) = 664 := rfl
theorem jk_659_5 : jok 659 (5) = True := eq_true (by unfold jok; decide)
theorem tg_666_15 : tgt 666 (15) = 681 := rfl
theorem jk_666_15 : jok 666 (15) = True := eq_true (by unfold jok; decide)
theorem tg_676_5 : tgt 676 (5) = 681 := rfl
theorem jk_676_5 : jok 676 (5) = True := eq_true (by unfold jok; decide)
theorem tg_681_1290 : tgt 681 (1290) = 1971 := rfl
theorem jk_681_1290 : jok 681 (1290) = True := eq_true (by unfold jok; decide)
theorem tg_727_5 : tgt 727 (5) = 732 := rfl
theorem jk_727_5 : jok 727 (5) = True := eq_true (by unfold jok; decide)
theorem tg_734_15 : tgt 734 (15) = 749 := rfl
theorem jk_734_15 : jok 734 (15) = True := eq_true (by unfold jok; decide)
theorem tg_744_5 : tgt 744 (5) = 749 := rfl
theorem jk_744_5 : jok 744 (5) = True := eq_true (by unfold jok; decide)
theorem tg_749_1222 : tgt 749 (1222) = 1971 := rfl
theorem jk_749_1222 : jok 749 (1222) = True := eq_true (by unfold jok; decide)
theorem tg_795_5 : tgt 795 (5) = 800 := rfl
theorem jk_795_5 : jok 795 (5) = True := eq_true (by unfold jok; decide)
theorem tg_802_15 : tgt 802 (15) = 817 := rfl
theorem jk_802_15 : jok 802 (15) = True := eq_true (by unfold jok; decide)
theorem tg_812_5 : tgt 812 (5) = 817 := rfl
theorem jk_812_5 : jok 812 (5) = True := eq_true (by unfold jok; decide)
theorem tg_817_1154 : tgt 817 (1154) = 1971 := rfl
theorem jk_817_1154 : jok 817 (1154) = True := eq_true (by unfold jok; decide)
theorem tg_851_5 : tgt 851 (5) = 856 := rfl
theorem jk_851_5 : jok 851 (5) = True := eq_true (by unfold jok; decide)
theorem tg_858_15 : tgt 858 (15) = 873 := rfl
theorem jk_858_15 : jok 858 (15) = True := eq_true (by unfold jok; decide)
theorem tg_868_5 : tgt 868 (5) = 873 := rfl
theorem jk_868_5 : jok 868 (5) = True := eq_true (by unfold jok; decide)
theorem tg_873_1098 : tgt 873 (1098) = 1971 := rfl
theorem jk_873_1098 : jok 873 (1098) = True := eq_true (by unfold jok; decide)
theorem tg_931_5 : tgt 931 (5) = 936 := rfl
theorem jk_931_5 : jok 931 (5) = True := eq_true (by unfold jok; decide)
theorem tg_938_15 : tgt 938 (15) = 953 := rfl
theorem jk_938_15 : jok 938 (15) = True := eq_true (by unfold jok; decide)
theorem tg_948_5 : tgt 948 (5) = 953 := rfl
theorem jk_948_5 : jok 948 (5) = True := eq_true (by unfold jok; decide)
theorem tg_953_1018 : tgt 953 (1018) = 1971 := rfl
theorem jk_953_1018 : jok 953 (1018) = True := eq_true (by unfold jok; decide)
theorem tg_1011_5 : tgt 1011 (5) = 1016 := rfl
theorem jk_1011_5 : jok 1011 (5) = True := eq_true (by unfold jok; decide)
theorem tg_1018_15 : tgt 1018 (15) = 1033 := rfl
theorem jk_1018_15 : jok 1018 (15) = True := eq_true (by unfold jok; decide)
theorem tg_1028_5 : tgt 1028 (5) = 1033 := rfl
theorem jk_1028_5 : jok 1028 (5) = True := eq_true (by unfold jok; decide)
theorem tg_1033_938 : tgt 1033 (938) = 1971 := rfl
theorem jk_1033_938 : jok 1033 (938) = True := eq_true (by unfold jok; decide)
theorem tg_1067_5 : tgt 1067 (5) = 1072 := rfl
theorem jk_1067_5 : jok 1067 (5) = True := eq_true (by unfold jok; decide)
theorem tg_1074_15 : tgt 1074 (15) = 1089 := rfl
theorem jk_1074_15 : jok 1074 (15) = True := eq_true (by unfold jok; decide)
theorem tg_1084_5 : tgt 1084 (5) = 1089 := rfl
theorem jk_1084_5 : jok 1084 (5) = True := eq_true (by unfold jok; decide)
theorem tg_1089_882 : tgt 1089 (882) = 1971 := rfl
theorem jk_1089_882 : jok 1089 (882) = True := eq_true (by unfold jok; decide)
theorem tg_1123_5 : tgt 1123 (5) = 1128 := rfl
theorem jk_1123_5 : jok 1123 (5) = True := eq_true (by unfold jok; decide)
theorem tg_1130_15 : tgt 1130 (15) = 1145 := rfl
theorem jk_1130_15 : jok 1130 (15) = True := eq_true (by unfold jok; decide)
theorem tg_1140_5 : tgt 1140 (5) = 1145 := rfl
theorem jk_1140_5 : jok 1140 (5) = True := eq_true (by unfold jok; decide)
theorem tg_1145_826 : tgt 1145 (826) = 1971 := rfl
theorem jk_1145_826 : jok 1145 (826) = True := eq_true (by unfold jok; decide)
theorem tg_1179_5 : tgt 1179 (5) = 1184 := rfl
theorem jk_1179_5 : jok 1179 (5) = True := eq_true (by unfold jok; decide)
theorem tg_1186_15 : tgt 1186 (15) = 1201 := rfl
theorem jk_1186_15 : jok 1186 (15) = True := eq_true (by unfold jok; decide)
theorem tg_1196_5 : tgt 1196 (5) = 1201 := rfl
theorem jk_1196_5 : jok 1196 (5) = True := eq_true (by unfold jok; decide)
theorem tg_1201_770 : tgt 1201 (770) = 1971 := rfl
theorem jk_1201_770 : jok 1201 (770) = True := eq_true (by unfold jok; decide)
theorem tg_1259_5 : tgt 1259 (5) = 1264 := rfl
theorem jk_1259_5 : jok 1259 (5) = True := eq_true (by unfold jok; decide)
theorem tg_1266_15 : tgt 1266 (15) = 1281 := rfl
theorem jk_1266_15 : jok 1266 (15) = True := eq_true (by unfold jok; decide)
theorem tg_1276_5 : tgt 1276 (5) = 1281 := rfl
theorem jk_1276_5 : jok 1276 (5) = True := eq_true (by unfold jok; decide)
theorem tg_1281_690 : tgt 1281 (690) = 1971 := rfl
theorem jk_1281_690 : jok 1281 (690) = True := eq_true (by unfold jok; decide)
theorem tg_1315_5 : tgt 1315 (5) = 1320 := rfl
theorem jk_1315_5 : jok 1315 (5) = True := eq_true (by unfold jok; decide)
theorem tg_1322_15 : tgt 1322 (15) = 1337 := rfl
theorem jk_1322_15 : jok 1322 (15) = True := eq_true (by unfold jok; decide)
theorem tg_1332_5 : tgt 1332 (5) = 1337 := rfl
theorem jk_1332_5 : jok 1332 (5) = True := eq_true (by unfold jok; decide)
theorem tg_1337_634 : tgt 1337 (634) = 1971 := rfl
theorem jk_1337_634 : jok 1337 (634) = True := eq_true (by unfold jok; decide)
theorem tg_1371_5 : tgt 1371 (5) = 1376 := rfl
theorem jk_1371_5 : jok 1371 (5) = True := eq_true (by unfold jok; decide)
theorem tg_1378_15 : tgt 1378 (15) = 1393 := rfl
theorem jk_1378_15 : jok 1378 (15) = True := eq_true (by unfold jok; decide)
theorem tg_1388_5 : tgt 1388 (5) = 1393 := rfl
theorem jk_1388_5 : jok 1388 (5) = True := eq_true (by unfold jok; decide)
theorem tg_1393_578 : tgt 1393 (578) = 1971 := rfl
theorem jk_1393_578 : jok 1393 (578) = True := eq_true (by unfold jok; decide)
theorem tg_1427_5 : tgt 1427 (5) = 1432 := rfl
theorem jk_1427_5 : jok 1427 (5) = True := eq_true (by unfold jok; decide)
theorem tg_1434_15 : tgt 1434 (15) = 1449 := rfl
theorem jk_1434_15 : jok 1434 (15) = True := eq_true (by unfold jok; decide)
theorem tg_1444_5 : tgt 1444 (5) = 1449 := rfl
theorem jk_1444_5 : jok 1444 (5) = True := eq_true (by unfold jok; decide)
theorem tg_1449_522 : tgt 1449 (522) = 1971 := rfl
theorem jk_1449_522 : jok 1449 (522) = True := eq_true (by unfold jok; decide)
theorem tg_1483_5 : tgt 1483 (5) = 1488 := rfl
theorem jk_1483_5 : jok 1483 (5) = True := eq_true (by unfold jok; decide)
theorem tg_1490_15 : tgt 1490 (15) = 1505 := rfl
theorem jk_1490_15 : jok 1490 (15) = True := eq_true (by unfold jok; decide)
theorem tg_1500_5 : tgt 1500 (5) = 1505 := rfl
theorem jk_1500_5 : jok 1500 (5) = True := eq_true (by unfold jok; decide)
theorem tg_1505_466 : tgt 1505 (466) = 1971 := rfl
theorem jk_1505_466 : jok 1505 (466) = True := eq_true (by unfold jok; decide)
theorem tg_1516_455 : tgt 1516 (455) = 1971 := rfl
theorem jk_1516_455 : jok 1516 (455) = True := eq_true (by unfold jok; decide)
theorem tg_1541_5 : tgt 1541 (5) = 1546 := rfl
theorem jk_1541_5 : jok 1541 (5) = True := eq_true (by unfold jok; decide)
theorem tg_1548_35 : tgt 1548 (35) = 1583 := rfl
theorem jk_1548_35 : jok 1548 (35) = True := eq_true (by unfold jok; decide)
theorem tg_1558_25 : tgt 1558 (25) = 1583 := rfl
theorem jk_1558_25 : jok 1558 (25) = True := eq_true (by unfold jok; decide)
theorem tg_1570_11 : tgt 1570 (11) = 1581 := rfl
theorem jk_1570_11 : jok 1570 (11) = True := eq_true (by unfold jok; decide)
theorem tg_1578_5 : tgt 1578 (5) = 1583 := rfl
theorem jk_1578_5 : jok 1578 (5) = True := eq_true (by unfold jok; decide)
theorem tg_1583_388 : tgt 1583 (388) = 1971 := rfl
theorem jk_1583_388 : jok 1583 (388) = True := eq_true (by unfold jok; decide)
theorem tg_1606_5 : tgt 1606 (5) = 1611 := rfl
theorem jk_1606_5 : jok 1606 (5) = True := eq_true (by unfold jok; decide)
theorem tg_1613_36 : tgt 1613 (36) = 1649 := rfl
theorem jk_1613_36 : jok 1613 (36) = True := eq_true (by unfold jok; decide)
theorem tg_1624_25 : tgt 1624 (25) = 1649 := rfl
theorem jk_1624_25 : jok 1624 (25) = True := eq_true (by unfold jok; decide)
theorem tg_1636_11 : tgt 1636 (11) = 1647 := rfl
theorem jk_1636_11 : jok 1636 (11) = True := eq_true (by unfold jok; decide)
theorem tg_1644_5 : tgt 1644 (5) = 1649 := rfl
theorem jk_1644_5 : jok 1644 (5) = True := eq_true (by unfold jok; decide)
theorem tg_1649_322 : tgt 1649 (322) = 1971 := rfl
theorem jk_1649_322 : jok 1649 (322) = True := eq_true (by unfold jok; decide)
theorem tg_1685_5 : tgt 1685 (5) = 1690 := rfl
theorem jk_1685_5 : jok 1685 (5) = True := eq_true (by unfold jok; decide)
theorem tg_1692_15 : tgt 1692 (15) = 1707 := rfl
theorem jk_1692_15 : jok 1692 (15) = True := eq_true (by unfold jok; decide)
theorem tg_1702_5 : tgt 1702 (5) = 1707 := rfl
theorem jk_1702_5 : jok 1702 (5) = True := eq_true (by unfold jok; decide)
theorem tg_1707_264 : tgt 1707 (264) = 1971 := rfl
theorem jk_1707_264 : jok 1707 (264) = True := eq_true (by unfold jok; decide)
theorem tg_1729_5 : tgt 1729 (5) = 1734 := rfl
theorem jk_1729_5 : jok 1729 (5) = True := eq_true (by unfold jok; decide)
theorem tg_1736_15 : tgt 1736 (15) = 1751 := rfl
theorem jk_1736_15 : jok 1736 (15) = True := eq_true (by unfold jok; decide)
theorem tg_1746_5 : tgt 1746 (5) = 1751 := rfl
theorem jk_1746_5 : jok 1746 (5) = True := eq_true (by unfold jok; decide)
theorem tg_1751_220 : tgt 1751 (220) = 1971 := rfl
theorem jk_1751_220 : jok 1751 (220) = True := eq_true (by unfold jok; decide)
theorem tg_1773_5 : tgt 1773 (5) = 1778 := rfl
theorem jk_1773_5 : jok 1773 (5) = True := eq_true (by unfold jok; decide)
theorem tg_1780_15 : tgt 1780 (15) = 1795 := rfl
theorem jk_1780_15 : jok 1780 (15) = True := eq_true (by unfold jok; decide)
theorem tg_1790_5 : tgt 1790 (5) = 1795 := rfl
theorem jk_1790_5 : jok 1790 (5) = True := eq_true (by unfold jok; decide)
theorem tg_1795_176 : tgt 1795 (176) = 1971 := rfl
theorem jk_1795_176 : jok 1795 (176) = True := eq_true (by unfold jok; decide)
theorem tg_1805_7 : tgt 1805 (7) = 1812 := rfl
theorem jk_1805_7 : jok 1805 (7) = True := eq_true (by unfold jok; decide)
theorem tg_1809_4 : tgt 1809 (4) = 1813 := rfl
theorem jk_1809_4 : jok 1809 (4) = True := eq_true (by unfold jok; decide)
theorem tg_1826_7 : tgt 1826 (7) = 1833 := rfl
theorem jk_1826_7 : jok 1826 (7) = True := eq_true (by unfold jok; decide)
theorem tg_1830_4 : tgt 1830 (4) = 1834 := rfl
theorem jk_1830_4 : jok 1830 (4) = True := eq_true (by unfold jok; decide)
theorem tg_1845_5 : tgt 1845 (5) = 1850 := rfl
theorem jk_1845_5 : jok 1845 (5) = True := eq_true (by unfold jok; decide)
theorem tg_1852_15 : tgt 1852 (15) = 1867 := rfl
theorem jk_1852_15 : jok 1852 (15) = True := eq_true (by unfold jok; decide)
theorem tg_1862_5 : tgt 1862 (5) = 1867 := rfl
theorem jk_1862_5 : jok 1862 (5) = True := eq_true (by unfold jok; decide)
theorem tg_1867_104 : tgt 1867 (104) = 1971 := rfl
theorem jk_1867_104 : jok 1867 (104) = True := eq_true (by unfold jok; decide)
theorem tg_1889_5 : tgt 1889 (5) = 1894 := rfl
theorem jk_1889_5 : jok 1889 (5) = True := eq_true (by unfold jok; decide)
theorem tg_1896_15 : tgt 1896 (15) = 1911 := rfl
theorem jk_1896_15 : jok 1896 (15) = True := eq_true (by unfold jok; decide)
theorem tg_1906_5 : tgt 1906 (5) = 1911 := rfl
theorem jk_1906_5 : jok 1906 (5) = True := eq_true (by unfold jok; decide)
theorem tg_1911_60 : tgt 1911 (60) = 1971 := rfl
theorem jk_1911_60 : jok 1911 (60) = True := eq_true (by unfold jok; decide)
theorem tg_1922_49 : tgt 1922 (49) = 1971 := rfl
theorem jk_1922_49 : jok 1922 (49) = True := eq_true (by unfold jok; decide)
theorem tg_1946_5 : tgt 1946 (5) = 1951 := rfl
theorem jk_1946_5 : jok 1946 (5) = True := eq_true (by unfold jok; decide)
theorem tg_1953_15 : tgt 1953 (15) = 1968 := rfl
theorem jk_1953_15 : jok 1953 (15) = True := eq_true (by unfold jok; decide)
theorem tg_1963_5 : tgt 1963 (5) = 1968 := rfl
theorem jk_1963_5 : jok 1963 (5) = True := eq_true (by unfold jok; decide)
theorem tg_1968_3 : tgt 1968 (3) = 1971 := rfl
theorem jk_1968_3 : jok 1968 (3) = True := eq_true (by unfold jok; decide)
theorem tg_1974_m1946 : tgt 1974 (-1946) = 28 := rfl
theorem jk_1974_m1946 : jok 1974 (-1946) = True := eq_true (by unfold jok; decide)
theorem bi_m128 : (Int8.ofInt (-128)).toInt32 = (-128) := by decide
theorem bi_m100 : (Int8.ofInt (-100)).toInt32 = (-100) := by decide
theorem bi_m10 : (Int8.ofInt (-10)).toInt32 = (-10) := by decide
theorem bi_m9 : (Int8.ofInt (-9)).toInt32 = (-9) := by decide
theorem bi_6 : (Int8.ofInt (6)).toInt32 = 6 := by decide
theorem bi_7 : (Int8.ofInt (7)).toInt32 = 7 := by decide
theorem bi_8 : (Int8.ofInt (8)).toInt32 = 8 := by decide
theorem bi_9 : (Int8.ofInt (9)).toInt32 = 9 := by decide
theorem bi_10 : (Int8.ofInt (10)).toInt32 = 10 := by decide
theorem bi_12 : (Int8.ofInt (12)).toInt32 = 12 := by decide
theorem bi_16 : (Int8.ofInt (16)).toInt32 = 16 := by decide
theorem bi_17 : (Int8.ofInt (17)).toInt32 = 17 := by decide
theorem bi_19 : (Int8.ofInt (19)).toInt32 = 19 := by decide
theorem bi_20 : (Int8.ofInt (20)).toInt32 = 20 := by decide
theorem bi_24 : (Int8.ofInt (24)).toInt32 = 24 := by decide
theorem bi_31 : (Int8.ofInt (31)).toInt32 = 31 := by decide
theorem bi_32 : (Int8.ofInt (32)).toInt32 = 32 := by decide
theorem bi_40 : (Int8.ofInt (40)).toInt32 = 40 := by decide
theorem bi_45 : (Int8.ofInt (45)).toInt32 = 45 := by decide
theorem bi_47 : (Int8.ofInt (47)).toInt32 = 47 := by decide
theorem bi_48 : (Int8.ofInt (48)).toInt32 = 48 := by decide
theorem bi_49 : (Int8.ofInt (49)).toInt32 = 49 := by decide
theorem bi_57 : (Int8.ofInt (57)).toInt32 = 57 := by decide
theorem bi_59 : (Int8.ofInt (59)).toInt32 = 59 := by decide
theorem bi_60 : (Int8.ofInt (60)).toInt32 = 60 := by decide
theorem bi_64 : (Int8.ofInt (64)).toInt32 = 64 := by decide
theorem bi_97 : (Int8.ofInt (97)).toInt32 = 97 := by decide
theorem bi_100 : (Int8.ofInt (100)).toInt32 = 100 := by decide
theorem bi_108 : (Int8.ofInt (108)).toInt32 = 108 := by decide
theorem bi_110 : (Int8.ofInt (110)).toInt32 = 110 := by decide
theorem bi_117 : (Int8.ofInt (117)).toInt32 = 117 := by decide
theorem bi_120 : (Int8.ofInt (120)).toInt32 = 120 := by decide
theorem bi_122 : (Int8.ofInt (122)).toInt32 = 122 := by decide
theorem bi_124 : (Int8.ofInt (124)).toInt32 = 124 := by decide
theorem ic_m1 : Int32.ofInt (-1) = (-1) := by decide
theorem ic_0 : Int32.ofInt (0) = 0 := by decide
theorem ic_1 : Int32.ofInt (1) = 1 := by decide
theorem ic_2 : Int32.ofInt (2) = 2 := by decide
theorem ic_3 : Int32.ofInt (3) = 3 := by decide
theorem ic_4 : Int32.ofInt (4) = 4 := by decide
theorem ic_5 : Int32.ofInt (5) = 5 := by decide
theorem ic_6 : Int32.ofInt (6) = 6 := by decide
theorem si_128 : (Int16.ofInt (128)).toInt32 = 128 := by decide
theorem si_255 : (Int16.ofInt (255)).toInt32 = 255 := by decide
theorem si_318 : (Int16.ofInt (318)).toInt32 = 318 := by decide
theorem si_2226 : (Int16.ofInt (2226)).toInt32 = 2226 := by decide
theorem si_2544 : (Int16.ofInt (2544)).toInt32 = 2544 := by decide
theorem si_9999 : (Int16.ofInt (9999)).toInt32 = 9999 := by decide
theorem no_cp_1_14 : CP 1 14 = none := rfl
theorem no_cp_1_68 : CP 1 68 = none := rfl
theorem no_cp_1_74 : CP 1 74 = none := rfl
theorem no_cp_1_103 : CP 1 103 = none := rfl
theorem no_cp_1_127 : CP 1 127 = none := rfl
theorem no_cp_1_181 : CP 1 181 = none := rfl
theorem no_cp_1_193 : CP 1 193 = none := rfl
theorem no_cp_2_26 : CP 2 26 = none := rfl
theorem no_cp_2_108 : CP 2 108 = none := rfl
theorem no_cp_2_114 : CP 2 114 = none := rfl
theorem no_cp_2_125 : CP 2 125 = none := rfl
theorem no_cp_2_133 : CP 2 133 = none := rfl
theorem no_cp_2_137 : CP 2 137 = none := rfl
theorem no_cp_2_138 : CP 2 138 = none := rfl
theorem no_cp_2_144 : CP 2 144 = none := rfl
theorem no_cp_2_148 : CP 2 148 = none := rfl
theorem no_cp_2_191 : CP 2 191 = none := rfl
theorem no_cp_2_197 : CP 2 197 = none := rfl
theorem no_cp_2_226 : CP 2 226 = none := rfl
theorem no_cp_2_245 : CP 2 245 = none := rfl
theorem no_cp_2_248 : CP 2 248 = none := rfl
theorem no_cp_2_251 : CP 2 251 = none := rfl
theorem no_cp_4_47 : CP 4 47 = none := rfl
theorem no_cp_4_54 : CP 4 54 = none := rfl
theorem no_cp_4_106 : CP 4 106 = none := rfl
theorem no_cp_4_495 : CP 4 495 = none := rfl
theorem no_cp_4_498 : CP 4 498 = none := rfl
theorem no_cp_4_521 : CP 4 521 = none := rfl
theorem no_cp_4_541 : CP 4 541 = none := rfl
theorem no_cp_4_628 : CP 4 628 = none := rfl
theorem no_cp_4_632 : CP 4 632 = none := rfl
theorem no_cp_4_637 : CP 4 637 = none := rfl
theorem no_cp_4_640 : CP 4 640 = none := rfl
theorem no_cp_4_647 : CP 4 647 = none := rfl
theorem no_cp_4_649 : CP 4 649 = none := rfl
theorem no_cp_4_650 : CP 4 650 = none := rfl
theorem no_cp_4_685 : CP 4 685 = none := rfl
theorem no_cp_4_689 : CP 4 689 = none := rfl
theorem no_cp_4_1051 : CP 4 1051 = none := rfl
theorem no_cp_4_1059 : CP 4 1059 = none := rfl
theorem no_cp_4_1062 : CP 4 1062 = none := rfl
theorem no_cp_4_1065 : CP 4 1065 = none := rfl
theorem no_cp_5_11 : CP 5 11 = none := rfl
theorem no_cp_5_48 : CP 5 48 = none := rfl
theorem no_cp_5_67 : CP 5 67 = none := rfl
theorem no_cp_5_71 : CP 5 71 = none := rfl
theorem no_cp_5_96 : CP 5 96 = none := rfl
theorem no_cp_5_111 : CP 5 111 = none := rfl
theorem no_cp_5_123 : CP 5 123 = none := rfl
theorem no_cp_5_126 : CP 5 126 = none := rfl
theorem no_cp_5_157 : CP 5 157 = none := rfl
theorem no_cp_5_161 : CP 5 161 = none := rfl
theorem no_cp_5_164 : CP 5 164 = none := rfl
theorem no_cp_5_173 : CP 5 173 = none := rfl
theorem no_cp_5_183 : CP 5 183 = none := rfl
theorem no_cp_5_220 : CP 5 220 = none := rfl
theorem no_cp_5_224 : CP 5 224 = none := rfl
theorem no_cp_5_228 : CP 5 228 = none := rfl
theorem no_cp_5_232 : CP 5 232 = none := rfl
theorem no_cp_5_235 : CP 5 235 = none := rfl
theorem no_cp_5_238 : CP 5 238 = none := rfl
theorem no_cp_5_241 : CP 5 241 = none := rfl
theorem no_cp_5_244 : CP 5 244 = none := rfl
theorem no_cp_5_257 : CP 5 257 = none := rfl
theorem no_cp_5_259 : CP 5 259 = none := rfl
theorem no_cp_5_380 : CP 5 380 = none := rfl
theorem no_cp_5_393 : CP 5 393 = none := rfl
theorem no_cp_5_414 : CP 5 414 = none := rfl
theorem no_cp_5_419 : CP 5 419 = none := rfl
theorem no_cp_7_66 : CP 7 66 = none := rfl
theorem no_cp_7_73 : CP 7 73 = none := rfl
theorem no_cp_7_79 : CP 7 79 = none := rfl
theorem no_cp_7_118 : CP 7 118 = none := rfl
theorem no_cp_8_62 : CP 8 62 = none := rfl
theorem no_cp_8_66 : CP 8 66 = none := rfl
theorem no_cp_8_71 : CP 8 71 = none := rfl
theorem no_cp_8_75 : CP 8 75 = none := rfl
theorem no_cp_8_79 : CP 8 79 = none := rfl
theorem no_cp_8_84 : CP 8 84 = none := rfl
theorem no_cp_8_194 : CP 8 194 = none := rfl
theorem no_cp_8_201 : CP 8 201 = none := rfl
theorem no_cp_10_13 : CP 10 13 = none := rfl
theorem no_cp_10_95 : CP 10 95 = none := rfl
theorem no_cp_10_300 : CP 10 300 = none := rfl
theorem no_cp_10_304 : CP 10 304 = none := rfl
theorem no_cp_10_339 : CP 10 339 = none := rfl
theorem no_cp_10_343 : CP 10 343 = none := rfl
theorem no_cp_17_95 : CP 17 95 = none := rfl
theorem no_cp_17_99 : CP 17 99 = none := rfl
theorem no_cp_17_103 : CP 17 103 = none := rfl
theorem no_cp_18_9 : CP 18 9 = none := rfl
theorem no_cp_18_38 : CP 18 38 = none := rfl
theorem no_cp_18_84 : CP 18 84 = none := rfl
theorem no_cp_18_88 : CP 18 88 = none := rfl
theorem no_cp_18_92 : CP 18 92 = none := rfl
theorem no_cp_18_95 : CP 18 95 = none := rfl
theorem no_cp_18_99 : CP 18 99 = none := rfl
theorem no_cp_18_232 : CP 18 232 = none := rfl
theorem no_cp_18_236 : CP 18 236 = none := rfl
theorem no_cp_18_240 : CP 18 240 = none := rfl
theorem no_cp_26_105 : CP 26 105 = none := rfl
theorem no_cp_38_120 : CP 38 120 = none := rfl
theorem no_cp_38_129 : CP 38 129 = none := rfl
theorem no_cp_38_133 : CP 38 133 = none := rfl
theorem no_cp_38_136 : CP 38 136 = none := rfl
theorem no_cp_38_139 : CP 38 139 = none := rfl
theorem no_cp_38_143 : CP 38 143 = none := rfl
theorem no_cp_38_147 : CP 38 147 = none := rfl
theorem no_cp_38_151 : CP 38 151 = none := rfl
theorem no_cp_38_154 : CP 38 154 = none := rfl
theorem no_cp_38_157 : CP 38 157 = none := rfl
theorem no_cp_38_160 : CP 38 160 = none := rfl
theorem no_cp_38_163 : CP 38 163 = none := rfl
theorem no_cp_38_166 : CP 38 166 = none := rfl
theorem no_cp_38_169 : CP 38 169 = none := rfl
theorem no_cp_38_172 : CP 38 172 = none := rfl
theorem no_cp_38_175 : CP 38 175 = none := rfl
theorem no_cp_38_178 : CP 38 178 = none := rfl
theorem no_cp_38_181 : CP 38 181 = none := rfl
theorem no_cp_38_184 : CP 38 184 = none := rfl
theorem no_cp_38_187 : CP 38 187 = none := rfl
theorem no_cp_38_194 : CP 38 194 = none := rfl
theorem no_cp_38_198 : CP 38 198 = none := rfl
theorem no_cp_38_201 : CP 38 201 = none := rfl
theorem no_cp_38_205 : CP 38 205 = none := rfl
theorem no_cp_38_209 : CP 38 209 = none := rfl
theorem no_cp_38_212 : CP 38 212 = none := rfl
theorem no_cp_38_216 : CP 38 216 = none := rfl
theorem no_cp_38_223 : CP 38 223 = none := rfl
theorem no_cp_39_108 : CP 39 108 = none := rfl
theorem no_cp_39_129 : CP 39 129 = none := rfl
theorem no_cp_39_133 : CP 39 133 = none := rfl
theorem no_cp_39_204 : CP 39 204 = none := rfl
theorem no_cp_39_232 : CP 39 232 = none := rfl
theorem no_cp_39_243 : CP 39 243 = none := rfl
theorem no_cp_39_250 : CP 39 250 = none := rfl
theorem no_cp_39_298 : CP 39 298 = none := rfl
theorem no_cp_39_365 : CP 39 365 = none := rfl
theorem no_cp_39_375 : CP 39 375 = none := rfl
theorem no_cp_39_398 : CP 39 398 = none := rfl
theorem no_cp_40_81 : CP 40 81 = none := rfl
theorem no_cp_40_85 : CP 40 85 = none := rfl
theorem no_cp_40_98 : CP 40 98 = none := rfl
theorem no_cp_40_111 : CP 40 111 = none := rfl
theorem no_cp_40_117 : CP 40 117 = none := rfl
theorem no_cp_40_120 : CP 40 120 = none := rfl
theorem no_cp_40_123 : CP 40 123 = none := rfl
theorem no_cp_40_130 : CP 40 130 = none := rfl
theorem no_cp_40_137 : CP 40 137 = none := rfl
theorem no_cp_41_33 : CP 41 33 = none := rfl
theorem no_cp_42_60 : CP 42 60 = none := rfl
theorem no_cp_42_98 : CP 42 98 = none := rfl
theorem no_cp_42_101 : CP 42 101 = none := rfl
theorem no_cp_42_104 : CP 42 104 = none := rfl
theorem no_cp_42_213 : CP 42 213 = none := rfl
theorem no_cp_43_69 : CP 43 69 = none := rfl
theorem no_cp_43_120 : CP 43 120 = none := rfl
theorem no_cp_44_73 : CP 44 73 = none := rfl
theorem no_cp_47_38 : CP 47 38 = none := rfl
theorem no_cp_49_33 : CP 49 33 = none := rfl
theorem no_gc_0_7 : GC 0 7 = none := rfl
theorem no_gc_1_10 : GC 1 10 = none := rfl
theorem no_gc_1_71 : GC 1 71 = none := rfl
theorem no_gc_1_86 : GC 1 86 = none := rfl
theorem no_gc_1_93 : GC 1 93 = none := rfl
theorem no_gc_1_100 : GC 1 100 = none := rfl
theorem no_gc_1_118 : GC 1 118 = none := rfl
theorem no_gc_1_189 : GC 1 189 = none := rfl
theorem no_gc_2_32 : GC 2 32 = none := rfl
theorem no_gc_2_40 : GC 2 40 = none := rfl
theorem no_gc_2_83 : GC 2 83 = none := rfl
theorem no_gc_2_100 : GC 2 100 = none := rfl
theorem no_gc_2_104 : GC 2 104 = none := rfl
theorem no_gc_2_195 : GC 2 195 = none := rfl
theorem no_gc_2_204 : GC 2 204 = none := rfl
theorem no_gc_2_208 : GC 2 208 = none := rfl
theorem no_gc_2_397 : GC 2 397 = none := rfl
theorem no_gc_2_399 : GC 2 399 = none := rfl
theorem no_gc_4_335 : GC 4 335 = none := rfl
theorem no_gc_4_492 : GC 4 492 = none := rfl
theorem no_gc_4_505 : GC 4 505 = none := rfl
theorem no_gc_4_549 : GC 4 549 = none := rfl
theorem no_gc_4_552 : GC 4 552 = none := rfl
theorem no_gc_4_681 : GC 4 681 = none := rfl
theorem no_gc_4_711 : GC 4 711 = none := rfl
theorem no_gc_4_1047 : GC 4 1047 = none := rfl
theorem no_gc_5_28 : GC 5 28 = none := rfl
theorem no_gc_5_32 : GC 5 32 = none := rfl
theorem no_gc_5_37 : GC 5 37 = none := rfl
theorem no_gc_6_47 : GC 6 47 = none := rfl
theorem no_gc_7_25 : GC 7 25 = none := rfl
theorem no_gc_7_29 : GC 7 29 = none := rfl
theorem no_gc_7_32 : GC 7 32 = none := rfl
theorem no_gc_7_69 : GC 7 69 = none := rfl
theorem no_gc_7_123 : GC 7 123 = none := rfl
theorem no_gc_7_129 : GC 7 129 = none := rfl
theorem no_gc_7_131 : GC 7 131 = none := rfl
theorem no_gc_7_135 : GC 7 135 = none := rfl
theorem no_gc_7_198 : GC 7 198 = none := rfl
theorem no_gc_8_94 : GC 8 94 = none := rfl
theorem no_gc_8_98 : GC 8 98 = none := rfl
theorem no_gc_8_101 : GC 8 101 = none := rfl
theorem no_gc_10_50 : GC 10 50 = none := rfl
theorem no_gc_10_54 : GC 10 54 = none := rfl
theorem no_gc_10_61 : GC 10 61 = none := rfl
theorem no_gc_10_90 : GC 10 90 = none := rfl
theorem no_gc_10_310 : GC 10 310 = none := rfl
theorem no_gc_12_31 : GC 12 31 = none := rfl
theorem no_gc_13_27 : GC 13 27 = none := rfl
theorem no_gc_13_35 : GC 13 35 = none := rfl
theorem no_gc_13_39 : GC 13 39 = none := rfl
theorem no_gc_13_49 : GC 13 49 = none := rfl
theorem no_gc_13_60 : GC 13 60 = none := rfl
theorem no_gc_13_73 : GC 13 73 = none := rfl
theorem no_gc_13_78 : GC 13 78 = none := rfl
theorem no_gc_24_25 : GC 24 25 = none := rfl
theorem no_gc_24_36 : GC 24 36 = none := rfl
theorem no_gc_24_39 : GC 24 39 = none := rfl
theorem no_gc_31_65 : GC 31 65 = none := rfl
theorem no_gc_32_57 : GC 32 57 = none := rfl
theorem no_gc_32_73 : GC 32 73 = none := rfl
theorem no_gc_32_76 : GC 32 76 = none := rfl
theorem no_gc_32_86 : GC 32 86 = none := rfl
theorem no_gc_32_90 : GC 32 90 = none := rfl
theorem no_gc_32_93 : GC 32 93 = none := rfl
theorem no_gc_32_102 : GC 32 102 = none := rfl
theorem no_gc_32_106 : GC 32 106 = none := rfl
theorem no_gc_32_111 : GC 32 111 = none := rfl
theorem no_gc_32_115 : GC 32 115 = none := rfl
theorem no_gc_32_121 : GC 32 121 = none := rfl
theorem no_gc_32_128 : GC 32 128 = none := rfl
theorem no_gc_38_7 : GC 38 7 = none := rfl
theorem no_gc_38_17 : GC 38 17 = none := rfl
theorem no_gc_38_23 : GC 38 23 = none := rfl
theorem no_gc_38_26 : GC 38 26 = none := rfl
theorem no_gc_38_29 : GC 38 29 = none := rfl
theorem no_gc_38_33 : GC 38 33 = none := rfl
theorem no_gc_38_37 : GC 38 37 = none := rfl
theorem no_gc_38_41 : GC 38 41 = none := rfl
theorem no_gc_38_44 : GC 38 44 = none := rfl
theorem no_gc_38_47 : GC 38 47 = none := rfl
theorem no_gc_38_50 : GC 38 50 = none := rfl
theorem no_gc_38_53 : GC 38 53 = none := rfl
theorem no_gc_38_56 : GC 38 56 = none := rfl
theorem no_gc_38_61 : GC 38 61 = none := rfl
theorem no_gc_38_64 : GC 38 64 = none := rfl
theorem no_gc_38_67 : GC 38 67 = none := rfl
theorem no_gc_38_70 : GC 38 70 = none := rfl
theorem no_gc_38_73 : GC 38 73 = none := rfl
theorem no_gc_38_76 : GC 38 76 = none := rfl
theorem no_gc_38_80 : GC 38 80 = none := rfl
theorem no_gc_38_83 : GC 38 83 = none := rfl
theorem no_gc_38_89 : GC 38 89 = none := rfl
theorem no_gc_38_93 : GC 38 93 = none := rfl
theorem no_gc_38_99 : GC 38 99 = none := rfl
theorem no_gc_38_103 : GC 38 103 = none := rfl
theorem no_gc_38_106 : GC 38 106 = none := rfl
theorem no_gc_38_110 : GC 38 110 = none := rfl
theorem no_gc_38_113 : GC 38 113 = none := rfl
theorem no_gc_38_125 : GC 38 125 = none := rfl
theorem no_gc_38_126 : GC 38 126 = none := rfl
theorem no_gc_38_132 : GC 38 132 = none := rfl
theorem no_gc_38_135 : GC 38 135 = none := rfl
theorem no_gc_38_138 : GC 38 138 = none := rfl
theorem no_gc_38_142 : GC 38 142 = none := rfl
theorem no_gc_38_146 : GC 38 146 = none := rfl
theorem no_gc_38_150 : GC 38 150 = none := rfl
theorem no_gc_38_153 : GC 38 153 = none := rfl
theorem no_gc_38_156 : GC 38 156 = none := rfl
theorem no_gc_38_159 : GC 38 159 = none := rfl
theorem no_gc_38_162 : GC 38 162 = none := rfl
theorem no_gc_38_165 : GC 38 165 = none := rfl
theorem no_gc_38_168 : GC 38 168 = none := rfl
theorem no_gc_38_171 : GC 38 171 = none := rfl
theorem no_gc_38_174 : GC 38 174 = none := rfl
theorem no_gc_38_177 : GC 38 177 = none := rfl
theorem no_gc_38_180 : GC 38 180 = none := rfl
theorem no_gc_38_183 : GC 38 183 = none := rfl
theorem no_gc_38_186 : GC 38 186 = none := rfl
theorem no_gc_38_189 : GC 38 189 = none := rfl
theorem no_gc_38_190 : GC 38 190 = none := rfl
theorem no_gc_38_193 : GC 38 193 = none := rfl
theorem no_gc_38_197 : GC 38 197 = none := rfl
theorem no_gc_38_200 : GC 38 200 = none := rfl
theorem no_gc_38_204 : GC 38 204 = none := rfl
theorem no_gc_38_208 : GC 38 208 = none := rfl
theorem no_gc_38_211 : GC 38 211 = none := rfl
theorem no_gc_38_215 : GC 38 215 = none := rfl
theorem no_gc_38_218 : GC 38 218 = none := rfl
theorem no_gc_38_219 : GC 38 219 = none := rfl
theorem no_gc_38_222 : GC 38 222 = none := rfl
theorem no_gc_38_225 : GC 38 225 = none := rfl
theorem no_gc_39_60 : GC 39 60 = none := rfl
theorem no_gc_39_64 : GC 39 64 = none := rfl
theorem no_gc_39_68 : GC 39 68 = none := rfl
theorem no_gc_39_83 : GC 39 83 = none := rfl
theorem no_gc_39_92 : GC 39 92 = none := rfl
theorem no_gc_39_96 : GC 39 96 = none := rfl
theorem no_gc_39_100 : GC 39 100 = none := rfl
theorem no_gc_39_116 : GC 39 116 = none := rfl
theorem no_gc_39_126 : GC 39 126 = none := rfl
theorem no_gc_39_169 : GC 39 169 = none := rfl
theorem no_gc_39_172 : GC 39 172 = none := rfl
theorem no_gc_39_175 : GC 39 175 = none := rfl
theorem no_gc_39_178 : GC 39 178 = none := rfl
theorem no_gc_39_210 : GC 39 210 = none := rfl
theorem no_gc_39_223 : GC 39 223 = none := rfl
theorem no_gc_39_235 : GC 39 235 = none := rfl
theorem no_gc_39_239 : GC 39 239 = none := rfl
theorem no_gc_39_247 : GC 39 247 = none := rfl
theorem no_gc_39_253 : GC 39 253 = none := rfl
theorem no_gc_39_259 : GC 39 259 = none := rfl
theorem no_gc_39_262 : GC 39 262 = none := rfl
theorem no_gc_39_268 : GC 39 268 = none := rfl
theorem no_gc_39_277 : GC 39 277 = none := rfl
theorem no_gc_39_287 : GC 39 287 = none := rfl
theorem no_gc_39_288 : GC 39 288 = none := rfl
theorem no_gc_39_291 : GC 39 291 = none := rfl
theorem no_gc_39_294 : GC 39 294 = none := rfl
theorem no_gc_39_302 : GC 39 302 = none := rfl
theorem no_gc_39_306 : GC 39 306 = none := rfl
theorem no_gc_39_312 : GC 39 312 = none := rfl
theorem no_gc_39_318 : GC 39 318 = none := rfl
theorem no_gc_39_321 : GC 39 321 = none := rfl
theorem no_gc_39_325 : GC 39 325 = none := rfl
theorem no_gc_39_339 : GC 39 339 = none := rfl
theorem no_gc_39_360 : GC 39 360 = none := rfl
theorem no_gc_39_362 : GC 39 362 = none := rfl
theorem no_gc_39_364 : GC 39 364 = none := rfl
theorem no_gc_39_383 : GC 39 383 = none := rfl
theorem no_gc_39_387 : GC 39 387 = none := rfl
theorem no_gc_39_395 : GC 39 395 = none := rfl
theorem no_gc_39_402 : GC 39 402 = none := rfl
theorem no_gc_39_403 : GC 39 403 = none := rfl
theorem no_gc_39_409 : GC 39 409 = none := rfl
theorem no_gc_40_93 : GC 40 93 = none := rfl
theorem no_gc_40_102 : GC 40 102 = none := rfl
theorem no_gc_40_105 : GC 40 105 = none := rfl
theorem no_gc_40_134 : GC 40 134 = none := rfl
theorem no_gc_40_140 : GC 40 140 = none := rfl
theorem no_gc_40_146 : GC 40 146 = none := rfl
theorem no_gc_40_149 : GC 40 149 = none := rfl
theorem no_gc_40_156 : GC 40 156 = none := rfl
theorem no_gc_40_159 : GC 40 159 = none := rfl
theorem no_gc_40_162 : GC 40 162 = none := rfl
theorem no_gc_40_165 : GC 40 165 = none := rfl
theorem no_gc_40_168 : GC 40 168 = none := rfl
theorem no_gc_41_37 : GC 41 37 = none := rfl
theorem no_gc_41_43 : GC 41 43 = none := rfl
theorem no_gc_42_64 : GC 42 64 = none := rfl
theorem no_gc_42_68 : GC 42 68 = none := rfl
theorem no_gc_42_72 : GC 42 72 = none := rfl
theorem no_gc_42_75 : GC 42 75 = none := rfl
theorem no_gc_42_79 : GC 42 79 = none := rfl
theorem no_gc_42_83 : GC 42 83 = none := rfl
theorem no_gc_42_86 : GC 42 86 = none := rfl
theorem no_gc_42_89 : GC 42 89 = none := rfl
theorem no_gc_42_92 : GC 42 92 = none := rfl
theorem no_gc_42_95 : GC 42 95 = none := rfl
theorem no_gc_42_107 : GC 42 107 = none := rfl
theorem no_gc_42_111 : GC 42 111 = none := rfl
theorem no_gc_42_115 : GC 42 115 = none := rfl
theorem no_gc_42_118 : GC 42 118 = none := rfl
theorem no_gc_42_121 : GC 42 121 = none := rfl
theorem no_gc_42_124 : GC 42 124 = none := rfl
theorem no_gc_42_128 : GC 42 128 = none := rfl
theorem no_gc_42_131 : GC 42 131 = none := rfl
theorem no_gc_42_135 : GC 42 135 = none := rfl
theorem no_gc_42_139 : GC 42 139 = none := rfl
theorem no_gc_42_142 : GC 42 142 = none := rfl
theorem no_gc_42_145 : GC 42 145 = none := rfl
theorem no_gc_42_148 : GC 42 148 = none := rfl
theorem no_gc_42_151 : GC 42 151 = none := rfl
theorem no_gc_42_154 : GC 42 154 = none := rfl
theorem no_gc_42_157 : GC 42 157 = none := rfl
theorem no_gc_42_160 : GC 42 160 = none := rfl
theorem no_gc_42_163 : GC 42 163 = none := rfl
theorem no_gc_42_166 : GC 42 166 = none := rfl
theorem no_gc_42_169 : GC 42 169 = none := rfl
theorem no_gc_42_172 : GC 42 172 = none := rfl
theorem no_gc_42_175 : GC 42 175 = none := rfl
theorem no_gc_42_178 : GC 42 178 = none := rfl
theorem no_gc_42_185 : GC 42 185 = none := rfl
theorem no_gc_42_190 : GC 42 190 = none := rfl
theorem no_gc_42_204 : GC 42 204 = none := rfl
theorem no_gc_42_206 : GC 42 206 = none := rfl
theorem no_gc_42_209 : GC 42 209 = none := rfl
theorem no_gc_42_218 : GC 42 218 = none := rfl
theorem no_gc_42_221 : GC 42 221 = none := rfl
theorem no_gc_42_227 : GC 42 227 = none := rfl
theorem no_gc_42_231 : GC 42 231 = none := rfl
theorem no_gc_42_236 : GC 42 236 = none := rfl
theorem no_gc_42_246 : GC 42 246 = none := rfl
theorem no_gc_42_260 : GC 42 260 = none := rfl
theorem no_gc_42_263 : GC 42 263 = none := rfl
theorem no_gc_42_266 : GC 42 266 = none := rfl
theorem no_gc_43_73 : GC 43 73 = none := rfl
theorem no_gc_43_82 : GC 43 82 = none := rfl
theorem no_gc_43_98 : GC 43 98 = none := rfl
theorem no_gc_43_113 : GC 43 113 = none := rfl
theorem no_gc_43_124 : GC 43 124 = none := rfl
theorem no_gc_43_132 : GC 43 132 = none := rfl
theorem no_gc_43_137 : GC 43 137 = none := rfl
theorem no_gc_43_140 : GC 43 140 = none := rfl
theorem no_gc_43_143 : GC 43 143 = none := rfl
theorem no_gc_43_147 : GC 43 147 = none := rfl
theorem no_gc_43_154 : GC 43 154 = none := rfl
theorem no_gc_43_165 : GC 43 165 = none := rfl
theorem no_gc_43_169 : GC 43 169 = none := rfl
theorem no_gc_43_175 : GC 43 175 = none := rfl
theorem no_gc_43_181 : GC 43 181 = none := rfl
theorem no_gc_43_190 : GC 43 190 = none := rfl
theorem no_gc_43_193 : GC 43 193 = none := rfl
theorem no_gc_44_24 : GC 44 24 = none := rfl
theorem no_gc_44_32 : GC 44 32 = none := rfl
theorem no_gc_44_54 : GC 44 54 = none := rfl
theorem no_gc_44_60 : GC 44 60 = none := rfl
theorem no_gc_44_63 : GC 44 63 = none := rfl
theorem no_gc_44_67 : GC 44 67 = none := rfl
theorem no_gc_44_79 : GC 44 79 = none := rfl
theorem no_gc_44_82 : GC 44 82 = none := rfl
theorem no_gc_44_85 : GC 44 85 = none := rfl
theorem no_gc_44_88 : GC 44 88 = none := rfl
theorem no_gc_46_29 : GC 46 29 = none := rfl
theorem no_gc_46_35 : GC 46 35 = none := rfl
theorem no_gc_46_41 : GC 46 41 = none := rfl
theorem no_gc_46_44 : GC 46 44 = none := rfl
theorem no_gc_46_51 : GC 46 51 = none := rfl
theorem no_gc_47_34 : GC 47 34 = none := rfl
theorem no_gc_47_48 : GC 47 48 = none := rfl
theorem no_gc_48_50 : GC 48 50 = none := rfl
theorem no_gc_49_23 : GC 49 23 = none := rfl
theorem no_gc_49_29 : GC 49 29 = none := rfl
theorem no_gc_49_37 : GC 49 37 = none := rfl
theorem no_gc_49_46 : GC 49 46 = none := rfl
theorem no_gc_49_55 : GC 49 55 = none := rfl
theorem no_gc_49_59 : GC 49 59 = none := rfl
theorem no_gc_49_63 : GC 49 63 = none := rfl
theorem no_gc_49_69 : GC 49 69 = none := rfl
theorem no_gc_49_72 : GC 49 72 = none := rfl
theorem no_gc_49_76 : GC 49 76 = none := rfl
theorem no_gc_49_81 : GC 49 81 = none := rfl
theorem no_gc_49_85 : GC 49 85 = none := rfl
theorem no_gc_49_89 : GC 49 89 = none := rfl
theorem no_gc_49_106 : GC 49 106 = none := rfl
theorem no_ik_0_1 : IK 0 1 0 = none := rfl
theorem no_ik_1_37 : IK 1 37 0 = none := rfl
theorem no_ik_1_67 : IK 1 67 0 = none := rfl
theorem no_ik_1_99 : IK 1 99 0 = none := rfl
theorem no_ik_2_3 : IK 2 3 0 = none := rfl
theorem no_ik_2_124 : IK 2 124 0 = none := rfl
theorem no_ik_2_131 : IK 2 131 0 = none := rfl
theorem no_ik_4_1 : IK 4 1 0 = none := rfl
theorem no_ik_5_19 : IK 5 19 0 = none := rfl
theorem no_ik_5_25 : IK 5 25 0 = none := rfl
theorem no_ik_5_41 : IK 5 41 0 = none := rfl
theorem no_ik_5_56 : IK 5 56 0 = none := rfl
theorem no_ik_5_66 : IK 5 66 0 = none := rfl
theorem no_ik_7_193 : IK 7 193 0 = none := rfl
theorem no_ik_7_264 : IK 7 264 0 = none := rfl
theorem no_ik_8_105 : IK 8 105 0 = none := rfl
theorem no_ik_8_212 : IK 8 212 0 = none := rfl
theorem no_ik_10_65 : IK 10 65 0 = none := rfl
theorem no_ik_10_70 : IK 10 70 0 = none := rfl
theorem no_ik_11_1 : IK 11 1 0 = none := rfl
theorem no_ik_12_7 : IK 12 7 0 = none := rfl
theorem no_ik_12_36 : IK 12 36 0 = none := rfl
theorem no_ik_12_43 : IK 12 43 0 = none := rfl
theorem no_ik_13_1 : IK 13 1 0 = none := rfl
theorem no_ik_20_202 : IK 20 202 0 = none := rfl
theorem no_ik_24_7 : IK 24 7 0 = none := rfl
theorem no_ik_24_45 : IK 24 45 0 = none := rfl
theorem no_ik_24_93 : IK 24 93 0 = none := rfl
theorem no_ik_27_1 : IK 27 1 0 = none := rfl
theorem no_ik_32_125 : IK 32 125 0 = none := rfl
theorem no_ik_39_3 : IK 39 3 0 = none := rfl
theorem no_ik_39_9 : IK 39 9 0 = none := rfl
theorem no_ik_39_12 : IK 39 12 0 = none := rfl
theorem no_ik_39_15 : IK 39 15 0 = none := rfl
theorem no_ik_39_23 : IK 39 23 0 = none := rfl
theorem no_ik_39_82 : IK 39 82 0 = none := rfl
theorem no_ik_39_374 : IK 39 374 0 = none := rfl
theorem no_ik_40_3 : IK 40 3 0 = none := rfl
theorem no_ik_41_3 : IK 41 3 0 = none := rfl
theorem no_ik_42_3 : IK 42 3 0 = none := rfl
theorem no_ik_43_9 : IK 43 9 0 = none := rfl
theorem no_ik_44_3 : IK 44 3 0 = none := rfl
theorem no_ik_47_15 : IK 47 15 0 = none := rfl
theorem no_ik_48_19 : IK 48 19 0 = none := rfl
theorem no_ik_49_7 : IK 49 7 0 = none := rfl
theorem no_li_1_35 : LI 1 35 = none := rfl
theorem no_li_1_188 : LI 1 188 = none := rfl
theorem no_li_2_122 : LI 2 122 = none := rfl
theorem no_li_5_26 : LI 5 26 = none := rfl
theorem no_li_5_35 : LI 5 35 = none := rfl
theorem no_li_5_54 : LI 5 54 = none := rfl
theorem no_li_5_295 : LI 5 295 = none := rfl
theorem no_li_7_201 : LI 7 201 = none := rfl
theorem no_li_7_203 : LI 7 203 = none := rfl
theorem no_li_8_92 : LI 8 92 = none := rfl
theorem no_li_8_206 : LI 8 206 = none := rfl
theorem no_li_8_208 : LI 8 208 = none := rfl
theorem no_li_8_210 : LI 8 210 = none := rfl
theorem no_li_10_48 : LI 10 48 = none := rfl
theorem no_li_10_57 : LI 10 57 = none := rfl
theorem no_li_10_59 : LI 10 59 = none := rfl
theorem no_li_10_110 : LI 10 110 = none := rfl
theorem no_li_10_337 : LI 10 337 = none := rfl
theorem no_li_13_81 : LI 13 81 = none := rfl
theorem no_li_18_151 : LI 18 151 = none := rfl
theorem no_li_32_100 : LI 32 100 = none := rfl
theorem no_li_32_109 : LI 32 109 = none := rfl
theorem no_li_39_47 : LI 39 47 = none := rfl
theorem no_li_39_114 : LI 39 114 = none := rfl
theorem no_li_39_120 : LI 39 120 = none := rfl
theorem no_li_39_122 : LI 39 122 = none := rfl
theorem no_li_39_124 : LI 39 124 = none := rfl
theorem no_li_39_185 : LI 39 185 = none := rfl
theorem no_li_39_187 : LI 39 187 = none := rfl
theorem no_li_39_189 : LI 39 189 = none := rfl
theorem no_li_39_230 : LI 39 230 = none := rfl
theorem no_li_39_310 : LI 39 310 = none := rfl
theorem no_li_39_328 : LI 39 328 = none := rfl
theorem no_li_42_32 : LI 42 32 = none := rfl
theorem no_li_42_188 : LI 42 188 = none := rfl
theorem no_li_42_196 : LI 42 196 = none := rfl
theorem no_li_42_225 : LI 42 225 = none := rfl
theorem no_li_42_234 : LI 42 234 = none := rfl
theorem no_li_42_240 : LI 42 240 = none := rfl
theorem no_li_42_242 : LI 42 242 = none := rfl
theorem no_li_42_244 : LI 42 244 = none := rfl
theorem no_li_42_250 : LI 42 250 = none := rfl
theorem no_li_42_252 : LI 42 252 = none := rfl
theorem no_li_42_254 : LI 42 254 = none := rfl
theorem no_li_42_256 : LI 42 256 = none := rfl
theorem no_li_42_258 : LI 42 258 = none := rfl
theorem no_li_44_30 : LI 44 30 = none := rfl
theorem no_li_44_36 : LI 44 36 = none := rfl
theorem no_li_44_38 : LI 44 38 = none := rfl
theorem no_li_44_40 : LI 44 40 = none := rfl
theorem no_li_44_42 : LI 44 42 = none := rfl
theorem no_li_44_44 : LI 44 44 = none := rfl
theorem no_li_44_46 : LI 44 46 = none := rfl
theorem no_li_44_48 : LI 44 48 = none := rfl
theorem no_li_44_50 : LI 44 50 = none := rfl
theorem no_li_44_52 : LI 44 52 = none := rfl
theorem no_li_46_27 : LI 46 27 = none := rfl
theorem no_li_46_39 : LI 46 39 = none := rfl
theorem no_li_46_47 : LI 46 47 = none := rfl
theorem no_li_46_49 : LI 46 49 = none := rfl
theorem no_li_49_50 : LI 49 50 = none := rfl
theorem no_li_49_52 : LI 49 52 = none := rfl
theorem no_li_49_79 : LI 49 79 = none := rfl
theorem no_li_49_92 : LI 49 92 = none := rfl
theorem no_li_49_94 : LI 49 94 = none := rfl
theorem no_li_49_96 : LI 49 96 = none := rfl
theorem no_ls_1_9 : LG 1 9 = none := rfl
theorem no_ls_1_41 : LG 1 41 = none := rfl
theorem no_ls_1_188 : LG 1 188 = none := rfl
theorem no_ls_2_39 : LG 2 39 = none := rfl
theorem no_ls_2_122 : LG 2 122 = none := rfl
theorem no_ls_5_20 : LG 5 20 = none := rfl
theorem no_ls_5_26 : LG 5 26 = none := rfl
theorem no_ls_5_35 : LG 5 35 = none := rfl
theorem no_ls_5_54 : LG 5 54 = none := rfl
theorem no_ls_5_227 : LG 5 227 = none := rfl
theorem no_ls_8_200 : LG 8 200 = none := rfl
theorem no_ls_8_206 : LG 8 206 = none := rfl
theorem no_ls_8_208 : LG 8 208 = none := rfl
theorem no_ls_8_210 : LG 8 210 = none := rfl
theorem no_ls_10_110 : LG 10 110 = none := rfl
theorem no_nk_1_33 : NK 1 33 0 = none := rfl
theorem no_nk_1_65 : NK 1 65 0 = none := rfl
theorem no_nk_1_97 : NK 1 97 0 = none := rfl
theorem no_nk_2_120 : NK 2 120 0 = none := rfl
theorem no_nk_2_129 : NK 2 129 0 = none := rfl
theorem no_nk_5_17 : NK 5 17 0 = none := rfl
theorem no_nk_5_21 : NK 5 21 0 = none := rfl
theorem no_nk_5_23 : NK 5 23 0 = none := rfl
theorem no_nk_5_52 : NK 5 52 0 = none := rfl
theorem no_nk_7_187 : NK 7 187 0 = none := rfl
theorem no_nk_7_262 : NK 7 262 0 = none := rfl
theorem no_nk_8_87 : NK 8 87 0 = none := rfl
theorem no_nk_8_204 : NK 8 204 0 = none := rfl
theorem no_nk_10_43 : NK 10 43 0 = none := rfl
theorem no_nk_10_68 : NK 10 68 0 = none := rfl
theorem no_nk_12_34 : NK 12 34 0 = none := rfl
theorem no_nk_12_41 : NK 12 41 0 = none := rfl
theorem no_nk_24_43 : NK 24 43 0 = none := rfl
theorem no_nk_24_91 : NK 24 91 0 = none := rfl
theorem no_nk_32_119 : NK 32 119 0 = none := rfl
theorem no_nk_39_1 : NK 39 1 0 = none := rfl
theorem no_nk_39_7 : NK 39 7 0 = none := rfl
theorem no_nk_39_10 : NK 39 10 0 = none := rfl
theorem no_nk_39_13 : NK 39 13 0 = none := rfl
theorem no_nk_39_80 : NK 39 80 0 = none := rfl
theorem no_nk_39_372 : NK 39 372 0 = none := rfl
theorem no_sk_1_27 : SK 1 27 0 = none := rfl
theorem no_sk_2_138 : SK 2 138 0 = none := rfl
theorem no_sk_4_212 : SK 4 212 0 = none := rfl
theorem no_sk_5_157 : SK 5 157 0 = none := rfl
theorem no_sk_5_161 : SK 5 161 0 = none := rfl
theorem no_sk_5_164 : SK 5 164 0 = none := rfl
theorem no_sk_5_183 : SK 5 183 0 = none := rfl
theorem no_sk_5_224 : SK 5 224 0 = none := rfl
theorem no_sk_7_79 : SK 7 79 0 = none := rfl
theorem no_sk_7_112 : SK 7 112 0 = none := rfl
theorem no_sk_8_194 : SK 8 194 0 = none := rfl
theorem no_sk_10_95 : SK 10 95 0 = none := rfl
theorem no_sk_10_150 : SK 10 150 0 = none := rfl
theorem no_sk_10_304 : SK 10 304 0 = none := rfl
theorem no_sk_17_95 : SK 17 95 0 = none := rfl
theorem no_sk_17_99 : SK 17 99 0 = none := rfl
theorem no_sk_17_103 : SK 17 103 0 = none := rfl
theorem no_sk_18_38 : SK 18 38 0 = none := rfl
theorem no_sk_18_92 : SK 18 92 0 = none := rfl
theorem no_sk_40_111 : SK 40 111 0 = none := rfl
theorem no_sk_40_117 : SK 40 117 0 = none := rfl
theorem no_sk_41_27 : SK 41 27 0 = none := rfl
theorem no_sk_42_213 : SK 42 213 0 = none := rfl
theorem no_sk_43_42 : SK 43 42 0 = none := rfl
theorem eqI_0_1 : ((0 : Int32) = 1) = False := eq_false (by decide)
theorem eqI_0_2 : ((0 : Int32) = 2) = False := eq_false (by decide)
theorem eqI_0_3 : ((0 : Int32) = 3) = False := eq_false (by decide)
theorem eqI_0_4 : ((0 : Int32) = 4) = False := eq_false (by decide)
theorem eqI_0_5 : ((0 : Int32) = 5) = False := eq_false (by decide)
theorem eqI_0_6 : ((0 : Int32) = 6) = False := eq_false (by decide)
theorem eqI_0_7 : ((0 : Int32) = 7) = False := eq_false (by decide)
theorem eqI_0_8 : ((0 : Int32) = 8) = False := eq_false (by decide)
theorem eqI_0_9 : ((0 : Int32) = 9) = False := eq_false (by decide)
theorem eqI_1_0 : ((1 : Int32) = 0) = False := eq_false (by decide)
theorem eqI_1_2 : ((1 : Int32) = 2) = False := eq_false (by decide)
theorem eqI_1_3 : ((1 : Int32) = 3) = False := eq_false (by decide)
theorem eqI_1_4 : ((1 : Int32) = 4) = False := eq_false (by decide)
theorem eqI_1_5 : ((1 : Int32) = 5) = False := eq_false (by decide)
theorem eqI_1_6 : ((1 : Int32) = 6) = False := eq_false (by decide)
theorem eqI_1_7 : ((1 : Int32) = 7) = False := eq_false (by decide)
theorem eqI_1_8 : ((1 : Int32) = 8) = False := eq_false (by decide)
theorem eqI_1_9 : ((1 : Int32) = 9) = False := eq_false (by decide)
theorem eqI_2_0 : ((2 : Int32) = 0) = False := eq_false (by decide)
theorem eqI_2_1 : ((2 : Int32) = 1) = False := eq_false (by decide)
theorem eqI_2_3 : ((2 : Int32) = 3) = False := eq_false (by decide)
theorem eqI_2_4 : ((2 : Int32) = 4) = False := eq_false (by decide)
theorem eqI_2_5 : ((2 : Int32) = 5) = False := eq_false (by decide)
theorem eqI_2_6 : ((2 : Int32) = 6) = False := eq_false (by decide)
theorem eqI_2_7 : ((2 : Int32) = 7) = False := eq_false (by decide)
theorem eqI_2_8 : ((2 : Int32) = 8) = False := eq_false (by decide)
theorem eqI_2_9 : ((2 : Int32) = 9) = False := eq_false (by decide)
theorem eqI_3_0 : ((3 : Int32) = 0) = False := eq_false (by decide)
theorem eqI_3_1 : ((3 : Int32) = 1) = False := eq_false (by decide)
theorem eqI_3_2 : ((3 : Int32) = 2) = False := eq_false (by decide)
theorem eqI_3_4 : ((3 : Int32) = 4) = False := eq_false (by decide)
theorem eqI_3_5 : ((3 : Int32) = 5) = False := eq_false (by decide)
theorem eqI_3_6 : ((3 : Int32) = 6) = False := eq_false (by decide)
theorem eqI_3_7 : ((3 : Int32) = 7) = False := eq_false (by decide)
theorem eqI_3_8 : ((3 : Int32) = 8) = False := eq_false (by decide)
theorem eqI_3_9 : ((3 : Int32) = 9) = False := eq_false (by decide)
theorem eqI_4_0 : ((4 : Int32) = 0) = False := eq_false (by decide)
theorem eqI_4_1 : ((4 : Int32) = 1) = False := eq_false (by decide)
theorem eqI_4_2 : ((4 : Int32) = 2) = False := eq_false (by decide)
theorem eqI_4_3 : ((4 : Int32) = 3) = False := eq_false (by decide)
theorem eqI_4_5 : ((4 : Int32) = 5) = False := eq_false (by decide)
theorem eqI_4_6 : ((4 : Int32) = 6) = False := eq_false (by decide)
theorem eqI_4_7 : ((4 : Int32) = 7) = False := eq_false (by decide)
theorem eqI_4_8 : ((4 : Int32) = 8) = False := eq_false (by decide)
theorem eqI_4_9 : ((4 : Int32) = 9) = False := eq_false (by decide)
theorem eqI_5_0 : ((5 : Int32) = 0) = False := eq_false (by decide)
theorem eqI_5_1 : ((5 : Int32) = 1) = False := eq_false (by decide)
theorem eqI_5_2 : ((5 : Int32) = 2) = False := eq_false (by decide)
theorem eqI_5_3 : ((5 : Int32) = 3) = False := eq_false (by decide)
theorem eqI_5_4 : ((5 : Int32) = 4) = False := eq_false (by decide)
theorem eqI_5_6 : ((5 : Int32) = 6) = False := eq_false (by decide)
theorem eqI_5_7 : ((5 : Int32) = 7) = False := eq_false (by decide)
theorem eqI_5_8 : ((5 : Int32) = 8) = False := eq_false (by decide)
theorem eqI_5_9 : ((5 : Int32) = 9) = False := eq_false (by decide)
theorem eqI_6_0 : ((6 : Int32) = 0) = False := eq_false (by decide)
theorem eqI_6_1 : ((6 : Int32) = 1) = False := eq_false (by decide)
theorem eqI_6_2 : ((6 : Int32) = 2) = False := eq_false (by decide)
theorem eqI_6_3 : ((6 : Int32) = 3) = False := eq_false (by decide)
theorem eqI_6_4 : ((6 : Int32) = 4) = False := eq_false (by decide)
theorem eqI_6_5 : ((6 : Int32) = 5) = False := eq_false (by decide)
theorem eqI_6_7 : ((6 : Int32) = 7) = False := eq_false (by decide)
theorem eqI_6_8 : ((6 : Int32) = 8) = False := eq_false (by decide)
theorem eqI_6_9 : ((6 : Int32) = 9) = False := eq_false (by decide)
theorem eqI_7_0 : ((7 : Int32) = 0) = False := eq_false (by decide)
theorem eqI_7_1 : ((7 : Int32) = 1) = False := eq_false (by decide)
theorem eqI_7_2 : ((7 : Int32) = 2) = False := eq_false (by decide)
theorem eqI_7_3 : ((7 : Int32) = 3) = False := eq_false (by decide)
theorem eqI_7_4 : ((7 : Int32) = 4) = False := eq_false (by decide)
theorem eqI_7_5 : ((7 : Int32) = 5) = False := eq_false (by decide)
theorem eqI_7_6 : ((7 : Int32) = 6) = False := eq_false (by decide)
theorem eqI_7_8 : ((7 : Int32) = 8) = False := eq_false (by decide)
theorem eqI_7_9 : ((7 : Int32) = 9) = False := eq_false (by decide)
theorem eqI_8_0 : ((8 : Int32) = 0) = False := eq_false (by decide)
theorem eqI_8_1 : ((8 : Int32) = 1) = False := eq_false (by decide)
theorem eqI_8_2 : ((8 : Int32) = 2) = False := eq_false (by decide)
theorem eqI_8_3 : ((8 : Int32) = 3) = False := eq_false (by decide)
theorem eqI_8_4 : ((8 : Int32) = 4) = False := eq_false (by decide)
theorem eqI_8_5 : ((8 : Int32) = 5) = False := eq_false (by decide)
theorem eqI_8_6 : ((8 : Int32) = 6) = False := eq_false (by decide)
theorem eqI_8_7 : ((8 : Int32) = 7) = False := eq_false (by decide)
theorem eqI_8_9 : ((8 : Int32) = 9) = False := eq_false (by decide)
theorem eqI_9_0 : ((9 : Int32) = 0) = False := eq_false (by decide)
theorem eqI_9_1 : ((9 : Int32) = 1) = False := eq_false (by decide)
theorem eqI_9_2 : ((9 : Int32) = 2) = False := eq_false (by decide)
theorem eqI_9_3 : ((9 : Int32) = 3) = False := eq_false (by decide)
theorem eqI_9_4 : ((9 : Int32) = 4) = False := eq_false (by decide)
theorem eqI_9_5 : ((9 : Int32) = 5) = False := eq_false (by decide)
theorem eqI_9_6 : ((9 : Int32) = 6) = False := eq_false (by decide)
theorem eqI_9_7 : ((9 : Int32) = 7) = False := eq_false (by decide)
theorem eqI_9_8 : ((9 : Int32) = 8) = False := eq_false (by decide)
theorem tsw_n (X : XT) (V : VT) (M : MI) (pc : Nat) (L : List (Option Value)) (st : List Value) (h : HP) (c : Nat) (Q : RR → HP → Prop) (x lo : Int) : tsw X V M pc L st h c Q x lo [] = True := rfl
theorem tsw_s (X : XT) (V : VT) (M : MI) (pc : Nat) (L : List (Option Value)) (st : List Value) (h : HP) (c : Nat) (Q : RR → HP → Prop) (x lo off : Int) (r : List Int) : tsw X V M pc L st h c Q x lo (off :: r) = ((x = lo → jok pc off ∧ jmp X V M pc (tgt pc off) L st h c Q) ∧ tsw X V M pc L st h c Q x (lo + 1) r) := rfl
theorem lsw_n (X : XT) (V : VT) (M : MI) (pc : Nat) (L : List (Option Value)) (st : List Value) (h : HP) (c : Nat) (Q : RR → HP → Prop) (x dflt : Int) : lsw X V M pc L st h c Q x dflt [] = (jok pc dflt ∧ jmp X V M pc (tgt pc dflt) L st h c Q) := rfl
theorem lsw_s (X : XT) (V : VT) (M : MI) (pc : Nat) (L : List (Option Value)) (st : List Value) (h : HP) (c : Nat) (Q : RR → HP → Prop) (x dflt k off : Int) (r : List (Int × Int)) : lsw X V M pc L st h c Q x dflt ((k, off) :: r) = ((x = k → jok pc off ∧ jmp X V M pc (tgt pc off) L st h c Q) ∧ (¬ x = k → lsw X V M pc L st h c Q x dflt r)) := rfl
theorem cat_int (x : Int32) : (Value.int x).category = 1 := rfl
theorem cat_ref (x : Nat) : (Value.ref x).category = 1 := rfl
theorem cat_null : Value.null.category = 1 := rfl
theorem cat_long (x : Int64) : (Value.long x).category = 2 := rfl
theorem cat_dbl (x : UInt64) : (Value.double x).category = 2 := rfl
theorem cat_flt (x : UInt32) : (Value.float x).category = 1 := rfl
theorem cat_le (v : Value) : v.category ≤ 2 := by cases v <;> simp [Value.category]
theorem cat8_n : cat8 [] = True := eq_true (by unfold cat8; decide)
theorem cat8_1 (a : Value) : cat8 [a] = True := eq_true (by have := cat_le a; simp only [cat8, List.map_cons, List.map_nil, List.sum_cons, List.sum_nil]; omega)
theorem cat8_2 (a b : Value) : cat8 [a, b] = True := eq_true (by have := cat_le a; have := cat_le b; simp only [cat8, List.map_cons, List.map_nil, List.sum_cons, List.sum_nil]; omega)
theorem cat8_3 (a b c : Value) : cat8 [a, b, c] = True := eq_true (by have := cat_le a; have := cat_le b; have := cat_le c; simp only [cat8, List.map_cons, List.map_nil, List.sum_cons, List.sum_nil]; omega)
theorem cat8_4 (a b c d : Value) : cat8 [a, b, c, d] = True := eq_true (by have := cat_le a; have := cat_le b; have := cat_le c; have := cat_le d; simp only [cat8, List.map_cons, List.map_nil, List.sum_cons, List.sum_nil]; omega)
theorem cat8_5 (a b c d : Int32) (e : Value) : cat8 [.int a, .int b, .int c, .int d, e] = True := eq_true (by have := cat_le e; simp only [cat8, List.map_cons, List.map_nil, List.sum_cons, List.sum_nil, cat_int]; omega)
theorem LV_eq (M M' : MI) : LV M M' = (mV M' + 1 ≤ mV M ∧ mL M' ≤ 45) := rfl
theorem nar_i (x : Int32) : narrow .int (.int x) = .int x := rfl
theorem nar_b0 : narrow .boolean (.int 0) = .int 0 := rfl
theorem nar_b1 : narrow .boolean (.int 1) = .int 1 := rfl
/-- entry locals -/
def entL : List Value → Nat → List (Option Value)
  | [], n => List.replicate n none
  | v :: as, n + 1 => some v :: entL as n
  | _ :: _, 0 => []
def c1s : List Value → Bool
  | [] => true
  | .int _ :: as => c1s as
  | .ref _ :: as => c1s as
  | .null :: as => c1s as
  | .float _ :: as => c1s as
  | _ => false
theorem c1s_cat : ∀ (as : List Value), c1s as = true → (lg_sl as).length = as.length ∧ ∀ n, as.length ≤ n → ent as (n - as.length) = entL as n := by
  intro as
  induction as with
  | nil => intro _; exact ⟨rfl, fun n _ => by simp [ent, entL]⟩
  | cons v as ih =>
    intro h
    have key : v.category = 1 ∧ c1s as = true := by
      cases v <;> first | exact ⟨rfl, h⟩ | cases h
    obtain ⟨h1, h2⟩ := ih key.2
    refine ⟨by simp [lg_sl, key.1] at h1 ⊢; exact h1, fun n hn => ?_⟩
    cases n with
    | zero => simp at hn
    | succ n =>
      have h3 := h2 n (by simpa using hn)
      have h4 : n + 1 - (v :: as).length = n - as.length := by simp
      rw [h4, entL, ← h3]
      simp [ent, key.1]
/-- a contract, used by a caller: out of the run of the body -/
theorem CC {X : XT} (k n : Nat) {M : MI} {as : List Value} {h : HP} {c : Nat} {Q : RR → HP → Nat → Prop} (hp : plainName (mY M).cls = true) (hg : MG M) (hc : c1s as = true) (hn : as.length ≤ mL M) (hk : k ≤ c) (body : vc X n M 0 (entL as (mL M)) [] h k (fun r h' => Q r h' (c - k))) : CallC X M as h c Q := by
  obtain ⟨h1, h2⟩ := c1s_cat as hc
  refine ⟨k, hk, Call_of hp (by rw [h1]; exact hn) (vc_ok X n M 0 _ _ _ _ _ hg ?_)⟩
  rw [h1, h2 _ hn]
  exact body
theorem entL_n (n : Nat) : entL [] (n + 1) = none :: entL [] n := rfl
theorem entL_0 : entL [] 0 = [] := rfl
theorem entL_s (v : Value) (as : List Value) (n : Nat) : entL (v :: as) (n + 1) = some v :: entL as n := rfl
