/-! constants and links, printed by gen/decomp.py -/
set_option maxRecDepth 100000
def am_fuel : Nat := 100001
theorem bp_m6 : (Int8.ofInt (-6)).toInt32 = (-6 : Int32) := by decide
theorem bp_m5 : (Int8.ofInt (-5)).toInt32 = (-5 : Int32) := by decide
theorem bp_m4 : (Int8.ofInt (-4)).toInt32 = (-4 : Int32) := by decide
theorem bp_m3 : (Int8.ofInt (-3)).toInt32 = (-3 : Int32) := by decide
theorem bp_m2 : (Int8.ofInt (-2)).toInt32 = (-2 : Int32) := by decide
theorem bp_6 : (Int8.ofInt 6).toInt32 = (6 : Int32) := by decide
theorem bp_7 : (Int8.ofInt 7).toInt32 = (7 : Int32) := by decide
theorem bp_8 : (Int8.ofInt 8).toInt32 = (8 : Int32) := by decide
theorem bp_9 : (Int8.ofInt 9).toInt32 = (9 : Int32) := by decide
theorem bp_10 : (Int8.ofInt 10).toInt32 = (10 : Int32) := by decide
theorem bp_16 : (Int8.ofInt 16).toInt32 = (16 : Int32) := by decide
theorem bp_18 : (Int8.ofInt 18).toInt32 = (18 : Int32) := by decide
theorem bp_23 : (Int8.ofInt 23).toInt32 = (23 : Int32) := by decide
theorem bp_24 : (Int8.ofInt 24).toInt32 = (24 : Int32) := by decide
theorem bp_25 : (Int8.ofInt 25).toInt32 = (25 : Int32) := by decide
theorem bp_32 : (Int8.ofInt 32).toInt32 = (32 : Int32) := by decide
theorem bp_33 : (Int8.ofInt 33).toInt32 = (33 : Int32) := by decide
theorem bp_34 : (Int8.ofInt 34).toInt32 = (34 : Int32) := by decide
theorem bp_35 : (Int8.ofInt 35).toInt32 = (35 : Int32) := by decide
theorem bp_36 : (Int8.ofInt 36).toInt32 = (36 : Int32) := by decide
theorem bp_42 : (Int8.ofInt 42).toInt32 = (42 : Int32) := by decide
theorem bp_44 : (Int8.ofInt 44).toInt32 = (44 : Int32) := by decide
theorem bp_45 : (Int8.ofInt 45).toInt32 = (45 : Int32) := by decide
theorem bp_46 : (Int8.ofInt 46).toInt32 = (46 : Int32) := by decide
theorem bp_48 : (Int8.ofInt 48).toInt32 = (48 : Int32) := by decide
theorem bp_52 : (Int8.ofInt 52).toInt32 = (52 : Int32) := by decide
theorem bp_57 : (Int8.ofInt 57).toInt32 = (57 : Int32) := by decide
theorem bp_60 : (Int8.ofInt 60).toInt32 = (60 : Int32) := by decide
theorem bp_62 : (Int8.ofInt 62).toInt32 = (62 : Int32) := by decide
theorem bp_63 : (Int8.ofInt 63).toInt32 = (63 : Int32) := by decide
theorem bp_64 : (Int8.ofInt 64).toInt32 = (64 : Int32) := by decide
theorem bp_65 : (Int8.ofInt 65).toInt32 = (65 : Int32) := by decide
theorem bp_70 : (Int8.ofInt 70).toInt32 = (70 : Int32) := by decide
theorem bp_72 : (Int8.ofInt 72).toInt32 = (72 : Int32) := by decide
theorem bp_74 : (Int8.ofInt 74).toInt32 = (74 : Int32) := by decide
theorem bp_75 : (Int8.ofInt 75).toInt32 = (75 : Int32) := by decide
theorem bp_80 : (Int8.ofInt 80).toInt32 = (80 : Int32) := by decide
theorem bp_97 : (Int8.ofInt 97).toInt32 = (97 : Int32) := by decide
theorem bp_99 : (Int8.ofInt 99).toInt32 = (99 : Int32) := by decide
theorem bp_100 : (Int8.ofInt 100).toInt32 = (100 : Int32) := by decide
theorem bp_101 : (Int8.ofInt 101).toInt32 = (101 : Int32) := by decide
theorem bp_102 : (Int8.ofInt 102).toInt32 = (102 : Int32) := by decide
theorem bp_110 : (Int8.ofInt 110).toInt32 = (110 : Int32) := by decide
theorem bp_111 : (Int8.ofInt 111).toInt32 = (111 : Int32) := by decide
theorem bp_120 : (Int8.ofInt 120).toInt32 = (120 : Int32) := by decide
theorem bp_126 : (Int8.ofInt 126).toInt32 = (126 : Int32) := by decide
theorem ic_m1 : Int32.ofInt (-1) = (-1 : Int32) := by decide
theorem ic_0 : Int32.ofInt 0 = (0 : Int32) := by decide
theorem ic_1 : Int32.ofInt 1 = (1 : Int32) := by decide
theorem ic_2 : Int32.ofInt 2 = (2 : Int32) := by decide
theorem ic_3 : Int32.ofInt 3 = (3 : Int32) := by decide
theorem ic_4 : Int32.ofInt 4 = (4 : Int32) := by decide
theorem ic_5 : Int32.ofInt 5 = (5 : Int32) := by decide
theorem ic_8 : Int32.ofInt 8 = (8 : Int32) := by decide
theorem ic_16 : Int32.ofInt 16 = (16 : Int32) := by decide
theorem sp_256 : (Int16.ofInt 256).toInt32 = (256 : Int32) := by decide
theorem sp_999 : (Int16.ofInt 999).toInt32 = (999 : Int32) := by decide
theorem sp_1000 : (Int16.ofInt 1000).toInt32 = (1000 : Int32) := by decide
theorem sp_1023 : (Int16.ofInt 1023).toInt32 = (1023 : Int32) := by decide
theorem sp_1024 : (Int16.ofInt 1024).toInt32 = (1024 : Int32) := by decide
theorem sp_9999 : (Int16.ofInt 9999).toInt32 = (9999 : Int32) := by decide
theorem sp_10000 : (Int16.ofInt 10000).toInt32 = (10000 : Int32) := by decide
theorem lf_X0_38 : am_kF "SongLamps" 38 0 0 := am_kF0 (by decide) rfl (by decide) q144
theorem lf_X0_88 : am_kF "SongLamps" 88 1 0 := am_kFn (by decide) rfl (by decide) (by decide)
theorem lf_X0_100 : am_kF "SongLamps" 100 1 1 := am_kFn (by decide) rfl (by decide) (by decide)
theorem lf_X0_103 : am_kF "SongLamps" 103 1 3 := am_kFn (by decide) rfl (by decide) (by decide)
theorem lf_X0_112 : am_kF "SongLamps" 112 1 5 := am_kFn (by decide) rfl (by decide) (by decide)
theorem lf_X0_115 : am_kF "SongLamps" 115 1 6 := am_kFn (by decide) rfl (by decide) (by decide)
theorem lf_X0_118 : am_kF "SongLamps" 118 1 7 := am_kFn (by decide) rfl (by decide) (by decide)
theorem lf_X0_121 : am_kF "SongLamps" 121 1 8 := am_kFn (by decide) rfl (by decide) (by decide)
theorem lf_X0_124 : am_kF "SongLamps" 124 1 9 := am_kFn (by decide) rfl (by decide) (by decide)
theorem lf_X0_127 : am_kF "SongLamps" 127 1 10 := am_kFn (by decide) rfl (by decide) (by decide)
theorem lf_X0_130 : am_kF "SongLamps" 130 1 11 := am_kFn (by decide) rfl (by decide) (by decide)
theorem lf_X1_63 : am_kF "SongLamps$Mine" 63 1 5 := am_kF1 (by decide) rfl (by decide) q84
theorem lf_X0_140 : am_kF "SongLamps" 140 0 4 := am_kF0 (by decide) rfl (by decide) q148
theorem lf_X0_49 : am_kF "SongLamps" 49 0 3 := am_kF0 (by decide) rfl (by decide) q147
theorem lf_X0_53 : am_kF "SongLamps" 53 0 5 := am_kF0 (by decide) rfl (by decide) q149
theorem lf_X0_143 : am_kF "SongLamps" 143 0 8 := am_kF0 (by decide) rfl (by decide) q152
theorem lf_X0_60 : am_kF "SongLamps" 60 0 7 := am_kF0 (by decide) rfl (by decide) q151
theorem lf_X0_146 : am_kF "SongLamps" 146 0 9 := am_kF0 (by decide) rfl (by decide) q153
theorem lf_X0_57 : am_kF "SongLamps" 57 0 6 := am_kF0 (by decide) rfl (by decide) q150
theorem lf_X1_9 : am_kF "SongLamps$Mine" 9 1 0 := am_kF1 (by decide) rfl (by decide) q74
theorem lf_X1_15 : am_kF "SongLamps$Mine" 15 1 1 := am_kF1 (by decide) rfl (by decide) q76
theorem lf_X1_18 : am_kF "SongLamps$Mine" 18 1 2 := am_kF1 (by decide) rfl (by decide) q78
theorem lf_X1_56 : am_kF "SongLamps$Mine" 56 1 3 := am_kF1 (by decide) rfl (by decide) q80
theorem lf_X1_60 : am_kF "SongLamps$Mine" 60 1 4 := am_kF1 (by decide) rfl (by decide) q82
theorem lf_X1_21 : am_kF "SongLamps$Mine" 21 1 6 := am_kF1 (by decide) rfl (by decide) q86
theorem lf_X1_24 : am_kF "SongLamps$Mine" 24 1 7 := am_kF1 (by decide) rfl (by decide) q88
theorem lf_X1_27 : am_kF "SongLamps$Mine" 27 1 8 := am_kF1 (by decide) rfl (by decide) q90
theorem lf_X1_30 : am_kF "SongLamps$Mine" 30 1 9 := am_kF1 (by decide) rfl (by decide) q92
theorem lf_X1_33 : am_kF "SongLamps$Mine" 33 1 10 := am_kF1 (by decide) rfl (by decide) q94
theorem lf_X1_36 : am_kF "SongLamps$Mine" 36 1 11 := am_kF1 (by decide) rfl (by decide) q96
theorem lf_X1_66 : am_kF "SongLamps$Mine" 66 1 12 := am_kF1 (by decide) rfl (by decide) q98
theorem lf_X1_39 : am_kF "SongLamps$Mine" 39 1 13 := am_kF1 (by decide) rfl (by decide) q100
theorem lf_X1_42 : am_kF "SongLamps$Mine" 42 1 14 := am_kF1 (by decide) rfl (by decide) q102
theorem lf_X1_69 : am_kF "SongLamps$Mine" 69 1 15 := am_kF1 (by decide) rfl (by decide) q104
theorem lf_X1_45 : am_kF "SongLamps$Mine" 45 1 16 := am_kF1 (by decide) rfl (by decide) q106
theorem lf_X0_42 : am_kF "SongLamps" 42 0 1 := am_kF0 (by decide) rfl (by decide) q145
theorem lf_X0_167 : am_kF "SongLamps" 167 0 10 := am_kF0 (by decide) rfl (by decide) q154
theorem lf_X0_170 : am_kF "SongLamps" 170 0 11 := am_kF0 (by decide) rfl (by decide) q155
theorem lf_X0_173 : am_kF "SongLamps" 173 0 12 := am_kF0 (by decide) rfl (by decide) q156
theorem lf_X0_209 : am_kF "SongLamps" 209 1 2 := am_kFn (by decide) rfl (by decide) (by decide)
theorem lf_X0_212 : am_kF "SongLamps" 212 1 12 := am_kFn (by decide) rfl (by decide) (by decide)
theorem lf_X0_225 : am_kF "SongLamps" 225 1 4 := am_kFn (by decide) rfl (by decide) (by decide)
theorem lf_X0_66 : am_kF "SongLamps" 66 0 14 := am_kF0 (by decide) rfl (by decide) q158
theorem lf_X0_69 : am_kF "SongLamps" 69 0 15 := am_kF0 (by decide) rfl (by decide) q159
theorem lf_X0_63 : am_kF "SongLamps" 63 0 13 := am_kF0 (by decide) rfl (by decide) q157
theorem lf_X0_277 : am_kF "SongLamps" 277 1 15 := am_kFn (by decide) rfl (by decide) (by decide)
theorem lf_X0_280 : am_kF "SongLamps" 280 1 13 := am_kFn (by decide) rfl (by decide) (by decide)
theorem lf_X0_283 : am_kF "SongLamps" 283 1 14 := am_kFn (by decide) rfl (by decide) (by decide)
theorem lf_X0_72 : am_kF "SongLamps" 72 0 16 := am_kF0 (by decide) rfl (by decide) q160
theorem lf_X0_75 : am_kF "SongLamps" 75 0 17 := am_kF0 (by decide) rfl (by decide) q161
theorem lf_X0_45 : am_kF "SongLamps" 45 0 2 := am_kF0 (by decide) rfl (by decide) q146
theorem lf_X2_25 : am_kF "SongLampsModel" 25 2 6 := am_kF2 (by decide) rfl (by decide) q579
theorem lf_X2_28 : am_kF "SongLampsModel" 28 2 7 := am_kF2 (by decide) rfl (by decide) q580
theorem lf_X2_79 : am_kF "SongLampsModel" 79 2 8 := am_kF2 (by decide) rfl (by decide) q581
theorem lf_X2_63 : am_kF "SongLampsModel" 63 2 2 := am_kF2 (by decide) rfl (by decide) q575
theorem lf_X2_16 : am_kF "SongLampsModel" 16 2 3 := am_kF2 (by decide) rfl (by decide) q576
theorem lf_X2_19 : am_kF "SongLampsModel" 19 2 4 := am_kF2 (by decide) rfl (by decide) q577
theorem lf_X2_22 : am_kF "SongLampsModel" 22 2 5 := am_kF2 (by decide) rfl (by decide) q578
theorem lf_X2_7 : am_kF "SongLampsModel" 7 2 0 := am_kF2 (by decide) rfl (by decide) q573
theorem lf_X2_85 : am_kF "SongLampsModel" 85 2 11 := am_kF2 (by decide) rfl (by decide) q584
theorem lf_X2_34 : am_kF "SongLampsModel" 34 2 12 := am_kF2 (by decide) rfl (by decide) q585
theorem lf_X2_13 : am_kF "SongLampsModel" 13 2 1 := am_kF2 (by decide) rfl (by decide) q574
theorem lf_X2_104 : am_kF "SongLampsModel" 104 2 13 := am_kF2 (by decide) rfl (by decide) q586
theorem lf_X2_107 : am_kF "SongLampsModel" 107 2 14 := am_kF2 (by decide) rfl (by decide) q587
theorem lf_X2_37 : am_kF "SongLampsModel" 37 2 15 := am_kF2 (by decide) rfl (by decide) q588
theorem lf_X2_113 : am_kF "SongLampsModel" 113 2 17 := am_kF2 (by decide) rfl (by decide) q590
theorem lf_X2_119 : am_kF "SongLampsModel" 119 2 16 := am_kF2 (by decide) rfl (by decide) q589
theorem lf_X2_40 : am_kF "SongLampsModel" 40 2 18 := am_kF2 (by decide) rfl (by decide) q591
theorem lf_X2_43 : am_kF "SongLampsModel" 43 2 19 := am_kF2 (by decide) rfl (by decide) q592
theorem lf_X2_160 : am_kF "SongLampsModel" 160 2 9 := am_kF2 (by decide) rfl (by decide) q582
theorem lf_X2_31 : am_kF "SongLampsModel" 31 2 10 := am_kF2 (by decide) rfl (by decide) q583
theorem lf_X2_47 : am_kF "SongLampsModel" 47 2 20 := am_kF2 (by decide) rfl (by decide) q593
theorem lf_X2_50 : am_kF "SongLampsModel" 50 2 21 := am_kF2 (by decide) rfl (by decide) q594
theorem lf_X2_53 : am_kF "SongLampsModel" 53 2 22 := am_kF2 (by decide) rfl (by decide) q595
theorem lf_X2_56 : am_kF "SongLampsModel" 56 2 23 := am_kF2 (by decide) rfl (by decide) q596
abbrev mX0_fill : am_Q := (yX0_fill, cX0_fill, 3, none)
abbrev mX0_isIn : am_Q := (yX0_isIn, cX0_isIn, 6, some .boolean)
abbrev mX0_isGallery : am_Q := (yX0_isGallery, cX0_isGallery, 1, some .boolean)
abbrev mX0_with : am_Q := (yX0_with, cX0_with, 3, some .int)
abbrev mJ0_bitCount : am_Q := (yJ0_bitCount, cJ0_bitCount, 1, some .int)
abbrev mX0_passage : am_Q := (yX0_passage, cX0_passage, 6, some .int)
abbrev mX0_gallery : am_Q := (yX0_gallery, cX0_gallery, 5, some .int)
abbrev mX0_isVoice : am_Q := (yX0_isVoice, cX0_isVoice, 1, some .boolean)
abbrev mX0_isNote : am_Q := (yX0_isNote, cX0_isNote, 1, some .boolean)
abbrev mX0_voice : am_Q := (yX0_voice, cX0_voice, 6, some .int)
abbrev mX0_holds : am_Q := (yX0_holds, cX0_holds, 2, some .boolean)
abbrev mX1_isThere : am_Q := (yX1_isThere, cX1_isThere, 2, some .boolean)
abbrev mX0_isHere : am_Q := (yX0_isHere, cX0_isHere, 2, some .boolean)
abbrev mX0_breath : am_Q := (yX0_breath, cX0_breath, 4, some .int)
abbrev mX0_leave : am_Q := (yX0_leave, cX0_leave, 2, some .int)
abbrev mX0_say : am_Q := (yX0_say, cX0_say, 2, some .int)
abbrev mX0_wipe : am_Q := (yX0_wipe, cX0_wipe, 2, some .int)
abbrev mX0_closes : am_Q := (yX0_closes, cX0_closes, 4, some .boolean)
abbrev mX0_begins : am_Q := (yX0_begins, cX0_begins, 2, some .boolean)
abbrev mX0_goesOn : am_Q := (yX0_goesOn, cX0_goesOn, 2, some .boolean)
abbrev mX0_reads : am_Q := (yX0_reads, cX0_reads, 2, some .boolean)
abbrev mX0_fault : am_Q := (yX0_fault, cX0_fault, 2, some .int)
abbrev mX0_isEnd : am_Q := (yX0_isEnd, cX0_isEnd, 1, some .boolean)
abbrev mX0_layOver : am_Q := (yX0_layOver, cX0_layOver, 2, none)
abbrev mX1_take : am_Q := (yX1_take, cX1_take, 2, none)
abbrev mX1_whyNotSing : am_Q := (yX1_whyNotSing, cX1_whyNotSing, 3, some .int)
abbrev mX1_whyNotGo : am_Q := (yX1_whyNotGo, cX1_whyNotGo, 3, some .int)
abbrev mX1_whyNot : am_Q := (yX1_whyNot, cX1_whyNot, 4, some .int)
abbrev mX1_sings : am_Q := (yX1_sings, cX1_sings, 2, some .boolean)
abbrev mX0_isThird : am_Q := (yX0_isThird, cX0_isThird, 2, some .boolean)
abbrev mX1_isTaken : am_Q := (yX1_isTaken, cX1_isTaken, 3, some .boolean)
abbrev mX1_sungIn : am_Q := (yX1_sungIn, cX1_sungIn, 5, some .int)
abbrev mX1_light : am_Q := (yX1_light, cX1_light, 4, some .int)
abbrev mX1_lamps : am_Q := (yX1_lamps, cX1_lamps, 3, some .int)
abbrev mX1_cutCoal : am_Q := (yX1_cutCoal, cX1_cutCoal, 4, none)
abbrev mX1_breathe : am_Q := (yX1_breathe, cX1_breathe, 2, none)
abbrev mX1_pass : am_Q := (yX1_pass, cX1_pass, 2, none)
abbrev mX1_happen : am_Q := (yX1_happen, cX1_happen, 4, none)
abbrev mJ0_numberOfTrailingZeros : am_Q := (yJ0_numberOfTrailingZeros, cJ0_numberOfTrailingZeros, 2, some .int)
abbrev mX0_go : am_Q := (yX0_go, cX0_go, 5, some .int)
abbrev mX0_judge : am_Q := (yX0_judge, cX0_judge, 3, some .int)
abbrev mX0_isRefused : am_Q := (yX0_isRefused, cX0_isRefused, 1, some .boolean)
abbrev mX0_done : am_Q := (yX0_done, cX0_done, 1, some .int)
abbrev mX0_behind : am_Q := (yX0_behind, cX0_behind, 3, some .int)
abbrev mX0_seam : am_Q := (yX0_seam, cX0_seam, 3, some .int)
abbrev mX1_coalInAll : am_Q := (yX1_coalInAll, cX1_coalInAll, 3, some .int)
abbrev mX0_then : am_Q := (yX0_then, cX0_then, 2, some .int)
abbrev mX0_light : am_Q := (yX0_light, cX0_light, 2, some .int)
abbrev mX0_shakes : am_Q := (yX0_shakes, cX0_shakes, 5, some .int)
abbrev mX0_open : am_Q := (yX0_open, cX0_open, 1, some .int)
abbrev mX0_farIn : am_Q := (yX0_farIn, cX0_farIn, 8, some .int)
abbrev mX0_way : am_Q := (yX0_way, cX0_way, 8, some .int)
abbrev mX0_litBy : am_Q := (yX0_litBy, cX0_litBy, 4, some .int)
abbrev mX0_fewest : am_Q := (yX0_fewest, cX0_fewest, 6, some .int)
abbrev mX1_singing : am_Q := (yX1_singing, cX1_singing, 3, some .int)
abbrev mX0_isKept : am_Q := (yX0_isKept, cX0_isKept, 5, some .boolean)
abbrev mX0_keep : am_Q := (yX0_keep, cX0_keep, 6, some .int)
abbrev mX0_cut : am_Q := (yX0_cut, cX0_cut, 3, some .int)
abbrev mX0_digit : am_Q := (yX0_digit, cX0_digit, 2, some .int)
abbrev mX0_restsThen : am_Q := (yX0_restsThen, cX0_restsThen, 6, some .int)
abbrev mX0_beatsBy : am_Q := (yX0_beatsBy, cX0_beatsBy, 3, some .int)
abbrev mX0_holdOn : am_Q := (yX0_holdOn, cX0_holdOn, 5, some .boolean)
abbrev mX0_hold : am_Q := (yX0_hold, cX0_hold, 7, some .int)
abbrev mX0_round : am_Q := (yX0_round, cX0_round, 6, some .int)
abbrev mX0_heard : am_Q := (yX0_heard, cX0_heard, 3, some .int)
abbrev mX0_forget : am_Q := (yX0_forget, cX0_forget, 2, some .int)
abbrev mX0_findFar : am_Q := (yX0_findFar, cX0_findFar, 2, none)
abbrev mX0_heardIn : am_Q := (yX0_heardIn, cX0_heardIn, 4, some .int)
abbrev mX0_canBe : am_Q := (yX0_canBe, cX0_canBe, 3, some .boolean)
abbrev mX0_losts : am_Q := (yX0_losts, cX0_losts, 4, some .int)
abbrev mX0_mostLeft : am_Q := (yX0_mostLeft, cX0_mostLeft, 5, some .int)
abbrev mX0_listen : am_Q := (yX0_listen, cX0_listen, 6, some .int)
abbrev mX0_singingIn : am_Q := (yX0_singingIn, cX0_singingIn, 4, some .int)
abbrev mX0_times : am_Q := (yX0_times, cX0_times, 6, some .long)
abbrev mX0_lowest : am_Q := (yX0_lowest, cX0_lowest, 11, some .long)
abbrev mX0_cold : am_Q := (yX0_cold, cX0_cold, 11, some .long)
abbrev mX0_actBy : am_Q := (yX0_actBy, cX0_actBy, 1, some .int)
abbrev mX0_year : am_Q := (yX0_year, cX0_year, 8, some .int)
abbrev mX0_restore : am_Q := (yX0_restore, cX0_restore, 2, some .int)
abbrev mX0_toldOfGallery : am_Q := (yX0_toldOfGallery, cX0_toldOfGallery, 3, some .int)
abbrev mX0_toldOfVoice : am_Q := (yX0_toldOfVoice, cX0_toldOfVoice, 3, some .int)
abbrev mX0_toldOfAll : am_Q := (yX0_toldOfAll, cX0_toldOfAll, 2, some .int)
abbrev mX0_told : am_Q := (yX0_told, cX0_told, 2, some .int)
abbrev mX2_in : am_Q := (yX2_in, cX2_in, 3, some .boolean)
abbrev mX2_isGallery : am_Q := (yX2_isGallery, cX2_isGallery, 1, some .boolean)
abbrev mX2_bits : am_Q := (yX2_bits, cX2_bits, 3, some .int)
abbrev mX2_passage : am_Q := (yX2_passage, cX2_passage, 6, some .int)
abbrev mX2_gallery : am_Q := (yX2_gallery, cX2_gallery, 5, some .int)
abbrev mX2_voice : am_Q := (yX2_voice, cX2_voice, 6, some .int)
abbrev mX2_has : am_Q := (yX2_has, cX2_has, 2, some .boolean)
abbrev mX2_isThere : am_Q := (yX2_isThere, cX2_isThere, 2, some .boolean)
abbrev mX2_breath : am_Q := (yX2_breath, cX2_breath, 4, some .int)
abbrev mX2_leave : am_Q := (yX2_leave, cX2_leave, 2, some .int)
abbrev mX2_say : am_Q := (yX2_say, cX2_say, 2, some .int)
abbrev mX2_wipe : am_Q := (yX2_wipe, cX2_wipe, 2, some .int)
abbrev mX2_faultOf : am_Q := (yX2_faultOf, cX2_faultOf, 5, some .int)
abbrev mX2_fault : am_Q := (yX2_fault, cX2_fault, 1, some .int)
abbrev mX2_asNow : am_Q := (yX2_asNow, cX2_asNow, 2, none)
abbrev mX2_sings : am_Q := (yX2_sings, cX2_sings, 3, some .boolean)
abbrev mX2_areHushed : am_Q := (yX2_areHushed, cX2_areHushed, 4, some .boolean)
abbrev mX2_ownLight : am_Q := (yX2_ownLight, cX2_ownLight, 6, some .int)
abbrev mX2_lightOf : am_Q := (yX2_lightOf, cX2_lightOf, 5, some .int)
abbrev mX2_lamps : am_Q := (yX2_lamps, cX2_lamps, 3, some .int)
abbrev mX2_beat : am_Q := (yX2_beat, cX2_beat, 3, some .int)
abbrev mX2_hush : am_Q := (yX2_hush, cX2_hush, 2, some .int)
abbrev mX2_go : am_Q := (yX2_go, cX2_go, 4, some .int)
abbrev mX2_sing : am_Q := (yX2_sing, cX2_sing, 3, some .int)
abbrev mX2_goShifts : am_Q := (yX2_goShifts, cX2_goShifts, 6, some .int)
abbrev mX2_judge : am_Q := (yX2_judge, cX2_judge, 3, some .int)
abbrev mX2_barOfShifts : am_Q := (yX2_barOfShifts, cX2_barOfShifts, 1, some .int)
abbrev mX2_done : am_Q := (yX2_done, cX2_done, 2, some .int)
abbrev mX2_behind : am_Q := (yX2_behind, cX2_behind, 3, some .int)
abbrev mX2_seam : am_Q := (yX2_seam, cX2_seam, 3, some .int)
abbrev mX2_coal : am_Q := (yX2_coal, cX2_coal, 3, some .int)
abbrev mX2_then : am_Q := (yX2_then, cX2_then, 2, some .int)
abbrev mX2_light : am_Q := (yX2_light, cX2_light, 2, some .int)
abbrev mX2_shakes : am_Q := (yX2_shakes, cX2_shakes, 5, some .int)
abbrev mX2_layFar : am_Q := (yX2_layFar, cX2_layFar, 6, none)
abbrev mX2_way : am_Q := (yX2_way, cX2_way, 6, some .int)
abbrev mX2_fewest : am_Q := (yX2_fewest, cX2_fewest, 7, some .int)
abbrev mX2_keep : am_Q := (yX2_keep, cX2_keep, 8, some .int)
abbrev mX2_cut : am_Q := (yX2_cut, cX2_cut, 3, some .int)
abbrev mX2_digit : am_Q := (yX2_digit, cX2_digit, 2, some .int)
abbrev mX2_rested : am_Q := (yX2_rested, cX2_rested, 7, some .int)
abbrev mX2_heldBy : am_Q := (yX2_heldBy, cX2_heldBy, 10, some .int)
abbrev mX2_hold : am_Q := (yX2_hold, cX2_hold, 8, some .int)
abbrev mX2_round : am_Q := (yX2_round, cX2_round, 6, some .int)
abbrev mX2_heard : am_Q := (yX2_heard, cX2_heard, 3, some .int)
abbrev mX2_forget : am_Q := (yX2_forget, cX2_forget, 2, some .int)
abbrev mX2_layApart : am_Q := (yX2_layApart, cX2_layApart, 3, none)
abbrev mX2_noteIn : am_Q := (yX2_noteIn, cX2_noteIn, 4, some .int)
abbrev mX2_isLost : am_Q := (yX2_isLost, cX2_isLost, 4, some .boolean)
abbrev mX2_losts : am_Q := (yX2_losts, cX2_losts, 4, some .int)
abbrev mX2_listen : am_Q := (yX2_listen, cX2_listen, 8, some .int)
abbrev mX2_power : am_Q := (yX2_power, cX2_power, 6, some .long)
abbrev mX2_cold : am_Q := (yX2_cold, cX2_cold, 19, some .long)
abbrev mX2_year : am_Q := (yX2_year, cX2_year, 9, some .int)
abbrev mX2_image : am_Q := (yX2_image, cX2_image, 4, some .int)
abbrev mX2_restore : am_Q := (yX2_restore, cX2_restore, 4, some .int)
abbrev mX2_toldVoice : am_Q := (yX2_toldVoice, cX2_toldVoice, 3, some .int)
abbrev mX2_told : am_Q := (yX2_told, cX2_told, 3, some .int)
theorem lc_X0_3 : am_kS "SongLamps" 3 mX0_isIn 3 := ⟨lw_S q208 q209 q51 q210, by decide +kernel⟩
theorem lc_X0_85 : am_kS "SongLamps" 85 mX0_isGallery 1 := ⟨lw_S q204 q205 q51 q206, by decide +kernel⟩
theorem lc_X0_91 : am_kS "SongLamps" 91 mX0_with 3 := ⟨lw_S q211 q212 q51 q213, by decide +kernel⟩
theorem lc_X0_95 : am_kS "SongLamps" 95 mJ0_bitCount 1 := ⟨lw_S q214 q215 q54 q216, by decide +kernel⟩
theorem lc_X0_78 : am_kS "SongLamps" 78 mX0_isVoice 1 := ⟨lw_S q228 q229 q51 q230, by decide +kernel⟩
theorem lc_X0_107 : am_kS "SongLamps" 107 mX0_isNote 1 := ⟨lw_S q232 q233 q51 q234, by decide +kernel⟩
theorem lc_X1_72 : am_kM 72 mX0_holds 2 := ⟨lw_meth q251, q250, q51, rfl, by decide +kernel, by decide +kernel⟩
theorem lc_X0_82 : am_kV "SongLamps" 82 1 mX1_isThere 1 := ⟨_, _, _, rfl, lw_V q245 q246 q247 q52 q248, by decide +kernel⟩
theorem lc_X0_133 : am_kV "SongLamps" 133 0 mX0_isHere 1 := ⟨_, _, _, rfl, lw_V q241 q243 qs0 q51 q244, by decide +kernel⟩
theorem lc_X0_149 : am_kV "SongLamps" 149 0 mX0_closes 3 := ⟨_, _, _, rfl, lw_V q278 q280 qs3 q51 q281, by decide +kernel⟩
theorem lc_X0_153 : am_kV "SongLamps" 153 0 mX0_begins 1 := ⟨_, _, _, rfl, lw_V q274 q276 qs2 q51 q277, by decide +kernel⟩
theorem lc_X0_157 : am_kV "SongLamps" 157 0 mX0_goesOn 1 := ⟨_, _, _, rfl, lw_V q282 q284 qs4 q51 q285, by decide +kernel⟩
theorem lc_X0_160 : am_kV "SongLamps" 160 0 mX0_reads 1 := ⟨_, _, _, rfl, lw_V q270 q272 qs1 q51 q273, by decide +kernel⟩
theorem lc_X1_52 : am_kM 52 mX0_layOver 2 := ⟨lw_meth q304, q303, q51, rfl, by decide +kernel, by decide +kernel⟩
theorem lc_X1_102 : am_kM 102 mX0_isIn 3 := ⟨lw_meth q210, q209, q51, rfl, by decide +kernel, by decide +kernel⟩
theorem lc_X1_76 : am_kV "SongLamps$Mine" 76 1 mX1_isThere 1 := ⟨_, _, _, rfl, lw_V q312 q246 q247 q52 q248, by decide +kernel⟩
theorem lc_X1_106 : am_kV "SongLamps$Mine" 106 1 mX1_whyNotSing 2 := ⟨_, _, _, rfl, lw_V q313 q315 qs6 q52 q316, by decide +kernel⟩
theorem lc_X1_109 : am_kV "SongLamps$Mine" 109 1 mX1_whyNotGo 2 := ⟨_, _, _, rfl, lw_V q318 q320 qs7 q52 q321, by decide +kernel⟩
theorem lc_X1_80 : am_kV "SongLamps$Mine" 80 1 mX1_sings 1 := ⟨_, _, _, rfl, lw_V q334 q335 q336 q52 q337, by decide +kernel⟩
theorem lc_X1_83 : am_kM 83 mX0_isThird 2 := ⟨lw_meth q344, q343, q51, rfl, by decide +kernel, by decide +kernel⟩
theorem lc_X1_86 : am_kV "SongLamps$Mine" 86 1 mX1_isTaken 1 := ⟨_, _, _, rfl, lw_V q338 q340 qs9 q52 q341, by decide +kernel⟩
theorem lc_X1_95 : am_kV "SongLamps$Mine" 95 1 mX1_sungIn 1 := ⟨_, _, _, rfl, lw_V q330 q332 qs8 q52 q333, by decide +kernel⟩
theorem lc_X1_99 : am_kV "SongLamps$Mine" 99 1 mX1_light 1 := ⟨_, _, _, rfl, lw_V q326 q327 q328 q52 q329, by decide +kernel⟩
theorem lc_X1_115 : am_kV "SongLamps$Mine" 115 1 mX1_cutCoal 0 := ⟨_, _, _, rfl, lw_V q361 q363 qs11 q52 q364, by decide +kernel⟩
theorem lc_X1_118 : am_kV "SongLamps$Mine" 118 1 mX1_breathe 1 := ⟨_, _, _, rfl, lw_V q365 q367 qs12 q52 q368, by decide +kernel⟩
theorem lc_X1_122 : am_kV "SongLamps$Mine" 122 1 mX1_pass 0 := ⟨_, _, _, rfl, lw_V q357 q359 qs10 q52 q360, by decide +kernel⟩
theorem lc_X0_163 : am_kV "SongLamps" 163 1 mX1_take 1 := ⟨_, _, _, rfl, lw_V q298 q299 q300 q52 q301, by decide +kernel⟩
theorem lc_X0_176 : am_kV "SongLamps" 176 1 mX1_whyNot 3 := ⟨_, _, _, rfl, lw_V q308 q309 q310 q52 q311, by decide +kernel⟩
theorem lc_X0_180 : am_kV "SongLamps" 180 1 mX1_lamps 0 := ⟨_, _, _, rfl, lw_V q322 q323 q324 q52 q325, by decide +kernel⟩
theorem lc_X0_184 : am_kV "SongLamps" 184 1 mX1_happen 3 := ⟨_, _, _, rfl, lw_V q353 q354 q355 q52 q356, by decide +kernel⟩
theorem lc_X0_188 : am_kS "SongLamps" 188 mJ0_numberOfTrailingZeros 1 := ⟨lw_S q372 q373 q54 q374, by decide +kernel⟩
theorem lc_X0_197 : am_kS "SongLamps" 197 mX0_isEnd 1 := ⟨lw_S q290 q291 q51 q292, by decide +kernel⟩
theorem lc_X0_191 : am_kV "SongLamps" 191 0 mX0_fault 0 := ⟨_, _, _, rfl, lw_V q293 q267 q268 q51 q269, by decide +kernel⟩
theorem lc_X0_194 : am_kV "SongLamps" 194 0 mX0_go 0 := ⟨_, _, _, rfl, lw_V q294 q296 qs5 q51 q297, by decide +kernel⟩
theorem lc_X0_200 : am_kV "SongLamps" 200 0 mX0_isRefused 0 := ⟨_, _, _, rfl, lw_V q380 q382 qs13 q51 q383, by decide +kernel⟩
theorem lc_X0_206 : am_kV "SongLamps" 206 1 mX1_light 1 := ⟨_, _, _, rfl, lw_V q393 q327 q328 q52 q329, by decide +kernel⟩
theorem lc_X0_215 : am_kV "SongLamps" 215 1 mX1_coalInAll 0 := ⟨_, _, _, rfl, lw_V q398 q399 q400 q52 q401, by decide +kernel⟩
theorem lc_X0_218 : am_kV "SongLamps" 218 1 mX1_sings 1 := ⟨_, _, _, rfl, lw_V q410 q335 q336 q52 q337, by decide +kernel⟩
theorem lc_X0_221 : am_kS "SongLamps" 221 mX0_holds 2 := ⟨lw_S q423 q250 q51 q251, by decide +kernel⟩
theorem lc_X0_228 : am_kV "SongLamps" 228 0 mX0_open 0 := ⟨_, _, _, rfl, lw_V q415 q417 qs14 q51 q418, by decide +kernel⟩
theorem lc_X0_231 : am_kV "SongLamps" 231 0 mX0_farIn 3 := ⟨_, _, _, rfl, lw_V q419 q421 qs15 q51 q422, by decide +kernel⟩
theorem lc_X0_236 : am_kV "SongLamps" 236 0 mX0_litBy 1 := ⟨_, _, _, rfl, lw_V q429 q431 qs16 q51 q432, by decide +kernel⟩
theorem lc_X0_239 : am_kS "SongLamps" 239 mX0_isThird 2 := ⟨lw_S q445 q343 q51 q344, by decide +kernel⟩
theorem lc_X0_242 : am_kV "SongLamps" 242 1 mX1_singing 0 := ⟨_, _, _, rfl, lw_V q437 q438 q439 q52 q440, by decide +kernel⟩
theorem lc_X0_245 : am_kV "SongLamps" 245 0 mX0_isKept 1 := ⟨_, _, _, rfl, lw_V q441 q443 qs17 q51 q444, by decide +kernel⟩
theorem lc_X0_248 : am_kS "SongLamps" 248 mX0_digit 2 := ⟨lw_S q456 q457 q51 q458, by decide +kernel⟩
theorem lc_X0_255 : am_kV "SongLamps" 255 0 mX0_restsThen 2 := ⟨_, _, _, rfl, lw_V q468 q470 qs20 q51 q471, by decide +kernel⟩
theorem lc_X0_261 : am_kV "SongLamps" 261 0 mX0_beatsBy 2 := ⟨_, _, _, rfl, lw_V q464 q466 qs19 q51 q467, by decide +kernel⟩
theorem lc_X0_268 : am_kS "SongLamps" 268 mX0_fill 2 := ⟨lw_S q459 q72 q51 q73, by decide +kernel⟩
theorem lc_X0_272 : am_kV "SongLamps" 272 0 mX0_holdOn 0 := ⟨_, _, _, rfl, lw_V q460 q462 qs18 q51 q463, by decide +kernel⟩
theorem lc_X0_286 : am_kV "SongLamps" 286 0 mX0_heardIn 2 := ⟨_, _, _, rfl, lw_V q499 q501 qs23 q51 q502, by decide +kernel⟩
theorem lc_X0_289 : am_kV "SongLamps" 289 0 mX0_findFar 0 := ⟨_, _, _, rfl, lw_V q491 q493 qs21 q51 q494, by decide +kernel⟩
theorem lc_X0_292 : am_kV "SongLamps" 292 0 mX0_canBe 1 := ⟨_, _, _, rfl, lw_V q495 q497 qs22 q51 q498, by decide +kernel⟩
theorem lc_X0_295 : am_kV "SongLamps" 295 0 mX0_mostLeft 1 := ⟨_, _, _, rfl, lw_V q507 q509 qs24 q51 q510, by decide +kernel⟩
theorem lc_X0_304 : am_kV "SongLamps" 304 0 mX0_singingIn 1 := ⟨_, _, _, rfl, lw_V q518 q520 qs25 q51 q521, by decide +kernel⟩
theorem lc_X0_307 : am_kS "SongLamps" 307 mX0_times 2 := ⟨lw_S q522 q523 q51 q524, by decide +kernel⟩
theorem lc_X0_311 : am_kS "SongLamps" 311 mX0_lowest 3 := ⟨lw_S q525 q526 q51 q527, by decide +kernel⟩
theorem lc_X0_325 : am_kS "SongLamps" 325 mX0_actBy 1 := ⟨lw_S q537 q538 q51 q539, by decide +kernel⟩
theorem lc_X0_340 : am_kV "SongLamps" 340 0 mX0_toldOfAll 1 := ⟨_, _, _, rfl, lw_V q563 q565 qs28 q51 q566, by decide +kernel⟩
theorem lc_X0_337 : am_kV "SongLamps" 337 0 mX0_toldOfVoice 2 := ⟨_, _, _, rfl, lw_V q559 q561 qs27 q51 q562, by decide +kernel⟩
theorem lc_X0_332 : am_kV "SongLamps" 332 0 mX0_toldOfGallery 2 := ⟨_, _, _, rfl, lw_V q554 q556 qs26 q51 q557, by decide +kernel⟩
theorem lc_X2_59 : am_kS "SongLampsModel" 59 mX2_in 3 := ⟨lw_S q654 q655 q53 q656, by decide +kernel⟩
theorem lc_X2_71 : am_kS "SongLampsModel" 71 mX2_isGallery 1 := ⟨lw_S q651 q652 q53 q653, by decide +kernel⟩
theorem lc_X2_75 : am_kS "SongLampsModel" 75 mX2_bits 1 := ⟨lw_S q657 q658 q53 q659, by decide +kernel⟩
theorem lc_X2_67 : am_kS "SongLampsModel" 67 mX2_has 2 := ⟨lw_S q676 q677 q53 q678, by decide +kernel⟩
theorem lc_X2_82 : am_kV "SongLampsModel" 82 2 mX2_isThere 1 := ⟨_, _, _, rfl, lw_V q672 q674 qs29 q53 q675, by decide +kernel⟩
theorem lc_X2_88 : am_kV "SongLampsModel" 88 2 mX2_faultOf 0 := ⟨_, _, _, rfl, lw_V q695 q697 qs30 q53 q698, by decide +kernel⟩
theorem lc_X2_92 : am_kV "SongLampsModel" 92 2 mX2_sings 2 := ⟨_, _, _, rfl, lw_V q723 q725 qs36 q53 q726, by decide +kernel⟩
theorem lc_X2_95 : am_kV "SongLampsModel" 95 2 mX2_areHushed 2 := ⟨_, _, _, rfl, lw_V q727 q729 qs37 q53 q730, by decide +kernel⟩
theorem lc_X2_98 : am_kV "SongLampsModel" 98 2 mX2_ownLight 1 := ⟨_, _, _, rfl, lw_V q719 q721 qs35 q53 q722, by decide +kernel⟩
theorem lc_X2_101 : am_kV "SongLampsModel" 101 2 mX2_lightOf 1 := ⟨_, _, _, rfl, lw_V q715 q717 qs34 q53 q718, by decide +kernel⟩
theorem lc_X2_110 : am_kV "SongLampsModel" 110 2 mX2_asNow 0 := ⟨_, _, _, rfl, lw_V q707 q709 qs32 q53 q710, by decide +kernel⟩
theorem lc_X2_116 : am_kV "SongLampsModel" 116 2 mX2_lamps 0 := ⟨_, _, _, rfl, lw_V q711 q713 qs33 q53 q714, by decide +kernel⟩
theorem lc_X2_122 : am_kV "SongLampsModel" 122 2 mX2_beat 0 := ⟨_, _, _, rfl, lw_V q731 q733 qs38 q53 q734, by decide +kernel⟩
theorem lc_X2_125 : am_kV "SongLampsModel" 125 2 mX2_hush 1 := ⟨_, _, _, rfl, lw_V q735 q737 qs39 q53 q738, by decide +kernel⟩
theorem lc_X2_128 : am_kV "SongLampsModel" 128 2 mX2_go 2 := ⟨_, _, _, rfl, lw_V q739 q741 qs40 q53 q742, by decide +kernel⟩
theorem lc_X2_132 : am_kV "SongLampsModel" 132 2 mX2_sing 2 := ⟨_, _, _, rfl, lw_V q743 q745 qs41 q53 q746, by decide +kernel⟩
theorem lc_X2_135 : am_kV "SongLampsModel" 135 2 mX2_goShifts 0 := ⟨_, _, _, rfl, lw_V q703 q705 qs31 q53 q706, by decide +kernel⟩
theorem lc_X2_138 : am_kV "SongLampsModel" 138 2 mX2_barOfShifts 0 := ⟨_, _, _, rfl, lw_V q751 q753 qs42 q53 q754, by decide +kernel⟩
theorem lc_X2_141 : am_kV "SongLampsModel" 141 2 mX2_coal 0 := ⟨_, _, _, rfl, lw_V q767 q769 qs43 q53 q770, by decide +kernel⟩
theorem lc_X2_145 : am_kV "SongLampsModel" 145 2 mX2_layFar 2 := ⟨_, _, _, rfl, lw_V q783 q785 qs44 q53 q786, by decide +kernel⟩
theorem lc_X2_149 : am_kS "SongLampsModel" 149 mX2_digit 2 := ⟨lw_S q808 q809 q53 q810, by decide +kernel⟩
theorem lc_X2_152 : am_kS "SongLampsModel" 152 mX2_rested 4 := ⟨lw_S q811 q812 q53 q813, by decide +kernel⟩
theorem lc_X2_156 : am_kV "SongLampsModel" 156 2 mX2_heldBy 3 := ⟨_, _, _, rfl, lw_V q804 q806 qs45 q53 q807, by decide +kernel⟩
theorem lc_X2_163 : am_kV "SongLampsModel" 163 2 mX2_noteIn 2 := ⟨_, _, _, rfl, lw_V q838 q840 qs48 q53 q841, by decide +kernel⟩
theorem lc_X2_166 : am_kV "SongLampsModel" 166 2 mX2_layApart 0 := ⟨_, _, _, rfl, lw_V q830 q832 qs46 q53 q833, by decide +kernel⟩
theorem lc_X2_169 : am_kV "SongLampsModel" 169 2 mX2_isLost 1 := ⟨_, _, _, rfl, lw_V q834 q836 qs47 q53 q837, by decide +kernel⟩
theorem lc_X2_180 : am_kS "SongLampsModel" 180 mX2_power 2 := ⟨lw_S q854 q855 q53 q856, by decide +kernel⟩
theorem lc_X2_185 : am_kV "SongLampsModel" 185 2 mX2_toldVoice 2 := ⟨_, _, _, rfl, lw_V q874 q876 qs49 q53 q877, by decide +kernel⟩
