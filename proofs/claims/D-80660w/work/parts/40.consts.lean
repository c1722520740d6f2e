/-! constants; places of fields -/
theorem ic_m1 : Int32.ofInt (-1) = (-1) := by decide
theorem ic_0 : Int32.ofInt 0 = 0 := by decide
theorem ic_1 : Int32.ofInt 1 = 1 := by decide
theorem ic_2 : Int32.ofInt 2 = 2 := by decide
theorem ic_3 : Int32.ofInt 3 = 3 := by decide
theorem ic_4 : Int32.ofInt 4 = 4 := by decide
theorem ic_5 : Int32.ofInt 5 = 5 := by decide
theorem bp_m15 : (Int8.ofInt (-15)).toInt32 = (-15) := by decide
theorem bp_m14 : (Int8.ofInt (-14)).toInt32 = (-14) := by decide
theorem bp_m13 : (Int8.ofInt (-13)).toInt32 = (-13) := by decide
theorem bp_m12 : (Int8.ofInt (-12)).toInt32 = (-12) := by decide
theorem bp_m11 : (Int8.ofInt (-11)).toInt32 = (-11) := by decide
theorem bp_m4 : (Int8.ofInt (-4)).toInt32 = (-4) := by decide
theorem bp_m3 : (Int8.ofInt (-3)).toInt32 = (-3) := by decide
theorem bp_m2 : (Int8.ofInt (-2)).toInt32 = (-2) := by decide
theorem bp_6 : (Int8.ofInt 6).toInt32 = 6 := by decide
theorem bp_7 : (Int8.ofInt 7).toInt32 = 7 := by decide
theorem bp_8 : (Int8.ofInt 8).toInt32 = 8 := by decide
theorem bp_12 : (Int8.ofInt 12).toInt32 = 12 := by decide
theorem bp_16 : (Int8.ofInt 16).toInt32 = 16 := by decide
theorem bp_18 : (Int8.ofInt 18).toInt32 = 18 := by decide
theorem bp_20 : (Int8.ofInt 20).toInt32 = 20 := by decide
theorem bp_21 : (Int8.ofInt 21).toInt32 = 21 := by decide
theorem bp_23 : (Int8.ofInt 23).toInt32 = 23 := by decide
theorem bp_24 : (Int8.ofInt 24).toInt32 = 24 := by decide
theorem bp_25 : (Int8.ofInt 25).toInt32 = 25 := by decide
theorem bp_26 : (Int8.ofInt 26).toInt32 = 26 := by decide
theorem bp_28 : (Int8.ofInt 28).toInt32 = 28 := by decide
theorem bp_30 : (Int8.ofInt 30).toInt32 = 30 := by decide
theorem bp_32 : (Int8.ofInt 32).toInt32 = 32 := by decide
theorem bp_35 : (Int8.ofInt 35).toInt32 = 35 := by decide
theorem bp_40 : (Int8.ofInt 40).toInt32 = 40 := by decide
theorem bp_60 : (Int8.ofInt 60).toInt32 = 60 := by decide
theorem bp_64 : (Int8.ofInt 64).toInt32 = 64 := by decide
theorem bp_80 : (Int8.ofInt 80).toInt32 = 80 := by decide
theorem bp_82 : (Int8.ofInt 82).toInt32 = 82 := by decide
theorem bp_100 : (Int8.ofInt 100).toInt32 = 100 := by decide
theorem bp_108 : (Int8.ofInt 108).toInt32 = 108 := by decide
theorem bp_127 : (Int8.ofInt 127).toInt32 = 127 := by decide
theorem sp_m2002 : (Int16.ofInt (-2002)).toInt32 = (-2002) := by decide
theorem sp_m2001 : (Int16.ofInt (-2001)).toInt32 = (-2001) := by decide
theorem sp_m2000 : (Int16.ofInt (-2000)).toInt32 = (-2000) := by decide
theorem sp_m1000 : (Int16.ofInt (-1000)).toInt32 = (-1000) := by decide
theorem sp_128 : (Int16.ofInt 128).toInt32 = 128 := by decide
theorem sp_150 : (Int16.ofInt 150).toInt32 = 150 := by decide
theorem sp_240 : (Int16.ofInt 240).toInt32 = 240 := by decide
theorem sp_300 : (Int16.ofInt 300).toInt32 = 300 := by decide
theorem sp_720 : (Int16.ofInt 720).toInt32 = 720 := by decide
theorem sp_900 : (Int16.ofInt 900).toInt32 = 900 := by decide
theorem lc_0 : Int64.ofNat ((0 : Fin 2) : Nat) = 0 := by decide
theorem lc_1 : Int64.ofNat ((1 : Fin 2) : Nat) = 1 := by decide
theorem cc_tk12 {a : Nat} (h : cc_g 12 (some a) = true) : tk_ [12, 13, 14] a = true := h
theorem cc_tk13 {a : Nat} (h : cc_g 13 (some a) = true) : tk_ [13] a = true := h
theorem cc_tk22 {a : Nat} (h : cc_g 22 (some a) = true) : tk_ [22] a = true := h
theorem cc_tk25 {a : Nat} (h : cc_g 25 (some a) = true) : tk_ [25] a = true := h
theorem cc_tk24 {a : Nat} (h : cc_g 24 (some a) = true) : tk_ [24] a = true := h
theorem cc_tk20 {a : Nat} (h : cc_g 20 (some a) = true) : tk_ [20] a = true := h
theorem fin_var {ts : List Nat} {k : Nat} {own mn : String} (h : aw_var ts k = true) : aw_fin ts k own mn = true := by
  unfold aw_fin aw_var at *
  rw [List.all_eq_true] at h ⊢
  intro t ht
  have := h t ht
  cases hc : aw_cl[t]? with
  | none => rw [hc] at this; cases this
  | some r => rw [hc] at this; simp only [this, Bool.true_or]
theorem fk0_0 : aw_fok [0] "StaveScore" "part" "[LStaveScore$Hears;" 0 2 = true := by decide +kernel
theorem fk0_0_t : aw_tyok [0] 0 (.array (.object "StaveScore$Hears")) = true := by decide +kernel
theorem fk0_1 : aw_fok [0] "StaveScore" "parts" "I" 1 0 = true := by decide +kernel
theorem fk0_1_t : aw_tyok [0] 1 .int = true := by decide +kernel
theorem fk0_1_v : aw_var [0] 1 = true := by decide +kernel
theorem fk0_10 : aw_fok [0] "StaveScore" "line" "[LStaveScore$Line;" 10 2 = true := by decide +kernel
theorem fk0_10_t : aw_tyok [0] 10 (.array (.object "StaveScore$Line")) = true := by decide +kernel
theorem fk0_11 : aw_fok [0] "StaveScore" "lines" "I" 11 0 = true := by decide +kernel
theorem fk0_11_t : aw_tyok [0] 11 .int = true := by decide +kernel
theorem fk0_11_v : aw_var [0] 11 = true := by decide +kernel
theorem fk0_12 : aw_fok [0] "StaveScore" "racks" "[[LStaveScore$Event;" 12 2 = true := by decide +kernel
theorem fk0_12_t : aw_tyok [0] 12 (.array (.array (.object "StaveScore$Event"))) = true := by decide +kernel
theorem fk0_13 : aw_fok [0] "StaveScore" "shelves" "[LStaveScore$Shelf;" 13 2 = true := by decide +kernel
theorem fk0_13_t : aw_tyok [0] 13 (.array (.object "StaveScore$Shelf")) = true := by decide +kernel
theorem fk0_14 : aw_fok [0] "StaveScore" "walk" "[I" 14 2 = true := by decide +kernel
theorem fk0_14_t : aw_tyok [0] 14 (.array .int) = true := by decide +kernel
theorem fk0_15 : aw_fok [0] "StaveScore" "walked" "I" 15 0 = true := by decide +kernel
theorem fk0_15_t : aw_tyok [0] 15 .int = true := by decide +kernel
theorem fk0_15_v : aw_var [0] 15 = true := by decide +kernel
theorem fk0_16 : aw_fok [0] "StaveScore" "found" "[I" 16 2 = true := by decide +kernel
theorem fk0_16_t : aw_tyok [0] 16 (.array .int) = true := by decide +kernel
theorem fk0_17 : aw_fok [0] "StaveScore" "findings" "I" 17 0 = true := by decide +kernel
theorem fk0_17_t : aw_tyok [0] 17 .int = true := by decide +kernel
theorem fk0_17_v : aw_var [0] 17 = true := by decide +kernel
theorem fk0_18 : aw_fok [0] "StaveScore" "failures" "[I" 18 2 = true := by decide +kernel
theorem fk0_18_t : aw_tyok [0] 18 (.array .int) = true := by decide +kernel
theorem fk0_19 : aw_fok [0] "StaveScore" "status" "I" 19 0 = true := by decide +kernel
theorem fk0_19_t : aw_tyok [0] 19 .int = true := by decide +kernel
theorem fk0_19_v : aw_var [0] 19 = true := by decide +kernel
theorem fk0_2 : aw_fok [0] "StaveScore" "barBegin" "[LStaveScore$Fraction;" 2 2 = true := by decide +kernel
theorem fk0_2_t : aw_tyok [0] 2 (.array (.object "StaveScore$Fraction")) = true := by decide +kernel
theorem fk0_20 : aw_fok [0] "StaveScore" "trace" "J" 20 1 = true := by decide +kernel
theorem fk0_20_t : aw_tyok [0] 20 .long = true := by decide +kernel
theorem fk0_20_v : aw_var [0] 20 = true := by decide +kernel
theorem fk0_21 : aw_fok [0] "StaveScore" "scale" "[B" 21 2 = true := by decide +kernel
theorem fk0_21_t : aw_tyok [0] 21 (.array .byte) = true := by decide +kernel
theorem fk0_22 : aw_fok [0] "StaveScore" "part1" "LStaveScore$Fraction;" 22 2 = true := by decide +kernel
theorem fk0_22_t : aw_tyok [0] 22 (.object "StaveScore$Fraction") = true := by decide +kernel
theorem fk0_23 : aw_fok [0] "StaveScore" "sum" "LStaveScore$Fraction;" 23 2 = true := by decide +kernel
theorem fk0_23_t : aw_tyok [0] 23 (.object "StaveScore$Fraction") = true := by decide +kernel
theorem fk0_3 : aw_fok [0] "StaveScore" "bars" "I" 3 0 = true := by decide +kernel
theorem fk0_3_t : aw_tyok [0] 3 .int = true := by decide +kernel
theorem fk0_3_v : aw_var [0] 3 = true := by decide +kernel
theorem fk0_4 : aw_fok [0] "StaveScore" "voice" "[LStaveScore$Voice;" 4 2 = true := by decide +kernel
theorem fk0_4_t : aw_tyok [0] 4 (.array (.object "StaveScore$Voice")) = true := by decide +kernel
theorem fk0_5 : aw_fok [0] "StaveScore" "event" "[LStaveScore$Event;" 5 2 = true := by decide +kernel
theorem fk0_5_t : aw_tyok [0] 5 (.array (.object "StaveScore$Event")) = true := by decide +kernel
theorem fk0_6 : aw_fok [0] "StaveScore" "ever" "I" 6 0 = true := by decide +kernel
theorem fk0_6_t : aw_tyok [0] 6 .int = true := by decide +kernel
theorem fk0_6_v : aw_var [0] 6 = true := by decide +kernel
theorem fk0_7 : aw_fok [0] "StaveScore" "there" "I" 7 0 = true := by decide +kernel
theorem fk0_7_t : aw_tyok [0] 7 .int = true := by decide +kernel
theorem fk0_7_v : aw_var [0] 7 = true := by decide +kernel
theorem fk0_8 : aw_fok [0] "StaveScore" "tuplet" "[LStaveScore$Tuplet;" 8 2 = true := by decide +kernel
theorem fk0_8_t : aw_tyok [0] 8 (.array (.object "StaveScore$Tuplet")) = true := by decide +kernel
theorem fk0_9 : aw_fok [0] "StaveScore" "tuplets" "I" 9 0 = true := by decide +kernel
theorem fk0_9_t : aw_tyok [0] 9 .int = true := by decide +kernel
theorem fk0_9_v : aw_var [0] 9 = true := by decide +kernel
theorem fk10_1 : aw_fok [10] "StaveScore$Drum" "this$0" "LStaveScore;" 1 2 = true := by decide +kernel
theorem fk10_1_t : aw_tyok [10] 1 (.object "StaveScore") = true := by decide +kernel
theorem fk11_0 : aw_fok [11] "StaveScore$Line" "kind" "I" 0 0 = true := by decide +kernel
theorem fk11_0_t : aw_tyok [11] 0 .int = true := by decide +kernel
theorem fk11_1 : aw_fok [11] "StaveScore$Line" "from" "LStaveScore$Event;" 1 2 = true := by decide +kernel
theorem fk11_1_t : aw_tyok [11] 1 (.object "StaveScore$Event") = true := by decide +kernel
theorem fk11_2 : aw_fok [11] "StaveScore$Line" "to" "LStaveScore$Event;" 2 2 = true := by decide +kernel
theorem fk11_2_t : aw_tyok [11] 2 (.object "StaveScore$Event") = true := by decide +kernel
theorem fk11_2_v : aw_var [11] 2 = true := by decide +kernel
theorem fk12_0 : aw_fok [12, 13, 14, 15, 16] "StaveScore$Event" "number" "I" 0 0 = true := by decide +kernel
theorem fk12_0_t : aw_tyok [12, 13, 14, 15, 16] 0 .int = true := by decide +kernel
theorem fk12_1 : aw_fok [12, 13, 14, 15, 16] "StaveScore$Event" "voice" "I" 1 0 = true := by decide +kernel
theorem fk12_1_t : aw_tyok [12, 13, 14, 15, 16] 1 .int = true := by decide +kernel
theorem fk12_1_v : aw_var [12, 13, 14, 15, 16] 1 = true := by decide +kernel
theorem fk12_2 : aw_fok [12, 13, 14, 15, 16] "StaveScore$Event" "place" "I" 2 0 = true := by decide +kernel
theorem fk12_2_t : aw_tyok [12, 13, 14, 15, 16] 2 .int = true := by decide +kernel
theorem fk12_2_v : aw_var [12, 13, 14, 15, 16] 2 = true := by decide +kernel
theorem fk12_3 : aw_fok [12, 13, 14, 15, 16] "StaveScore$Event" "value" "I" 3 0 = true := by decide +kernel
theorem fk12_3_t : aw_tyok [12, 13, 14, 15, 16] 3 .int = true := by decide +kernel
theorem fk12_3_v : aw_var [12, 13, 14, 15, 16] 3 = true := by decide +kernel
theorem fk12_4 : aw_fok [12, 13, 14, 15, 16] "StaveScore$Event" "dots" "I" 4 0 = true := by decide +kernel
theorem fk12_4_t : aw_tyok [12, 13, 14, 15, 16] 4 .int = true := by decide +kernel
theorem fk12_4_v : aw_var [12, 13, 14, 15, 16] 4 = true := by decide +kernel
theorem fk12_5 : aw_fok [12, 13, 14, 15, 16] "StaveScore$Event" "begin" "LStaveScore$Fraction;" 5 2 = true := by decide +kernel
theorem fk12_5_t : aw_tyok [12, 13, 14, 15, 16] 5 (.object "StaveScore$Fraction") = true := by decide +kernel
theorem fk12_6 : aw_fok [12, 13, 14] "StaveScore$Note" "lowest" "I" 6 0 = true := by decide +kernel
theorem fk12_6_t : aw_tyok [12, 13, 14] 6 .int = true := by decide +kernel
theorem fk12_6_v : aw_var [12, 13, 14] 6 = true := by decide +kernel
theorem fk12_7 : aw_fok [12, 13, 14] "StaveScore$Note" "tied" "Z" 7 0 = true := by decide +kernel
theorem fk12_7_t : aw_tyok [12, 13, 14] 7 .boolean = true := by decide +kernel
theorem fk12_7_v : aw_var [12, 13, 14] 7 = true := by decide +kernel
theorem fk13_8 : aw_fok [13] "StaveScore$Chord" "further" "[I" 8 2 = true := by decide +kernel
theorem fk13_8_t : aw_tyok [13] 8 (.array .int) = true := by decide +kernel
theorem fk13_9 : aw_fok [13] "StaveScore$Chord" "more" "I" 9 0 = true := by decide +kernel
theorem fk13_9_t : aw_tyok [13] 9 .int = true := by decide +kernel
theorem fk13_9_v : aw_var [13] 9 = true := by decide +kernel
theorem fk17_0 : aw_fok [17] "StaveScore$Tuplet" "number" "I" 0 0 = true := by decide +kernel
theorem fk17_0_t : aw_tyok [17] 0 .int = true := by decide +kernel
theorem fk17_1 : aw_fok [17] "StaveScore$Tuplet" "voice" "I" 1 0 = true := by decide +kernel
theorem fk17_1_t : aw_tyok [17] 1 .int = true := by decide +kernel
theorem fk17_2 : aw_fok [17] "StaveScore$Tuplet" "first" "I" 2 0 = true := by decide +kernel
theorem fk17_2_t : aw_tyok [17] 2 .int = true := by decide +kernel
theorem fk17_2_v : aw_var [17] 2 = true := by decide +kernel
theorem fk17_3 : aw_fok [17] "StaveScore$Tuplet" "last" "I" 3 0 = true := by decide +kernel
theorem fk17_3_t : aw_tyok [17] 3 .int = true := by decide +kernel
theorem fk17_3_v : aw_var [17] 3 = true := by decide +kernel
theorem fk17_4 : aw_fok [17] "StaveScore$Tuplet" "n" "I" 4 0 = true := by decide +kernel
theorem fk17_4_t : aw_tyok [17] 4 .int = true := by decide +kernel
theorem fk17_5 : aw_fok [17] "StaveScore$Tuplet" "m" "I" 5 0 = true := by decide +kernel
theorem fk17_5_t : aw_tyok [17] 5 .int = true := by decide +kernel
theorem fk17_6 : aw_fok [17] "StaveScore$Tuplet" "unit" "I" 6 0 = true := by decide +kernel
theorem fk17_6_t : aw_tyok [17] 6 .int = true := by decide +kernel
theorem fk1_0 : aw_fok [1] "StaveScore$Fraction" "up" "J" 0 1 = true := by decide +kernel
theorem fk1_0_t : aw_tyok [1] 0 .long = true := by decide +kernel
theorem fk1_0_v : aw_var [1] 0 = true := by decide +kernel
theorem fk1_1 : aw_fok [1] "StaveScore$Fraction" "down" "J" 1 1 = true := by decide +kernel
theorem fk1_1_t : aw_tyok [1] 1 .long = true := by decide +kernel
theorem fk1_1_v : aw_var [1] 1 = true := by decide +kernel
theorem fk2_0 : aw_fok [2] "StaveScore$Voice" "row" "[LStaveScore$Event;" 0 2 = true := by decide +kernel
theorem fk2_0_t : aw_tyok [2] 0 (.array (.object "StaveScore$Event")) = true := by decide +kernel
theorem fk2_1 : aw_fok [2] "StaveScore$Voice" "many" "I" 1 0 = true := by decide +kernel
theorem fk2_1_t : aw_tyok [2] 1 .int = true := by decide +kernel
theorem fk2_1_v : aw_var [2] 1 = true := by decide +kernel
theorem fk2_2 : aw_fok [2] "StaveScore$Voice" "length" "LStaveScore$Fraction;" 2 2 = true := by decide +kernel
theorem fk2_2_t : aw_tyok [2] 2 (.object "StaveScore$Fraction") = true := by decide +kernel
theorem fk3_0 : aw_fok [3] "StaveScore$Shelf" "row" "Ljava/lang/Object;" 0 2 = true := by decide +kernel
theorem fk3_0_t : aw_tyok [3] 0 (.object "java/lang/Object") = true := by decide +kernel
theorem fk3_0_v : aw_var [3] 0 = true := by decide +kernel
theorem fk3_1 : aw_fok [3] "StaveScore$Shelf" "kind" "I" 1 0 = true := by decide +kernel
theorem fk3_1_t : aw_tyok [3] 1 .int = true := by decide +kernel
theorem fk3_1_v : aw_var [3] 1 = true := by decide +kernel
theorem fk4_0 : aw_fok [4] "StaveScoreModel" "parts" "I" 0 0 = true := by decide +kernel
theorem fk4_0_t : aw_tyok [4] 0 .int = true := by decide +kernel
theorem fk4_0_v : aw_var [4] 0 = true := by decide +kernel
theorem fk4_1 : aw_fok [4] "StaveScoreModel" "partKind" "[I" 1 2 = true := by decide +kernel
theorem fk4_1_t : aw_tyok [4] 1 (.array .int) = true := by decide +kernel
theorem fk4_10 : aw_fok [4] "StaveScoreModel" "pitchOf" "[I" 10 2 = true := by decide +kernel
theorem fk4_10_t : aw_tyok [4] 10 (.array .int) = true := by decide +kernel
theorem fk4_11 : aw_fok [4] "StaveScoreModel" "valueOf" "[I" 11 2 = true := by decide +kernel
theorem fk4_11_t : aw_tyok [4] 11 (.array .int) = true := by decide +kernel
theorem fk4_12 : aw_fok [4] "StaveScoreModel" "dotsOf" "[I" 12 2 = true := by decide +kernel
theorem fk4_12_t : aw_tyok [4] 12 (.array .int) = true := by decide +kernel
theorem fk4_13 : aw_fok [4] "StaveScoreModel" "isTied" "[Z" 13 2 = true := by decide +kernel
theorem fk4_13_t : aw_tyok [4] 13 (.array .boolean) = true := by decide +kernel
theorem fk4_14 : aw_fok [4] "StaveScoreModel" "row" "[I" 14 2 = true := by decide +kernel
theorem fk4_14_t : aw_tyok [4] 14 (.array .int) = true := by decide +kernel
theorem fk4_15 : aw_fok [4] "StaveScoreModel" "many" "[I" 15 2 = true := by decide +kernel
theorem fk4_15_t : aw_tyok [4] 15 (.array .int) = true := by decide +kernel
theorem fk4_16 : aw_fok [4] "StaveScoreModel" "tupletsEver" "I" 16 0 = true := by decide +kernel
theorem fk4_16_t : aw_tyok [4] 16 .int = true := by decide +kernel
theorem fk4_16_v : aw_var [4] 16 = true := by decide +kernel
theorem fk4_17 : aw_fok [4] "StaveScoreModel" "tupletsThere" "I" 17 0 = true := by decide +kernel
theorem fk4_17_t : aw_tyok [4] 17 .int = true := by decide +kernel
theorem fk4_17_v : aw_var [4] 17 = true := by decide +kernel
theorem fk4_18 : aw_fok [4] "StaveScoreModel" "isTuplet" "[Z" 18 2 = true := by decide +kernel
theorem fk4_18_t : aw_tyok [4] 18 (.array .boolean) = true := by decide +kernel
theorem fk4_19 : aw_fok [4] "StaveScoreModel" "tupletVoice" "[I" 19 2 = true := by decide +kernel
theorem fk4_19_t : aw_tyok [4] 19 (.array .int) = true := by decide +kernel
theorem fk4_2 : aw_fok [4] "StaveScoreModel" "bars" "I" 2 0 = true := by decide +kernel
theorem fk4_2_t : aw_tyok [4] 2 .int = true := by decide +kernel
theorem fk4_2_v : aw_var [4] 2 = true := by decide +kernel
theorem fk4_20 : aw_fok [4] "StaveScoreModel" "tupletFirst" "[I" 20 2 = true := by decide +kernel
theorem fk4_20_t : aw_tyok [4] 20 (.array .int) = true := by decide +kernel
theorem fk4_21 : aw_fok [4] "StaveScoreModel" "tupletLast" "[I" 21 2 = true := by decide +kernel
theorem fk4_21_t : aw_tyok [4] 21 (.array .int) = true := by decide +kernel
theorem fk4_22 : aw_fok [4] "StaveScoreModel" "tupletN" "[I" 22 2 = true := by decide +kernel
theorem fk4_22_t : aw_tyok [4] 22 (.array .int) = true := by decide +kernel
theorem fk4_23 : aw_fok [4] "StaveScoreModel" "tupletM" "[I" 23 2 = true := by decide +kernel
theorem fk4_23_t : aw_tyok [4] 23 (.array .int) = true := by decide +kernel
theorem fk4_24 : aw_fok [4] "StaveScoreModel" "tupletUnit" "[I" 24 2 = true := by decide +kernel
theorem fk4_24_t : aw_tyok [4] 24 (.array .int) = true := by decide +kernel
theorem fk4_25 : aw_fok [4] "StaveScoreModel" "linesEver" "I" 25 0 = true := by decide +kernel
theorem fk4_25_t : aw_tyok [4] 25 .int = true := by decide +kernel
theorem fk4_25_v : aw_var [4] 25 = true := by decide +kernel
theorem fk4_26 : aw_fok [4] "StaveScoreModel" "linesThere" "I" 26 0 = true := by decide +kernel
theorem fk4_26_t : aw_tyok [4] 26 .int = true := by decide +kernel
theorem fk4_26_v : aw_var [4] 26 = true := by decide +kernel
theorem fk4_27 : aw_fok [4] "StaveScoreModel" "isLine" "[Z" 27 2 = true := by decide +kernel
theorem fk4_27_t : aw_tyok [4] 27 (.array .boolean) = true := by decide +kernel
theorem fk4_28 : aw_fok [4] "StaveScoreModel" "lineKind" "[I" 28 2 = true := by decide +kernel
theorem fk4_28_t : aw_tyok [4] 28 (.array .int) = true := by decide +kernel
theorem fk4_29 : aw_fok [4] "StaveScoreModel" "lineFrom" "[I" 29 2 = true := by decide +kernel
theorem fk4_29_t : aw_tyok [4] 29 (.array .int) = true := by decide +kernel
theorem fk4_3 : aw_fok [4] "StaveScoreModel" "barTime" "[J" 3 2 = true := by decide +kernel
theorem fk4_3_t : aw_tyok [4] 3 (.array .long) = true := by decide +kernel
theorem fk4_30 : aw_fok [4] "StaveScoreModel" "lineTo" "[I" 30 2 = true := by decide +kernel
theorem fk4_30_t : aw_tyok [4] 30 (.array .int) = true := by decide +kernel
theorem fk4_31 : aw_fok [4] "StaveScoreModel" "walkMany" "I" 31 0 = true := by decide +kernel
theorem fk4_31_t : aw_tyok [4] 31 .int = true := by decide +kernel
theorem fk4_31_v : aw_var [4] 31 = true := by decide +kernel
theorem fk4_32 : aw_fok [4] "StaveScoreModel" "walkRow" "[I" 32 2 = true := by decide +kernel
theorem fk4_32_t : aw_tyok [4] 32 (.array .int) = true := by decide +kernel
theorem fk4_33 : aw_fok [4] "StaveScoreModel" "found" "I" 33 0 = true := by decide +kernel
theorem fk4_33_t : aw_tyok [4] 33 .int = true := by decide +kernel
theorem fk4_33_v : aw_var [4] 33 = true := by decide +kernel
theorem fk4_34 : aw_fok [4] "StaveScoreModel" "findings" "[I" 34 2 = true := by decide +kernel
theorem fk4_34_t : aw_tyok [4] 34 (.array .int) = true := by decide +kernel
theorem fk4_35 : aw_fok [4] "StaveScoreModel" "hasRack" "[Z" 35 2 = true := by decide +kernel
theorem fk4_35_t : aw_tyok [4] 35 (.array .boolean) = true := by decide +kernel
theorem fk4_36 : aw_fok [4] "StaveScoreModel" "rackKind" "[I" 36 2 = true := by decide +kernel
theorem fk4_36_t : aw_tyok [4] 36 (.array .int) = true := by decide +kernel
theorem fk4_37 : aw_fok [4] "StaveScoreModel" "rackSize" "[I" 37 2 = true := by decide +kernel
theorem fk4_37_t : aw_tyok [4] 37 (.array .int) = true := by decide +kernel
theorem fk4_38 : aw_fok [4] "StaveScoreModel" "rackRow" "[I" 38 2 = true := by decide +kernel
theorem fk4_38_t : aw_tyok [4] 38 (.array .int) = true := by decide +kernel
theorem fk4_39 : aw_fok [4] "StaveScoreModel" "slid" "[I" 39 2 = true := by decide +kernel
theorem fk4_39_t : aw_tyok [4] 39 (.array .int) = true := by decide +kernel
theorem fk4_4 : aw_fok [4] "StaveScoreModel" "ever" "I" 4 0 = true := by decide +kernel
theorem fk4_4_t : aw_tyok [4] 4 .int = true := by decide +kernel
theorem fk4_4_v : aw_var [4] 4 = true := by decide +kernel
theorem fk4_40 : aw_fok [4] "StaveScoreModel" "hasShelf" "[Z" 40 2 = true := by decide +kernel
theorem fk4_40_t : aw_tyok [4] 40 (.array .boolean) = true := by decide +kernel
theorem fk4_41 : aw_fok [4] "StaveScoreModel" "shelfKind" "[I" 41 2 = true := by decide +kernel
theorem fk4_41_t : aw_tyok [4] 41 (.array .int) = true := by decide +kernel
theorem fk4_42 : aw_fok [4] "StaveScoreModel" "shelfSize" "[I" 42 2 = true := by decide +kernel
theorem fk4_42_t : aw_tyok [4] 42 (.array .int) = true := by decide +kernel
theorem fk4_43 : aw_fok [4] "StaveScoreModel" "shelfRow" "[I" 43 2 = true := by decide +kernel
theorem fk4_43_t : aw_tyok [4] 43 (.array .int) = true := by decide +kernel
theorem fk4_44 : aw_fok [4] "StaveScoreModel" "copied" "[I" 44 2 = true := by decide +kernel
theorem fk4_44_t : aw_tyok [4] 44 (.array .int) = true := by decide +kernel
theorem fk4_45 : aw_fok [4] "StaveScoreModel" "failed" "[I" 45 2 = true := by decide +kernel
theorem fk4_45_t : aw_tyok [4] 45 (.array .int) = true := by decide +kernel
theorem fk4_46 : aw_fok [4] "StaveScoreModel" "status" "I" 46 0 = true := by decide +kernel
theorem fk4_46_t : aw_tyok [4] 46 .int = true := by decide +kernel
theorem fk4_46_v : aw_var [4] 46 = true := by decide +kernel
theorem fk4_47 : aw_fok [4] "StaveScoreModel" "trace" "J" 47 1 = true := by decide +kernel
theorem fk4_47_t : aw_tyok [4] 47 .long = true := by decide +kernel
theorem fk4_47_v : aw_var [4] 47 = true := by decide +kernel
theorem fk4_48 : aw_fok [4] "StaveScoreModel" "thrown" "I" 48 0 = true := by decide +kernel
theorem fk4_48_t : aw_tyok [4] 48 .int = true := by decide +kernel
theorem fk4_48_v : aw_var [4] 48 = true := by decide +kernel
theorem fk4_49 : aw_fok [4] "StaveScoreModel" "walkTime" "[J" 49 2 = true := by decide +kernel
theorem fk4_49_t : aw_tyok [4] 49 (.array .long) = true := by decide +kernel
theorem fk4_5 : aw_fok [4] "StaveScoreModel" "there" "I" 5 0 = true := by decide +kernel
theorem fk4_5_t : aw_tyok [4] 5 .int = true := by decide +kernel
theorem fk4_5_v : aw_var [4] 5 = true := by decide +kernel
theorem fk4_50 : aw_fok [4] "StaveScoreModel" "laid" "I" 50 0 = true := by decide +kernel
theorem fk4_50_t : aw_tyok [4] 50 .int = true := by decide +kernel
theorem fk4_50_v : aw_var [4] 50 = true := by decide +kernel
theorem fk4_6 : aw_fok [4] "StaveScoreModel" "isThere" "[Z" 6 2 = true := by decide +kernel
theorem fk4_6_t : aw_tyok [4] 6 (.array .boolean) = true := by decide +kernel
theorem fk4_7 : aw_fok [4] "StaveScoreModel" "voiceOf" "[I" 7 2 = true := by decide +kernel
theorem fk4_7_t : aw_tyok [4] 7 (.array .int) = true := by decide +kernel
theorem fk4_8 : aw_fok [4] "StaveScoreModel" "kindOf" "[I" 8 2 = true := by decide +kernel
theorem fk4_8_t : aw_tyok [4] 8 (.array .int) = true := by decide +kernel
theorem fk4_9 : aw_fok [4] "StaveScoreModel" "pitches" "[I" 9 2 = true := by decide +kernel
theorem fk4_9_t : aw_tyok [4] 9 (.array .int) = true := by decide +kernel
theorem fk5_0 : aw_fok [5, 6, 7, 8, 9, 10] "StaveScore$Plain" "this$0" "LStaveScore;" 0 2 = true := by decide +kernel
theorem fk5_0_t : aw_tyok [5, 6, 7, 8, 9, 10] 0 (.object "StaveScore") = true := by decide +kernel
theorem fk6_1 : aw_fok [6] "StaveScore$Low" "this$0" "LStaveScore;" 1 2 = true := by decide +kernel
theorem fk6_1_t : aw_tyok [6] 1 (.object "StaveScore") = true := by decide +kernel
theorem fk7_1 : aw_fok [7, 8, 9] "StaveScore$Brass" "this$0" "LStaveScore;" 1 2 = true := by decide +kernel
theorem fk7_1_t : aw_tyok [7, 8, 9] 1 (.object "StaveScore") = true := by decide +kernel
theorem fk8_2 : aw_fok [8, 9] "StaveScore$Horn" "this$0" "LStaveScore;" 2 2 = true := by decide +kernel
theorem fk8_2_t : aw_tyok [8, 9] 2 (.object "StaveScore") = true := by decide +kernel
theorem fk9_3 : aw_fok [9] "StaveScore$LowHorn" "this$0" "LStaveScore;" 3 2 = true := by decide +kernel
theorem fk9_3_t : aw_tyok [9] 3 (.object "StaveScore") = true := by decide +kernel
