/-! fields by number, checked once -/
theorem ck_1_1_0 : cchk 1 1 0 "RugReader" "tape" "[B" true = true := by decide +kernel
theorem ck_1_1_1 : cchk 1 1 1 "RugReader" "taped" "I" false = true := by decide +kernel
theorem ck_1_1_2 : cchk 1 1 2 "RugReader" "fault" "I" false = true := by decide +kernel
theorem ck_1_1_3 : cchk 1 1 3 "RugReader" "house" "LRugReader$House;" true = true := by decide +kernel
theorem ck_1_1_4 : cchk 1 1 4 "RugReader" "now" "LRugReader$Rug;" true = true := by decide +kernel
theorem ck_1_1_5 : cchk 1 1 5 "RugReader" "sentence" "LRugReader$Cond;" true = true := by decide +kernel
theorem ck_1_1_6 : cchk 1 1 6 "RugReader" "before" "[LRugReader$Rug;" true = true := by decide +kernel
theorem ck_1_1_7 : cchk 1 1 7 "RugReader" "befores" "I" false = true := by decide +kernel
theorem ck_1_1_8 : cchk 1 1 8 "RugReader" "toldTuft" "[I" true = true := by decide +kernel
theorem ck_1_1_9 : cchk 1 1 9 "RugReader" "toldDepth" "[I" true = true := by decide +kernel
theorem ck_1_1_10 : cchk 1 1 10 "RugReader" "toldSole" "[I" true = true := by decide +kernel
theorem ck_1_1_11 : cchk 1 1 11 "RugReader" "walker" "[I" true = true := by decide +kernel
theorem ck_1_1_12 : cchk 1 1 12 "RugReader" "firstWalker" "[I" true = true := by decide +kernel
theorem ck_1_1_13 : cchk 1 1 13 "RugReader" "sureWalker" "[I" true = true := by decide +kernel
theorem ck_1_1_14 : cchk 1 1 14 "RugReader" "over" "[[I" true = true := by decide +kernel
theorem ck_1_1_15 : cchk 1 1 15 "RugReader" "toldMany" "I" false = true := by decide +kernel
theorem ck_1_1_16 : cchk 1 1 16 "RugReader" "fewestMany" "I" false = true := by decide +kernel
theorem ck_1_1_17 : cchk 1 1 17 "RugReader" "readWays" "I" false = true := by decide +kernel
theorem ck_1_1_18 : cchk 1 1 18 "RugReader" "found" "I" false = true := by decide +kernel
theorem ck_1_1_19 : cchk 1 1 19 "RugReader" "cost" "[I" true = true := by decide +kernel
theorem ck_1_1_20 : cchk 1 1 20 "RugReader" "done" "[Z" true = true := by decide +kernel
theorem ck_1_1_21 : cchk 1 1 21 "RugReader" "walked" "[I" true = true := by decide +kernel
theorem ck_1_1_22 : cchk 1 1 22 "RugReader" "cut" "[Z" true = true := by decide +kernel
theorem ck_1_1_23 : cchk 1 1 23 "RugReader" "through" "[Z" true = true := by decide +kernel
theorem ck_1_1_24 : cchk 1 1 24 "RugReader" "flows" "[[Z" true = true := by decide +kernel
theorem ck_1_1_25 : cchk 1 1 25 "RugReader" "behind" "[I" true = true := by decide +kernel
theorem ck_1_1_26 : cchk 1 1 26 "RugReader" "queue" "[I" true = true := by decide +kernel
theorem ck_1_1_27 : cchk 1 1 27 "RugReader" "queued" "I" false = true := by decide +kernel
theorem ck_1_1_28 : cchk 1 1 28 "RugReader" "laid" "[I" true = true := by decide +kernel
theorem ck_1_1_29 : cchk 1 1 29 "RugReader" "laidMany" "I" false = true := by decide +kernel
theorem ck_1_1_30 : cchk 1 1 30 "RugReader" "seed" "I" false = true := by decide +kernel
theorem ck_1_1_31 : cchk 1 1 31 "RugReader" "kept" "[LRugReader$Kept;" true = true := by decide +kernel
theorem ck_2_2_0 : cchk 2 2 0 "RugReader$House" "wide" "I" false = true := by decide +kernel
theorem ck_2_2_1 : cchk 2 2 1 "RugReader$House" "high" "I" false = true := by decide +kernel
theorem ck_2_2_2 : cchk 2 2 2 "RugReader$House" "fade" "I" false = true := by decide +kernel
theorem ck_2_2_3 : cchk 2 2 3 "RugReader$House" "lines" "I" false = true := by decide +kernel
theorem ck_2_2_4 : cchk 2 2 4 "RugReader$House" "walls" "I" false = true := by decide +kernel
theorem ck_2_2_5 : cchk 2 2 5 "RugReader$House" "people" "Ljava/util/ArrayList;" true = true := by decide +kernel
theorem ck_2_2_6 : cchk 2 2 6 "RugReader$House" "ways" "Ljava/util/ArrayList;" true = true := by decide +kernel
theorem ck_2_2_7 : cchk 2 2 7 "RugReader$House" "doors" "Ljava/util/ArrayList;" true = true := by decide +kernel
theorem ck_2_2_8 : cchk 2 2 8 "RugReader$House" "wall" "[Z" true = true := by decide +kernel
theorem ck_2_2_9 : cchk 2 2 9 "RugReader$House" "door" "[Z" true = true := by decide +kernel
theorem ck_3_3_0 : cchk 3 3 0 "RugReader$Rug" "h" "LRugReader$House;" true = true := by decide +kernel
theorem ck_3_3_1 : cchk 3 3 1 "RugReader$Rug" "day" "I" false = true := by decide +kernel
theorem ck_3_3_2 : cchk 3 3 2 "RugReader$Rug" "treads" "[[[I" true = true := by decide +kernel
theorem ck_3_3_3 : cchk 3 3 3 "RugReader$Rug" "would" "[[[I" true = true := by decide +kernel
theorem ck_3_3_4 : cchk 3 3 4 "RugReader$Rug" "who" "[I" true = true := by decide +kernel
theorem ck_3_3_5 : cchk 3 3 5 "RugReader$Rug" "sole" "[I" true = true := by decide +kernel
theorem ck_3_3_6 : cchk 3 3 6 "RugReader$Rug" "dir" "[I" true = true := by decide +kernel
theorem ck_3_3_7 : cchk 3 3 7 "RugReader$Rug" "old" "[I" true = true := by decide +kernel
theorem ck_3_3_8 : cchk 3 3 8 "RugReader$Rug" "walks" "[I" true = true := by decide +kernel
theorem ck_4_4_0 : cchk 4 4 0 "RugReader$Kept" "house" "LRugReader$House;" true = true := by decide +kernel
theorem ck_4_4_1 : cchk 4 4 1 "RugReader$Kept" "sentence" "LRugReader$Cond;" true = true := by decide +kernel
theorem ck_4_4_2 : cchk 4 4 2 "RugReader$Kept" "rug" "LRugReader$Rug;" true = true := by decide +kernel
theorem ck_5_5_4 : cchk 5 5 4 "RugReader$Reader" "kind" "I" false = true := by decide +kernel
theorem ck_5_5_8 : cchk 5 5 8 "RugReader$Reader" "word" "Ljava/lang/String;" true = true := by decide +kernel
theorem ck_5_5_9 : cchk 5 5 9 "RugReader$HouseReader" "h" "LRugReader$House;" true = true := by decide +kernel
theorem ck_5_5_10 : cchk 5 5 10 "RugReader$HouseReader" "onces" "I" false = true := by decide +kernel
theorem ck_5_7_0 : cchk 5 7 0 "RugReader$Reader" "tape" "[B" true = true := by decide +kernel
theorem ck_5_7_1 : cchk 5 7 1 "RugReader$Reader" "size" "I" false = true := by decide +kernel
theorem ck_5_7_2 : cchk 5 7 2 "RugReader$Reader" "limit" "I" false = true := by decide +kernel
theorem ck_5_7_3 : cchk 5 7 3 "RugReader$Reader" "to" "I" false = true := by decide +kernel
theorem ck_5_7_4 : cchk 5 7 4 "RugReader$Reader" "kind" "I" false = true := by decide +kernel
theorem ck_5_7_5 : cchk 5 7 5 "RugReader$Reader" "from" "I" false = true := by decide +kernel
theorem ck_5_7_6 : cchk 5 7 6 "RugReader$Reader" "number" "I" false = true := by decide +kernel
theorem ck_5_7_7 : cchk 5 7 7 "RugReader$Reader" "sign" "I" false = true := by decide +kernel
theorem ck_5_7_8 : cchk 5 7 8 "RugReader$Reader" "word" "Ljava/lang/String;" true = true := by decide +kernel
theorem ck_6_6_4 : cchk 6 6 4 "RugReader$Reader" "kind" "I" false = true := by decide +kernel
theorem ck_6_6_9 : cchk 6 6 9 "RugReader$WalkReader" "h" "LRugReader$House;" true = true := by decide +kernel
theorem ck_6_6_10 : cchk 6 6 10 "RugReader$WalkReader" "why" "I" false = true := by decide +kernel
theorem ck_6_6_11 : cchk 6 6 11 "RugReader$WalkReader" "wrong" "I" false = true := by decide +kernel
theorem ck_6_6_12 : cchk 6 6 12 "RugReader$WalkReader" "lines" "I" false = true := by decide +kernel
theorem ck_6_6_13 : cchk 6 6 13 "RugReader$WalkReader" "tuft" "I" false = true := by decide +kernel
theorem ck_6_6_14 : cchk 6 6 14 "RugReader$WalkReader" "tufts" "I" false = true := by decide +kernel
theorem ck_6_6_15 : cchk 6 6 15 "RugReader$WalkReader" "minutes" "I" false = true := by decide +kernel
theorem ck_6_6_16 : cchk 6 6 16 "RugReader$WalkReader" "came" "I" false = true := by decide +kernel
theorem ck_7_7_4 : cchk 7 7 4 "RugReader$Reader" "kind" "I" false = true := by decide +kernel
theorem ck_7_7_7 : cchk 7 7 7 "RugReader$Reader" "sign" "I" false = true := by decide +kernel
theorem ck_7_7_9 : cchk 7 7 9 "RugReader$SentenceReader" "h" "LRugReader$House;" true = true := by decide +kernel
theorem ck_7_7_10 : cchk 7 7 10 "RugReader$SentenceReader" "ones" "I" false = true := by decide +kernel
theorem ck_7_7_11 : cchk 7 7 11 "RugReader$SentenceReader" "within" "I" false = true := by decide +kernel
theorem ck_8_8_0 : cchk 8 8 0 "RugReader$Fault" "kind" "I" false = true := by decide +kernel
theorem ck_8_8_1 : cchk 8 8 1 "RugReader$Fault" "place" "I" false = true := by decide +kernel
theorem ck_9_9_1 : cchk 9 9 1 "RugReader$Person" "weight" "I" false = true := by decide +kernel
theorem ck_9_9_2 : cchk 9 9 2 "RugReader$Person" "sole" "I" false = true := by decide +kernel
theorem ck_9_9_3 : cchk 9 9 3 "RugReader$Person" "pace" "I" false = true := by decide +kernel
theorem ck_9_10_0 : cchk 9 10 0 "RugReader$Named" "name" "Ljava/lang/String;" true = true := by decide +kernel
theorem ck_10_10_1 : cchk 10 10 1 "RugReader$Way" "tuft" "[I" true = true := by decide +kernel
theorem ck_10_10_2 : cchk 10 10 2 "RugReader$Way" "dir" "[I" true = true := by decide +kernel
theorem ck_10_10_3 : cchk 10 10 3 "RugReader$Way" "steps" "I" false = true := by decide +kernel
theorem ck_11_11_0 : cchk 11 11 0 "RugReader$Not" "c" "LRugReader$Cond;" true = true := by decide +kernel
theorem ck_12_12_0 : cchk 12 12 0 "RugReader$Trod" "way" "I" false = true := by decide +kernel
theorem ck_13_13_0 : cchk 13 13 0 "RugReader$Than" "what" "I" false = true := by decide +kernel
theorem ck_13_13_1 : cchk 13 13 1 "RugReader$Than" "sign" "I" false = true := by decide +kernel
theorem ck_13_13_2 : cchk 13 13 2 "RugReader$Than" "number" "I" false = true := by decide +kernel
theorem ck_14_14_0 : cchk 14 14 0 "RugReader$Two" "a" "LRugReader$Cond;" true = true := by decide +kernel
theorem ck_14_14_1 : cchk 14 14 1 "RugReader$Two" "b" "LRugReader$Cond;" true = true := by decide +kernel
theorem ck_14_14_2 : cchk 14 14 2 "RugReader$Two" "both" "Z" false = true := by decide +kernel
theorem ck_15_15_0 : cchk 15 15 0 "java/util/AbstractList" "modCount" "I" false = true := by decide +kernel
theorem ck_15_15_1 : cchk 15 15 1 "java/util/ArrayList" "elementData" "[Ljava/lang/Object;" true = true := by decide +kernel
theorem ck_15_15_2 : cchk 15 15 2 "java/util/ArrayList" "size" "I" false = true := by decide +kernel
theorem ck_16_16_0 : cchk 16 16 0 "java/lang/AbstractStringBuilder" "value" "[B" true = true := by decide +kernel
theorem ck_16_16_1 : cchk 16 16 1 "java/lang/AbstractStringBuilder" "coder" "B" false = true := by decide +kernel
theorem ck_16_16_2 : cchk 16 16 2 "java/lang/AbstractStringBuilder" "maybeLatin1" "Z" false = true := by decide +kernel
theorem ck_16_16_3 : cchk 16 16 3 "java/lang/AbstractStringBuilder" "count" "I" false = true := by decide +kernel
theorem ck_17_17_0 : cchk 17 17 0 "java/lang/String" "value" "[B" true = true := by decide +kernel
theorem ck_17_17_1 : cchk 17 17 1 "java/lang/String" "coder" "B" false = true := by decide +kernel
theorem ck_18_18_0 : cchk 18 18 0 "java/lang/Integer" "value" "I" false = true := by decide +kernel
theorem cw_1_1_0 : cchw 1 1 0 (.array (.byte)) true = true := by decide +kernel
theorem cw_1_1_1 : cchw 1 1 1 (.int) false = true := by decide +kernel
theorem cw_1_1_2 : cchw 1 1 2 (.int) false = true := by decide +kernel
theorem cw_1_1_3 : cchw 1 1 3 (.object "RugReader$House") false = true := by decide +kernel
theorem cw_1_1_4 : cchw 1 1 4 (.object "RugReader$Rug") true = true := by decide +kernel
theorem cw_1_1_5 : cchw 1 1 5 (.object "RugReader$Cond") false = true := by decide +kernel
theorem cw_1_1_6 : cchw 1 1 6 (.array (.object "RugReader$Rug")) true = true := by decide +kernel
theorem cw_1_1_7 : cchw 1 1 7 (.int) false = true := by decide +kernel
theorem cw_1_1_8 : cchw 1 1 8 (.array (.int)) true = true := by decide +kernel
theorem cw_1_1_9 : cchw 1 1 9 (.array (.int)) true = true := by decide +kernel
theorem cw_1_1_10 : cchw 1 1 10 (.array (.int)) true = true := by decide +kernel
theorem cw_1_1_11 : cchw 1 1 11 (.array (.int)) true = true := by decide +kernel
theorem cw_1_1_12 : cchw 1 1 12 (.array (.int)) true = true := by decide +kernel
theorem cw_1_1_13 : cchw 1 1 13 (.array (.int)) true = true := by decide +kernel
theorem cw_1_1_14 : cchw 1 1 14 (.array (.array (.int))) true = true := by decide +kernel
theorem cw_1_1_15 : cchw 1 1 15 (.int) false = true := by decide +kernel
theorem cw_1_1_16 : cchw 1 1 16 (.int) false = true := by decide +kernel
theorem cw_1_1_17 : cchw 1 1 17 (.int) false = true := by decide +kernel
theorem cw_1_1_18 : cchw 1 1 18 (.int) false = true := by decide +kernel
theorem cw_1_1_19 : cchw 1 1 19 (.array (.int)) true = true := by decide +kernel
theorem cw_1_1_20 : cchw 1 1 20 (.array (.boolean)) true = true := by decide +kernel
theorem cw_1_1_21 : cchw 1 1 21 (.array (.int)) true = true := by decide +kernel
theorem cw_1_1_22 : cchw 1 1 22 (.array (.boolean)) true = true := by decide +kernel
theorem cw_1_1_23 : cchw 1 1 23 (.array (.boolean)) true = true := by decide +kernel
theorem cw_1_1_24 : cchw 1 1 24 (.array (.array (.boolean))) true = true := by decide +kernel
theorem cw_1_1_25 : cchw 1 1 25 (.array (.int)) true = true := by decide +kernel
theorem cw_1_1_26 : cchw 1 1 26 (.array (.int)) true = true := by decide +kernel
theorem cw_1_1_27 : cchw 1 1 27 (.int) false = true := by decide +kernel
theorem cw_1_1_28 : cchw 1 1 28 (.array (.int)) true = true := by decide +kernel
theorem cw_1_1_29 : cchw 1 1 29 (.int) false = true := by decide +kernel
theorem cw_1_1_30 : cchw 1 1 30 (.int) false = true := by decide +kernel
theorem cw_1_1_31 : cchw 1 1 31 (.array (.object "RugReader$Kept")) true = true := by decide +kernel
theorem cw_2_2_0 : cchw 2 2 0 (.int) false = true := by decide +kernel
theorem cw_2_2_1 : cchw 2 2 1 (.int) false = true := by decide +kernel
theorem cw_2_2_2 : cchw 2 2 2 (.int) false = true := by decide +kernel
theorem cw_2_2_3 : cchw 2 2 3 (.int) false = true := by decide +kernel
theorem cw_2_2_4 : cchw 2 2 4 (.int) false = true := by decide +kernel
theorem cw_2_2_5 : cchw 2 2 5 (.object "java/util/ArrayList") true = true := by decide +kernel
theorem cw_2_2_6 : cchw 2 2 6 (.object "java/util/ArrayList") true = true := by decide +kernel
theorem cw_2_2_7 : cchw 2 2 7 (.object "java/util/ArrayList") true = true := by decide +kernel
theorem cw_2_2_8 : cchw 2 2 8 (.array (.boolean)) true = true := by decide +kernel
theorem cw_2_2_9 : cchw 2 2 9 (.array (.boolean)) true = true := by decide +kernel
theorem cw_3_3_0 : cchw 3 3 0 (.object "RugReader$House") false = true := by decide +kernel
theorem cw_3_3_1 : cchw 3 3 1 (.int) false = true := by decide +kernel
theorem cw_3_3_2 : cchw 3 3 2 (.array (.array (.array (.int)))) true = true := by decide +kernel
theorem cw_3_3_3 : cchw 3 3 3 (.array (.array (.array (.int)))) true = true := by decide +kernel
theorem cw_3_3_4 : cchw 3 3 4 (.array (.int)) true = true := by decide +kernel
theorem cw_3_3_5 : cchw 3 3 5 (.array (.int)) true = true := by decide +kernel
theorem cw_3_3_6 : cchw 3 3 6 (.array (.int)) true = true := by decide +kernel
theorem cw_3_3_7 : cchw 3 3 7 (.array (.int)) true = true := by decide +kernel
theorem cw_3_3_8 : cchw 3 3 8 (.array (.int)) true = true := by decide +kernel
theorem cw_4_4_0 : cchw 4 4 0 (.object "RugReader$House") false = true := by decide +kernel
theorem cw_4_4_1 : cchw 4 4 1 (.object "RugReader$Cond") false = true := by decide +kernel
theorem cw_4_4_2 : cchw 4 4 2 (.object "RugReader$Rug") true = true := by decide +kernel
theorem cw_5_5_9 : cchw 5 5 9 (.object "RugReader$House") true = true := by decide +kernel
theorem cw_5_5_10 : cchw 5 5 10 (.int) false = true := by decide +kernel
theorem cw_5_7_0 : cchw 5 7 0 (.array (.byte)) true = true := by decide +kernel
theorem cw_5_7_1 : cchw 5 7 1 (.int) true = true := by decide +kernel
theorem cw_5_7_2 : cchw 5 7 2 (.int) true = true := by decide +kernel
theorem cw_5_7_3 : cchw 5 7 3 (.int) false = true := by decide +kernel
theorem cw_5_7_4 : cchw 5 7 4 (.int) false = true := by decide +kernel
theorem cw_5_7_5 : cchw 5 7 5 (.int) false = true := by decide +kernel
theorem cw_5_7_6 : cchw 5 7 6 (.int) false = true := by decide +kernel
theorem cw_5_7_7 : cchw 5 7 7 (.int) false = true := by decide +kernel
theorem cw_5_7_8 : cchw 5 7 8 (.object "java/lang/String") false = true := by decide +kernel
theorem cw_6_6_9 : cchw 6 6 9 (.object "RugReader$House") true = true := by decide +kernel
theorem cw_6_6_10 : cchw 6 6 10 (.int) false = true := by decide +kernel
theorem cw_6_6_11 : cchw 6 6 11 (.int) false = true := by decide +kernel
theorem cw_6_6_12 : cchw 6 6 12 (.int) false = true := by decide +kernel
theorem cw_6_6_13 : cchw 6 6 13 (.int) false = true := by decide +kernel
theorem cw_6_6_14 : cchw 6 6 14 (.int) false = true := by decide +kernel
theorem cw_6_6_15 : cchw 6 6 15 (.int) false = true := by decide +kernel
theorem cw_6_6_16 : cchw 6 6 16 (.int) false = true := by decide +kernel
theorem cw_7_7_9 : cchw 7 7 9 (.object "RugReader$House") true = true := by decide +kernel
theorem cw_7_7_10 : cchw 7 7 10 (.int) false = true := by decide +kernel
theorem cw_7_7_11 : cchw 7 7 11 (.int) false = true := by decide +kernel
theorem cw_9_9_1 : cchw 9 9 1 (.int) true = true := by decide +kernel
theorem cw_9_9_2 : cchw 9 9 2 (.int) true = true := by decide +kernel
theorem cw_9_9_3 : cchw 9 9 3 (.int) true = true := by decide +kernel
theorem cw_9_10_0 : cchw 9 10 0 (.object "java/lang/String") true = true := by decide +kernel
theorem cw_10_10_1 : cchw 10 10 1 (.array (.int)) true = true := by decide +kernel
theorem cw_10_10_2 : cchw 10 10 2 (.array (.int)) true = true := by decide +kernel
theorem cw_10_10_3 : cchw 10 10 3 (.int) false = true := by decide +kernel
theorem cw_11_11_0 : cchw 11 11 0 (.object "RugReader$Cond") true = true := by decide +kernel
theorem cw_12_12_0 : cchw 12 12 0 (.int) true = true := by decide +kernel
theorem cw_13_13_0 : cchw 13 13 0 (.int) true = true := by decide +kernel
theorem cw_13_13_1 : cchw 13 13 1 (.int) true = true := by decide +kernel
theorem cw_13_13_2 : cchw 13 13 2 (.int) true = true := by decide +kernel
theorem cw_14_14_0 : cchw 14 14 0 (.object "RugReader$Cond") true = true := by decide +kernel
theorem cw_14_14_1 : cchw 14 14 1 (.object "RugReader$Cond") true = true := by decide +kernel
theorem cw_14_14_2 : cchw 14 14 2 (.boolean) true = true := by decide +kernel
theorem cw_15_15_0 : cchw 15 15 0 (.int) false = true := by decide +kernel
theorem cw_15_15_1 : cchw 15 15 1 (.array (.object "java/lang/Object")) false = true := by decide +kernel
theorem cw_15_15_2 : cchw 15 15 2 (.int) false = true := by decide +kernel
theorem cw_16_16_0 : cchw 16 16 0 (.array (.byte)) false = true := by decide +kernel
theorem cw_16_16_1 : cchw 16 16 1 (.byte) false = true := by decide +kernel
theorem cw_16_16_3 : cchw 16 16 3 (.int) false = true := by decide +kernel
theorem cw_17_17_0 : cchw 17 17 0 (.array (.byte)) true = true := by decide +kernel
theorem cw_17_17_1 : cchw 17 17 1 (.byte) true = true := by decide +kernel
theorem cw_18_18_0 : cchw 18 18 0 (.int) true = true := by decide +kernel
