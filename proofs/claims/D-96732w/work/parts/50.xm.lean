set_option maxRecDepth 100000
/-! words of the calls -/
theorem hG_x_in : GoodIn lw_all (va_wsS "NineKeysRound" 89 yX0_in (ws_ yX0_in cX0_in 3 (some .boolean))) := lw_S q345 q346 q113 q347
theorem hy_x_in : yX0_in.cls ≠ "java/lang/invoke/MethodHandle" ∧ yX0_in.cls ≠ "java/lang/invoke/VarHandle" ∧ (parseMethodDescriptor yX0_in.desc).map (fun d => d.parameters.length) = some 3 := ⟨by decide, by decide, by decide +kernel⟩
theorem hG_x_isCell : GoodIn lw_all (va_wsS "NineKeysRound" 113 yX0_isCell (ws_ yX0_isCell cX0_isCell 1 (some .boolean))) := lw_S q342 q343 q113 q344
theorem hy_x_isCell : yX0_isCell.cls ≠ "java/lang/invoke/MethodHandle" ∧ yX0_isCell.cls ≠ "java/lang/invoke/VarHandle" ∧ (parseMethodDescriptor yX0_isCell.desc).map (fun d => d.parameters.length) = some 1 := ⟨by decide, by decide, by decide +kernel⟩
theorem hG_x_isShelf : GoodIn lw_all (va_wsS "NineKeysRound" 121 yX0_isShelf (ws_ yX0_isShelf cX0_isShelf 1 (some .boolean))) := lw_S q509 q510 q113 q511
theorem hy_x_isShelf : yX0_isShelf.cls ≠ "java/lang/invoke/MethodHandle" ∧ yX0_isShelf.cls ≠ "java/lang/invoke/VarHandle" ∧ (parseMethodDescriptor yX0_isShelf.desc).map (fun d => d.parameters.length) = some 1 := ⟨by decide, by decide, by decide +kernel⟩
theorem hG_x_setTo : GoodIn lw_all (wsV "NineKeysRound" 157 yX0_setTo.cls yX0_setTo (ws_ yX0_setTo cX0_setTo 4 none)) := lw_V q521 q523 qs3 q113 q524
theorem hy_x_setTo : yX0_setTo.cls ≠ "java/lang/invoke/MethodHandle" ∧ yX0_setTo.cls ≠ "java/lang/invoke/VarHandle" ∧ (parseMethodDescriptor yX0_setTo.desc).map (fun d => d.parameters.length) = some 3 := ⟨by decide, by decide, by decide +kernel⟩
theorem hG_x_isPost : GoodIn lw_all (wsV "NineKeysRound" 172 yX0_isPost.cls yX0_isPost (ws_ yX0_isPost cX0_isPost 2 (some .boolean))) := lw_V q537 q539 qs5 q113 q540
theorem hy_x_isPost : yX0_isPost.cls ≠ "java/lang/invoke/MethodHandle" ∧ yX0_isPost.cls ≠ "java/lang/invoke/VarHandle" ∧ (parseMethodDescriptor yX0_isPost.desc).map (fun d => d.parameters.length) = some 1 := ⟨by decide, by decide, by decide +kernel⟩
theorem hG_x_isOf : GoodIn lw_all (wsV "NineKeysRound" 175 yX0_isOf.cls yX0_isOf (ws_ yX0_isOf cX0_isOf 3 (some .boolean))) := lw_V q533 q535 qs4 q113 q536
theorem hy_x_isOf : yX0_isOf.cls ≠ "java/lang/invoke/MethodHandle" ∧ yX0_isOf.cls ≠ "java/lang/invoke/VarHandle" ∧ (parseMethodDescriptor yX0_isOf.desc).map (fun d => d.parameters.length) = some 2 := ⟨by decide, by decide, by decide +kernel⟩
theorem hG_x_mayBe : GoodIn lw_all (va_wsS "NineKeysRound" 179 yX0_mayBe (ws_ yX0_mayBe cX0_mayBe 2 (some .boolean))) := lw_S q541 q542 q113 q543
theorem hy_x_mayBe : yX0_mayBe.cls ≠ "java/lang/invoke/MethodHandle" ∧ yX0_mayBe.cls ≠ "java/lang/invoke/VarHandle" ∧ (parseMethodDescriptor yX0_mayBe.desc).map (fun d => d.parameters.length) = some 2 := ⟨by decide, by decide, by decide +kernel⟩
theorem hG_x_valueOf : GoodIn lw_all (wsV "NineKeysRound" 182 yX0_valueOf.cls yX0_valueOf (ws_ yX0_valueOf cX0_valueOf 3 (some .int))) := lw_V q544 q546 qs6 q113 q547
theorem hy_x_valueOf : yX0_valueOf.cls ≠ "java/lang/invoke/MethodHandle" ∧ yX0_valueOf.cls ≠ "java/lang/invoke/VarHandle" ∧ (parseMethodDescriptor yX0_valueOf.desc).map (fun d => d.parameters.length) = some 2 := ⟨by decide, by decide, by decide +kernel⟩
theorem hG_x_layRound : GoodIn lw_all (wsV "NineKeysRound" 249 yX0_layRound.cls yX0_layRound (wsW_ yX0_layRound cX0_layRound 5 (some .int) [((5 : Nat), (49 : Nat), (77 : Nat), (133 : Nat)), ((50 : Nat), (74 : Nat), (77 : Nat), (133 : Nat)), ((5 : Nat), (49 : Nat), (81 : Nat), (135 : Nat)), ((50 : Nat), (74 : Nat), (81 : Nat), (135 : Nat))])) := lw_VW q831 q833 qs20 q113 q834
theorem hy_x_layRound : yX0_layRound.cls ≠ "java/lang/invoke/MethodHandle" ∧ yX0_layRound.cls ≠ "java/lang/invoke/VarHandle" ∧ (parseMethodDescriptor yX0_layRound.desc).map (fun d => d.parameters.length) = some 1 := ⟨by decide, by decide, by decide +kernel⟩
theorem hG_x_between : GoodIn lw_all (wsV "NineKeysRound" 246 yX0_between.cls yX0_between (ws_ yX0_between cX0_between 3 (some .int))) := lw_V q847 q849 qs23 q113 q850
theorem hy_x_between : yX0_between.cls ≠ "java/lang/invoke/MethodHandle" ∧ yX0_between.cls ≠ "java/lang/invoke/VarHandle" ∧ (parseMethodDescriptor yX0_between.desc).map (fun d => d.parameters.length) = some 2 := ⟨by decide, by decide, by decide +kernel⟩
theorem hG_x_goesTo : GoodIn lw_all (wsV "NineKeysRound" 238 yX0_goesTo.cls yX0_goesTo (ws_ yX0_goesTo cX0_goesTo 3 (some .int))) := lw_V q843 q845 qs22 q113 q846
theorem hy_x_goesTo : yX0_goesTo.cls ≠ "java/lang/invoke/MethodHandle" ∧ yX0_goesTo.cls ≠ "java/lang/invoke/VarHandle" ∧ (parseMethodDescriptor yX0_goesTo.desc).map (fun d => d.parameters.length) = some 2 := ⟨by decide, by decide, by decide +kernel⟩
theorem hG_x_roundLong : GoodIn lw_all (wsV "NineKeysRound" 256 yX0_roundLong.cls yX0_roundLong (ws_ yX0_roundLong cX0_roundLong 3 (some .int))) := lw_V q839 q841 qs21 q113 q842
theorem hy_x_roundLong : yX0_roundLong.cls ≠ "java/lang/invoke/MethodHandle" ∧ yX0_roundLong.cls ≠ "java/lang/invoke/VarHandle" ∧ (parseMethodDescriptor yX0_roundLong.desc).map (fun d => d.parameters.length) = some 0 := ⟨by decide, by decide, by decide +kernel⟩
theorem hG_x_firstOf : GoodIn lw_all (wsV "NineKeysRound" 262 yX0_firstOf.cls yX0_firstOf (ws_ yX0_firstOf cX0_firstOf 3 (some .int))) := lw_V q879 q881 qs27 q113 q882
theorem hy_x_firstOf : yX0_firstOf.cls ≠ "java/lang/invoke/MethodHandle" ∧ yX0_firstOf.cls ≠ "java/lang/invoke/VarHandle" ∧ (parseMethodDescriptor yX0_firstOf.desc).map (fun d => d.parameters.length) = some 1 := ⟨by decide, by decide, by decide +kernel⟩
theorem hG_x_fromGate : GoodIn lw_all (wsV "NineKeysRound" 242 yX0_fromGate.cls yX0_fromGate (ws_ yX0_fromGate cX0_fromGate 2 (some .int))) := lw_V q874 q876 qs26 q113 q877
theorem hy_x_fromGate : yX0_fromGate.cls ≠ "java/lang/invoke/MethodHandle" ∧ yX0_fromGate.cls ≠ "java/lang/invoke/VarHandle" ∧ (parseMethodDescriptor yX0_fromGate.desc).map (fun d => d.parameters.length) = some 1 := ⟨by decide, by decide, by decide +kernel⟩
theorem hG_x_layDents : GoodIn lw_all (wsV "NineKeysRound" 252 yX0_layDents.cls yX0_layDents (ws_ yX0_layDents cX0_layDents 3 none)) := lw_V q870 q872 qs25 q113 q873
theorem hy_x_layDents : yX0_layDents.cls ≠ "java/lang/invoke/MethodHandle" ∧ yX0_layDents.cls ≠ "java/lang/invoke/VarHandle" ∧ (parseMethodDescriptor yX0_layDents.desc).map (fun d => d.parameters.length) = some 1 := ⟨by decide, by decide, by decide +kernel⟩
theorem hG_x_layForth : GoodIn lw_all (wsV "NineKeysRound" 259 yX0_layForth.cls yX0_layForth (ws_ yX0_layForth cX0_layForth 3 (some .int))) := lw_V q866 q868 qs24 q113 q869
theorem hy_x_layForth : yX0_layForth.cls ≠ "java/lang/invoke/MethodHandle" ∧ yX0_layForth.cls ≠ "java/lang/invoke/VarHandle" ∧ (parseMethodDescriptor yX0_layForth.desc).map (fun d => d.parameters.length) = some 1 := ⟨by decide, by decide, by decide +kernel⟩
theorem hG_x_isMinute : GoodIn lw_all (va_wsS "NineKeysRound" 265 yX0_isMinute (ws_ yX0_isMinute cX0_isMinute 1 (some .boolean))) := lw_S q887 q888 q113 q889
theorem hy_x_isMinute : yX0_isMinute.cls ≠ "java/lang/invoke/MethodHandle" ∧ yX0_isMinute.cls ≠ "java/lang/invoke/VarHandle" ∧ (parseMethodDescriptor yX0_isMinute.desc).map (fun d => d.parameters.length) = some 1 := ⟨by decide, by decide, by decide +kernel⟩
theorem hG_x_isSeen : GoodIn lw_all (wsV "NineKeysRound" 276 yX0_isSeen.cls yX0_isSeen (ws_ yX0_isSeen cX0_isSeen 5 (some .boolean))) := lw_V q898 q900 qs29 q113 q901
theorem hy_x_isSeen : yX0_isSeen.cls ≠ "java/lang/invoke/MethodHandle" ∧ yX0_isSeen.cls ≠ "java/lang/invoke/VarHandle" ∧ (parseMethodDescriptor yX0_isSeen.desc).map (fun d => d.parameters.length) = some 2 := ⟨by decide, by decide, by decide +kernel⟩
theorem hG_x_unseenIn : GoodIn lw_all (wsV "NineKeysRound" 273 yX0_unseenIn.cls yX0_unseenIn (ws_ yX0_unseenIn cX0_unseenIn 5 (some .int))) := lw_V q894 q896 qs28 q113 q897
theorem hy_x_unseenIn : yX0_unseenIn.cls ≠ "java/lang/invoke/MethodHandle" ∧ yX0_unseenIn.cls ≠ "java/lang/invoke/VarHandle" ∧ (parseMethodDescriptor yX0_unseenIn.desc).map (fun d => d.parameters.length) = some 2 := ⟨by decide, by decide, by decide +kernel⟩
theorem hG_x_gives : GoodIn lw_all (wsV "NineKeysRound" 285 yX0_gives.cls yX0_gives (ws_ yX0_gives cX0_gives 2 (some .int))) := lw_V q919 q921 qs32 q113 q922
theorem hy_x_gives : yX0_gives.cls ≠ "java/lang/invoke/MethodHandle" ∧ yX0_gives.cls ≠ "java/lang/invoke/VarHandle" ∧ (parseMethodDescriptor yX0_gives.desc).map (fun d => d.parameters.length) = some 0 := ⟨by decide, by decide, by decide +kernel⟩
theorem hG_x_lostIn : GoodIn lw_all (wsV "NineKeysRound" 290 yX0_lostIn.cls yX0_lostIn (ws_ yX0_lostIn cX0_lostIn 6 (some .int))) := lw_V q911 q913 qs31 q113 q914
theorem hy_x_lostIn : yX0_lostIn.cls ≠ "java/lang/invoke/MethodHandle" ∧ yX0_lostIn.cls ≠ "java/lang/invoke/VarHandle" ∧ (parseMethodDescriptor yX0_lostIn.desc).map (fun d => d.parameters.length) = some 3 := ⟨by decide, by decide, by decide +kernel⟩
theorem hG_x_lostAt : GoodIn lw_all (wsV "NineKeysRound" 294 yX0_lostAt.cls yX0_lostAt (ws_ yX0_lostAt cX0_lostAt 10 (some .int))) := lw_V q907 q909 qs30 q113 q910
theorem hy_x_lostAt : yX0_lostAt.cls ≠ "java/lang/invoke/MethodHandle" ∧ yX0_lostAt.cls ≠ "java/lang/invoke/VarHandle" ∧ (parseMethodDescriptor yX0_lostAt.desc).map (fun d => d.parameters.length) = some 3 := ⟨by decide, by decide, by decide +kernel⟩
theorem hG_x_gapOf : GoodIn lw_all (wsV "NineKeysRound" 297 yX0_gapOf.cls yX0_gapOf (ws_ yX0_gapOf cX0_gapOf 6 (some .int))) := lw_V q960 q962 qs34 q113 q963
theorem hy_x_gapOf : yX0_gapOf.cls ≠ "java/lang/invoke/MethodHandle" ∧ yX0_gapOf.cls ≠ "java/lang/invoke/VarHandle" ∧ (parseMethodDescriptor yX0_gapOf.desc).map (fun d => d.parameters.length) = some 1 := ⟨by decide, by decide, by decide +kernel⟩
theorem hG_x_gapIn : GoodIn lw_all (wsV "NineKeysRound" 300 yX0_gapIn.cls yX0_gapIn (ws_ yX0_gapIn cX0_gapIn 2 (some .int))) := lw_V q956 q958 qs33 q113 q959
theorem hy_x_gapIn : yX0_gapIn.cls ≠ "java/lang/invoke/MethodHandle" ∧ yX0_gapIn.cls ≠ "java/lang/invoke/VarHandle" ∧ (parseMethodDescriptor yX0_gapIn.desc).map (fun d => d.parameters.length) = some 1 := ⟨by decide, by decide, by decide +kernel⟩
theorem hG_x_arePosts : GoodIn lw_all (wsV "NineKeysRound" 312 yX0_arePosts.cls yX0_arePosts (ws_ yX0_arePosts cX0_arePosts 2 (some .boolean))) := lw_V q972 q974 qs35 q113 q975
theorem hy_x_arePosts : yX0_arePosts.cls ≠ "java/lang/invoke/MethodHandle" ∧ yX0_arePosts.cls ≠ "java/lang/invoke/VarHandle" ∧ (parseMethodDescriptor yX0_arePosts.desc).map (fun d => d.parameters.length) = some 1 := ⟨by decide, by decide, by decide +kernel⟩
theorem hG_x_has : GoodIn lw_all (va_wsS "NineKeysRound" 306 yX0_has (ws_ yX0_has cX0_has 2 (some .boolean))) := lw_S q990 q991 q113 q992
theorem hy_x_has : yX0_has.cls ≠ "java/lang/invoke/MethodHandle" ∧ yX0_has.cls ≠ "java/lang/invoke/VarHandle" ∧ (parseMethodDescriptor yX0_has.desc).map (fun d => d.parameters.length) = some 2 := ⟨by decide, by decide, by decide +kernel⟩
theorem hG_x_goShortest : GoodIn lw_all (wsV "NineKeysRound" 309 yX0_goShortest.cls yX0_goShortest (ws_ yX0_goShortest cX0_goShortest 7 none)) := lw_V q986 q988 qs37 q113 q989
theorem hy_x_goShortest : yX0_goShortest.cls ≠ "java/lang/invoke/MethodHandle" ∧ yX0_goShortest.cls ≠ "java/lang/invoke/VarHandle" ∧ (parseMethodDescriptor yX0_goShortest.desc).map (fun d => d.parameters.length) = some 4 := ⟨by decide, by decide, by decide +kernel⟩
theorem hG_x_shortestOf : GoodIn lw_all (wsV "NineKeysRound" 320 yX0_shortestOf.cls yX0_shortestOf (ws_ yX0_shortestOf cX0_shortestOf 2 (some .int))) := lw_V q982 q984 qs36 q113 q985
theorem hy_x_shortestOf : yX0_shortestOf.cls ≠ "java/lang/invoke/MethodHandle" ∧ yX0_shortestOf.cls ≠ "java/lang/invoke/VarHandle" ∧ (parseMethodDescriptor yX0_shortestOf.desc).map (fun d => d.parameters.length) = some 1 := ⟨by decide, by decide, by decide +kernel⟩
theorem hG_x_areNeeded : GoodIn lw_all (va_wsS "NineKeysRound" 323 yX0_areNeeded (ws_ yX0_areNeeded cX0_areNeeded 1 (some .boolean))) := lw_S q1001 q1002 q113 q1003
theorem hy_x_areNeeded : yX0_areNeeded.cls ≠ "java/lang/invoke/MethodHandle" ∧ yX0_areNeeded.cls ≠ "java/lang/invoke/VarHandle" ∧ (parseMethodDescriptor yX0_areNeeded.desc).map (fun d => d.parameters.length) = some 1 := ⟨by decide, by decide, by decide +kernel⟩
theorem hG_x_timeFrom : GoodIn lw_all (wsV "NineKeysRound" 326 yX0_timeFrom.cls yX0_timeFrom (ws_ yX0_timeFrom cX0_timeFrom 8 (some .int))) := lw_V q1004 q1006 qs38 q113 q1007
theorem hy_x_timeFrom : yX0_timeFrom.cls ≠ "java/lang/invoke/MethodHandle" ∧ yX0_timeFrom.cls ≠ "java/lang/invoke/VarHandle" ∧ (parseMethodDescriptor yX0_timeFrom.desc).map (fun d => d.parameters.length) = some 4 := ⟨by decide, by decide, by decide +kernel⟩
theorem hG_x_layMine : GoodIn lw_all (wsV "NineKeysRound" 332 yX0_layMine.cls yX0_layMine (ws_ yX0_layMine cX0_layMine 3 none)) := lw_V q1024 q1026 qs41 q113 q1027
theorem hy_x_layMine : yX0_layMine.cls ≠ "java/lang/invoke/MethodHandle" ∧ yX0_layMine.cls ≠ "java/lang/invoke/VarHandle" ∧ (parseMethodDescriptor yX0_layMine.desc).map (fun d => d.parameters.length) = some 1 := ⟨by decide, by decide, by decide +kernel⟩
theorem hG_x_gapOfTwo : GoodIn lw_all (wsV "NineKeysRound" 336 yX0_gapOfTwo.cls yX0_gapOfTwo (ws_ yX0_gapOfTwo cX0_gapOfTwo 9 (some .int))) := lw_V q1020 q1022 qs40 q113 q1023
theorem hy_x_gapOfTwo : yX0_gapOfTwo.cls ≠ "java/lang/invoke/MethodHandle" ∧ yX0_gapOfTwo.cls ≠ "java/lang/invoke/VarHandle" ∧ (parseMethodDescriptor yX0_gapOfTwo.desc).map (fun d => d.parameters.length) = some 2 := ⟨by decide, by decide, by decide +kernel⟩
theorem hG_x_bestLater : GoodIn lw_all (wsV "NineKeysRound" 339 yX0_bestLater.cls yX0_bestLater (ws_ yX0_bestLater cX0_bestLater 6 (some .int))) := lw_V q1016 q1018 qs39 q113 q1019
theorem hy_x_bestLater : yX0_bestLater.cls ≠ "java/lang/invoke/MethodHandle" ∧ yX0_bestLater.cls ≠ "java/lang/invoke/VarHandle" ∧ (parseMethodDescriptor yX0_bestLater.desc).map (fun d => d.parameters.length) = some 0 := ⟨by decide, by decide, by decide +kernel⟩
theorem hG_x_arePn : GoodIn lw_all (va_wsS "NineKeysRound" 350 yX0_arePn (ws_ yX0_arePn cX0_arePn 1 (some .boolean))) := lw_S q1032 q1033 q113 q1034
theorem hy_x_arePn : yX0_arePn.cls ≠ "java/lang/invoke/MethodHandle" ∧ yX0_arePn.cls ≠ "java/lang/invoke/VarHandle" ∧ (parseMethodDescriptor yX0_arePn.desc).map (fun d => d.parameters.length) = some 1 := ⟨by decide, by decide, by decide +kernel⟩
theorem hG_x_laySeen : GoodIn lw_all (wsV "NineKeysRound" 342 yX0_laySeen.cls yX0_laySeen (ws_ yX0_laySeen cX0_laySeen 7 none)) := lw_V q1039 q1041 qs43 q113 q1042
theorem hy_x_laySeen : yX0_laySeen.cls ≠ "java/lang/invoke/MethodHandle" ∧ yX0_laySeen.cls ≠ "java/lang/invoke/VarHandle" ∧ (parseMethodDescriptor yX0_laySeen.desc).map (fun d => d.parameters.length) = some 3 := ⟨by decide, by decide, by decide +kernel⟩
theorem hG_x_laySeenBoth : GoodIn lw_all (wsV "NineKeysRound" 353 yX0_laySeenBoth.cls yX0_laySeenBoth (ws_ yX0_laySeenBoth cX0_laySeenBoth 4 (some .int))) := lw_V q1035 q1037 qs42 q113 q1038
theorem hy_x_laySeenBoth : yX0_laySeenBoth.cls ≠ "java/lang/invoke/MethodHandle" ∧ yX0_laySeenBoth.cls ≠ "java/lang/invoke/VarHandle" ∧ (parseMethodDescriptor yX0_laySeenBoth.desc).map (fun d => d.parameters.length) = some 2 := ⟨by decide, by decide, by decide +kernel⟩
theorem hG_x_isQuiet : GoodIn lw_all (va_wsS "NineKeysRound" 346 yX0_isQuiet (ws_ yX0_isQuiet cX0_isQuiet 4 (some .boolean))) := lw_S q1047 q1048 q113 q1049
theorem hy_x_isQuiet : yX0_isQuiet.cls ≠ "java/lang/invoke/MethodHandle" ∧ yX0_isQuiet.cls ≠ "java/lang/invoke/VarHandle" ∧ (parseMethodDescriptor yX0_isQuiet.desc).map (fun d => d.parameters.length) = some 3 := ⟨by decide, by decide, by decide +kernel⟩
theorem hG_x_successAt : GoodIn lw_all (wsV "NineKeysRound" 356 yX0_successAt.cls yX0_successAt (ws_ yX0_successAt cX0_successAt 4 (some .int))) := lw_V q1043 q1045 qs44 q113 q1046
theorem hy_x_successAt : yX0_successAt.cls ≠ "java/lang/invoke/MethodHandle" ∧ yX0_successAt.cls ≠ "java/lang/invoke/VarHandle" ∧ (parseMethodDescriptor yX0_successAt.desc).map (fun d => d.parameters.length) = some 3 := ⟨by decide, by decide, by decide +kernel⟩
theorem hG_x_bestTime : GoodIn lw_all (wsV "NineKeysRound" 359 yX0_bestTime.cls yX0_bestTime (ws_ yX0_bestTime cX0_bestTime 5 (some .int))) := lw_V q1054 q1056 qs45 q113 q1057
theorem hy_x_bestTime : yX0_bestTime.cls ≠ "java/lang/invoke/MethodHandle" ∧ yX0_bestTime.cls ≠ "java/lang/invoke/VarHandle" ∧ (parseMethodDescriptor yX0_bestTime.desc).map (fun d => d.parameters.length) = some 2 := ⟨by decide, by decide, by decide +kernel⟩
theorem hG_x_laterThan : GoodIn lw_all (wsV "NineKeysRound" 370 yX0_laterThan.cls yX0_laterThan (ws_ yX0_laterThan cX0_laterThan 2 (some .int))) := lw_V q1083 q1085 qs48 q113 q1086
theorem hy_x_laterThan : yX0_laterThan.cls ≠ "java/lang/invoke/MethodHandle" ∧ yX0_laterThan.cls ≠ "java/lang/invoke/VarHandle" ∧ (parseMethodDescriptor yX0_laterThan.desc).map (fun d => d.parameters.length) = some 1 := ⟨by decide, by decide, by decide +kernel⟩
theorem hG_x_forged : GoodIn lw_all (wsV "NineKeysRound" 379 yX0_forged.cls yX0_forged (ws_ yX0_forged cX0_forged 3 (some .int))) := lw_V q1088 q1090 qs49 q113 q1091
theorem hy_x_forged : yX0_forged.cls ≠ "java/lang/invoke/MethodHandle" ∧ yX0_forged.cls ≠ "java/lang/invoke/VarHandle" ∧ (parseMethodDescriptor yX0_forged.desc).map (fun d => d.parameters.length) = some 0 := ⟨by decide, by decide, by decide +kernel⟩
theorem hG_x_layPaper : GoodIn lw_all (wsV "NineKeysRound" 376 yX0_layPaper.cls yX0_layPaper (wsW_ yX0_layPaper cX0_layPaper 4 (some .int) [((5 : Nat), (53 : Nat), (56 : Nat), (133 : Nat)), ((5 : Nat), (53 : Nat), (60 : Nat), (135 : Nat))])) := lw_VW q1066 q1068 qs46 q113 q1069
theorem hy_x_layPaper : yX0_layPaper.cls ≠ "java/lang/invoke/MethodHandle" ∧ yX0_layPaper.cls ≠ "java/lang/invoke/VarHandle" ∧ (parseMethodDescriptor yX0_layPaper.desc).map (fun d => d.parameters.length) = some 1 := ⟨by decide, by decide, by decide +kernel⟩
theorem hG_x_wrongDent : GoodIn lw_all (wsV "NineKeysRound" 373 yX0_wrongDent.cls yX0_wrongDent (ws_ yX0_wrongDent cX0_wrongDent 2 (some .int))) := lw_V q1079 q1081 qs47 q113 q1082
theorem hy_x_wrongDent : yX0_wrongDent.cls ≠ "java/lang/invoke/MethodHandle" ∧ yX0_wrongDent.cls ≠ "java/lang/invoke/VarHandle" ∧ (parseMethodDescriptor yX0_wrongDent.desc).map (fun d => d.parameters.length) = some 0 := ⟨by decide, by decide, by decide +kernel⟩
theorem hG_x_slept : GoodIn lw_all (wsV "NineKeysRound" 382 yX0_slept.cls yX0_slept (ws_ yX0_slept cX0_slept 8 (some .int))) := lw_V q1092 q1094 qs50 q113 q1095
theorem hy_x_slept : yX0_slept.cls ≠ "java/lang/invoke/MethodHandle" ∧ yX0_slept.cls ≠ "java/lang/invoke/VarHandle" ∧ (parseMethodDescriptor yX0_slept.desc).map (fun d => d.parameters.length) = some 1 := ⟨by decide, by decide, by decide +kernel⟩
theorem hG_x_isPaper : GoodIn lw_all (wsV "NineKeysRound" 386 yX0_isPaper.cls yX0_isPaper (ws_ yX0_isPaper cX0_isPaper 2 (some .boolean))) := lw_V q1100 q1102 qs51 q113 q1103
theorem hy_x_isPaper : yX0_isPaper.cls ≠ "java/lang/invoke/MethodHandle" ∧ yX0_isPaper.cls ≠ "java/lang/invoke/VarHandle" ∧ (parseMethodDescriptor yX0_isPaper.desc).map (fun d => d.parameters.length) = some 0 := ⟨by decide, by decide, by decide +kernel⟩
theorem hG_x_goFits : GoodIn lw_all (wsV "NineKeysRound" 393 yX0_goFits.cls yX0_goFits (ws_ yX0_goFits cX0_goFits 4 none)) := lw_V q1108 q1110 qs52 q113 q1111
theorem hy_x_goFits : yX0_goFits.cls ≠ "java/lang/invoke/MethodHandle" ∧ yX0_goFits.cls ≠ "java/lang/invoke/VarHandle" ∧ (parseMethodDescriptor yX0_goFits.desc).map (fun d => d.parameters.length) = some 2 := ⟨by decide, by decide, by decide +kernel⟩
theorem hG_x_nearestPost : GoodIn lw_all (wsV "NineKeysRound" 399 yX0_nearestPost.cls yX0_nearestPost (ws_ yX0_nearestPost cX0_nearestPost 5 (some .int))) := lw_V q1117 q1119 qs53 q113 q1120
theorem hy_x_nearestPost : yX0_nearestPost.cls ≠ "java/lang/invoke/MethodHandle" ∧ yX0_nearestPost.cls ≠ "java/lang/invoke/VarHandle" ∧ (parseMethodDescriptor yX0_nearestPost.desc).map (fun d => d.parameters.length) = some 2 := ⟨by decide, by decide, by decide +kernel⟩
theorem hG_x_roundFrom : GoodIn lw_all (wsV "NineKeysRound" 406 yX0_roundFrom.cls yX0_roundFrom (ws_ yX0_roundFrom cX0_roundFrom 6 (some .int))) := lw_V q1126 q1128 qs54 q113 q1129
theorem hy_x_roundFrom : yX0_roundFrom.cls ≠ "java/lang/invoke/MethodHandle" ∧ yX0_roundFrom.cls ≠ "java/lang/invoke/VarHandle" ∧ (parseMethodDescriptor yX0_roundFrom.desc).map (fun d => d.parameters.length) = some 2 := ⟨by decide, by decide, by decide +kernel⟩
theorem hG_x_isBody : GoodIn lw_all (wsV "NineKeysRound" 483 yX0_isBody.cls yX0_isBody (ws_ yX0_isBody cX0_isBody 2 (some .boolean))) := lw_V q1271 q1273 qs56 q113 q1274
theorem hy_x_isBody : yX0_isBody.cls ≠ "java/lang/invoke/MethodHandle" ∧ yX0_isBody.cls ≠ "java/lang/invoke/VarHandle" ∧ (parseMethodDescriptor yX0_isBody.desc).map (fun d => d.parameters.length) = some 1 := ⟨by decide, by decide, by decide +kernel⟩
/-! in -/
def x_in (p1 : Int32) (p2 : Int32) (p3 : Int32) : Option Bool :=
  (if p1 < p2 then
  some false
  else
  (if p3 < p1 then
  some false
  else
  some true))
theorem mt_x_in {κ : jK} (hκ : jX κ) {w : jW} {p1 : Int32} {p2 : Int32} {p3 : Int32} {v : Bool} (h : x_in p1 p2 p3 = some v) : jM κ yX0_in (ws_ yX0_in cX0_in 3 (some .boolean)) 0 0 0 [.int p1, .int p2, .int p3] (w) (fun u w' => u = some (.int (b2i v)) ∧ w' = w) := by
  rw [x_in] at h
  refine jM.of (by decide) rfl (Nat.le_of_ble_eq_true rfl) fun Γ C _ => ?_
  show J κ Γ (0, 0, 0, (fun u w' => u = some (.int (b2i v)) ∧ w' = w)) 3 (w) 0 0 0 [some (.int p1), some (.int p2), some (.int p3)] []
  refine j_iload_n C dX0_in_0 rfl rfl ?_
  refine j_iload_n C dX0_in_1 rfl rfl ?_
  refine j_icmp_lt C dX0_in_2 (tgt := 14) (by decide) (fun c => ?_) (fun c => ?_)
  · replace h := ip c h
    refine j_iconst C (v := 0) dX0_in_14 rfl ?_
    obtain rfl := sp1 h
    exact j_zret C rfl dX0_in_15 (Nat.le_of_ble_eq_true rfl) (Nat.le_of_ble_eq_true rfl) ⟨rfl, rfl⟩
  replace h := im c h
  refine j_iload_n C dX0_in_5 rfl rfl ?_
  refine j_iload_n C dX0_in_6 rfl rfl ?_
  refine j_icmp_gt C dX0_in_7 (tgt := 14) (by decide) (fun c => ?_) (fun c => ?_)
  · replace h := ip c h
    refine j_iconst C (v := 0) dX0_in_14 rfl ?_
    obtain rfl := sp1 h
    exact j_zret C rfl dX0_in_15 (Nat.le_of_ble_eq_true rfl) (Nat.le_of_ble_eq_true rfl) ⟨rfl, rfl⟩
  replace h := im c h
  refine j_iconst C (v := 1) dX0_in_10 rfl ?_
  refine j_goto C dX0_in_11 (tgt := 15) (by decide) ?_
  obtain rfl := sp1 h
  exact j_zret C rfl dX0_in_15 (Nat.le_of_ble_eq_true rfl) (Nat.le_of_ble_eq_true rfl) ⟨rfl, rfl⟩
/-! isCell -/
def x_isCell (p1 : Int32) : Option Bool :=
  (x_in p1 0 15).bind fun v2 =>
  some v2
theorem mt_x_isCell {κ : jK} (hκ : jX κ) {w : jW} {p1 : Int32} {v : Bool} (h : x_isCell p1 = some v) : jM κ yX0_isCell (ws_ yX0_isCell cX0_isCell 1 (some .boolean)) 1 0 0 [.int p1] (w) (fun u w' => u = some (.int (b2i v)) ∧ w' = w) := by
  rw [x_isCell] at h
  refine jM.of (by decide) rfl (Nat.le_of_ble_eq_true rfl) fun Γ C _ => ?_
  show J κ Γ (1, 0, 0, (fun u w' => u = some (.int (b2i v)) ∧ w' = w)) 1 (w) 0 0 0 [some (.int p1)] []
  refine j_iload_n C dX0_isCell_0 rfl rfl ?_
  refine j_iconst C (v := 0) dX0_isCell_1 rfl ?_
  refine j_bipush C (v := 15) dX0_isCell_2 rfl ?_
  obtain ⟨v2, e1, h⟩ := ob h
  refine j_Si hκ.1.1 C (mt_x_in hκ e1) hG_x_in hy_x_in rfl dX0_isCell_4 (jfit.of (Nat.le_of_ble_eq_true rfl) (by decide) (Nat.le_of_ble_eq_true rfl) (Nat.le_of_ble_eq_true rfl) (Nat.le_of_ble_eq_true rfl)) rfl ?_
  obtain rfl := sp1 h
  exact j_zret C (b2i_z _) dX0_isCell_7 (Nat.le_of_ble_eq_true rfl) (Nat.le_of_ble_eq_true rfl) ⟨rfl, rfl⟩
/-! isShelf -/
def x_isShelf (p1 : Int32) : Option Bool :=
  (x_in p1 0 5).bind fun v2 =>
  some v2
theorem mt_x_isShelf {κ : jK} (hκ : jX κ) {w : jW} {p1 : Int32} {v : Bool} (h : x_isShelf p1 = some v) : jM κ yX0_isShelf (ws_ yX0_isShelf cX0_isShelf 1 (some .boolean)) 1 0 0 [.int p1] (w) (fun u w' => u = some (.int (b2i v)) ∧ w' = w) := by
  rw [x_isShelf] at h
  refine jM.of (by decide) rfl (Nat.le_of_ble_eq_true rfl) fun Γ C _ => ?_
  show J κ Γ (1, 0, 0, (fun u w' => u = some (.int (b2i v)) ∧ w' = w)) 1 (w) 0 0 0 [some (.int p1)] []
  refine j_iload_n C dX0_isShelf_0 rfl rfl ?_
  refine j_iconst C (v := 0) dX0_isShelf_1 rfl ?_
  refine j_iconst C (v := 5) dX0_isShelf_2 rfl ?_
  obtain ⟨v2, e1, h⟩ := ob h
  refine j_Si hκ.1.1 C (mt_x_in hκ e1) hG_x_in hy_x_in rfl dX0_isShelf_3 (jfit.of (Nat.le_of_ble_eq_true rfl) (by decide) (Nat.le_of_ble_eq_true rfl) (Nat.le_of_ble_eq_true rfl) (Nat.le_of_ble_eq_true rfl)) rfl ?_
  obtain rfl := sp1 h
  exact j_zret C (b2i_z _) dX0_isShelf_6 (Nat.le_of_ble_eq_true rfl) (Nat.le_of_ble_eq_true rfl) ⟨rfl, rfl⟩
/-! setTo -/
def x_setTo (T : XS) (p1 : Int32) (p2 : Int32) (p3 : Int32) : Option XS :=
  (if p1 = 0 then
  chk 9 p2 (
  (T.2.2.1 0 p2.toNatClampNeg).bind fun a2 =>
  (getO T a2 3).bind fun q4 =>
  nm (xO T a2 (oI q4 0 p3)) fun T6 =>
  some T6)
  else if p1 = 1 then
  chk 9 p2 (
  (T.2.2.1 0 p2.toNatClampNeg).bind fun a8 =>
  (getO T a8 3).bind fun q10 =>
  nm (xO T a8 (oI q10 1 p3)) fun T12 =>
  some T12)
  else if p1 = 2 then
  chk 9 p2 (
  (T.2.2.1 0 p2.toNatClampNeg).bind fun a14 =>
  (getO T a14 3).bind fun q16 =>
  nm (xO T a14 (oI q16 2 p3)) fun T18 =>
  some T18)
  else if p1 = 3 then
  chk 9 p2 (
  (T.2.2.1 0 p2.toNatClampNeg).bind fun a20 =>
  (getO T a20 3).bind fun q22 =>
  nm (xO T a20 (oI q22 3 p3)) fun T24 =>
  some T24)
  else if p1 = 4 then
  nm (xI T 2 p3) fun T25 =>
  some T25
  else if p1 = 5 then
  nm (xI T 3 p3) fun T26 =>
  some T26
  else if p1 = 6 then
  nm (xI T 4 p3) fun T27 =>
  some T27
  else 
  nm (xI T 5 p3) fun T28 =>
  some T28)
theorem mt_x_setTo {κ : jK} (hκ : jX κ) (G : Nat → Nat) {T : XS} {p1 : Int32} {p2 : Int32} {p3 : Int32} {T' : XS} (h : x_setTo T p1 p2 p3 = some T') : jM κ yX0_setTo (ws_ yX0_setTo cX0_setTo 4 none) 0 0 0 [.ref (G 0), .int p1, .int p2, .int p3] (wX κ G T) (fun u w' => u = none ∧ w' = wX κ G T') := by
  rw [x_setTo] at h
  refine jM.of (by decide) rfl (Nat.le_of_ble_eq_true rfl) fun Γ C _ => ?_
  show J κ Γ (0, 0, 0, (fun u w' => u = none ∧ w' = wX κ G T')) 4 (wX κ G T) 0 0 0 [some (.ref (G 0)), some (.int p1), some (.int p2), some (.int p3)] []
  refine j_iload_n C dX0_setTo_0 rfl rfl ?_
  by_cases c1_0 : p1 = 0
  · replace h := ip c1_0 h
    refine j_tabEq C dX0_setTo_1 c1_0 (a := 0) rfl (by decide) (by decide) rfl (tgt := 44) (by decide) ?_
    refine j_aload_n C dX0_setTo_44 rfl rfl ?_
    refine jx_geta hκ C 0 (by decide) rfl rfl q187 dX0_setTo_45 ?_
    refine j_iload_n C dX0_setTo_48 rfl rfl ?_
    obtain ⟨b1, h⟩ := chk_some h
    obtain ⟨a2, w3, h⟩ := ob h
    refine jx_aaldP hκ C 0 rfl rfl b1 w3 dX0_setTo_49 ?_
    refine j_iload_n C dX0_setTo_50 rfl rfl ?_
    obtain ⟨q4, g5, h⟩ := ob h
    refine jx_pi3N hκ C g5 0 (by decide) rfl rfl rfl q358 dX0_setTo_51 ?_
    refine jx_nmT h (fun T6 h => ?_)
    refine j_goto C dX0_setTo_54 (tgt := 125) (by decide) ?_
    obtain rfl := sp1 h
    exact j_vret C dX0_setTo_125 (Nat.le_of_ble_eq_true rfl) (Nat.le_of_ble_eq_true rfl) ⟨rfl, rfl⟩
  replace h := im c1_0 h
  by_cases c1_1 : p1 = 1
  · replace h := ip c1_1 h
    refine j_tabEq C dX0_setTo_1 c1_1 (a := 1) rfl (by decide) (by decide) rfl (tgt := 57) (by decide) ?_
    refine j_aload_n C dX0_setTo_57 rfl rfl ?_
    refine jx_geta hκ C 0 (by decide) rfl rfl q187 dX0_setTo_58 ?_
    refine j_iload_n C dX0_setTo_61 rfl rfl ?_
    obtain ⟨b7, h⟩ := chk_some h
    obtain ⟨a8, w9, h⟩ := ob h
    refine jx_aaldP hκ C 0 rfl rfl b7 w9 dX0_setTo_62 ?_
    refine j_iload_n C dX0_setTo_63 rfl rfl ?_
    obtain ⟨q10, g11, h⟩ := ob h
    refine jx_pi3N hκ C g11 1 (by decide) rfl rfl rfl q360 dX0_setTo_64 ?_
    refine jx_nmT h (fun T12 h => ?_)
    refine j_goto C dX0_setTo_67 (tgt := 125) (by decide) ?_
    obtain rfl := sp1 h
    exact j_vret C dX0_setTo_125 (Nat.le_of_ble_eq_true rfl) (Nat.le_of_ble_eq_true rfl) ⟨rfl, rfl⟩
  replace h := im c1_1 h
  by_cases c1_2 : p1 = 2
  · replace h := ip c1_2 h
    refine j_tabEq C dX0_setTo_1 c1_2 (a := 2) rfl (by decide) (by decide) rfl (tgt := 70) (by decide) ?_
    refine j_aload_n C dX0_setTo_70 rfl rfl ?_
    refine jx_geta hκ C 0 (by decide) rfl rfl q187 dX0_setTo_71 ?_
    refine j_iload_n C dX0_setTo_74 rfl rfl ?_
    obtain ⟨b13, h⟩ := chk_some h
    obtain ⟨a14, w15, h⟩ := ob h
    refine jx_aaldP hκ C 0 rfl rfl b13 w15 dX0_setTo_75 ?_
    refine j_iload_n C dX0_setTo_76 rfl rfl ?_
    obtain ⟨q16, g17, h⟩ := ob h
    refine jx_pi3N hκ C g17 2 (by decide) rfl rfl rfl q362 dX0_setTo_77 ?_
    refine jx_nmT h (fun T18 h => ?_)
    refine j_goto C dX0_setTo_80 (tgt := 125) (by decide) ?_
    obtain rfl := sp1 h
    exact j_vret C dX0_setTo_125 (Nat.le_of_ble_eq_true rfl) (Nat.le_of_ble_eq_true rfl) ⟨rfl, rfl⟩
  replace h := im c1_2 h
  by_cases c1_3 : p1 = 3
  · replace h := ip c1_3 h
    refine j_tabEq C dX0_setTo_1 c1_3 (a := 3) rfl (by decide) (by decide) rfl (tgt := 83) (by decide) ?_
    refine j_aload_n C dX0_setTo_83 rfl rfl ?_
    refine jx_geta hκ C 0 (by decide) rfl rfl q187 dX0_setTo_84 ?_
    refine j_iload_n C dX0_setTo_87 rfl rfl ?_
    obtain ⟨b19, h⟩ := chk_some h
    obtain ⟨a20, w21, h⟩ := ob h
    refine jx_aaldP hκ C 0 rfl rfl b19 w21 dX0_setTo_88 ?_
    refine j_iload_n C dX0_setTo_89 rfl rfl ?_
    obtain ⟨q22, g23, h⟩ := ob h
    refine jx_pi3N hκ C g23 3 (by decide) rfl rfl rfl q364 dX0_setTo_90 ?_
    refine jx_nmT h (fun T24 h => ?_)
    refine j_goto C dX0_setTo_93 (tgt := 125) (by decide) ?_
    obtain rfl := sp1 h
    exact j_vret C dX0_setTo_125 (Nat.le_of_ble_eq_true rfl) (Nat.le_of_ble_eq_true rfl) ⟨rfl, rfl⟩
  replace h := im c1_3 h
  by_cases c1_4 : p1 = 4
  · replace h := ip c1_4 h
    refine j_tabEq C dX0_setTo_1 c1_4 (a := 4) rfl (by decide) (by decide) rfl (tgt := 96) (by decide) ?_
    refine j_aload_n C dX0_setTo_96 rfl rfl ?_
    refine j_iload_n C dX0_setTo_97 rfl rfl ?_
    refine jx_puti hκ C 2 (by decide) rfl rfl rfl q189 dX0_setTo_98 ?_
    refine jx_nmT h (fun T25 h => ?_)
    refine j_goto C dX0_setTo_101 (tgt := 125) (by decide) ?_
    obtain rfl := sp1 h
    exact j_vret C dX0_setTo_125 (Nat.le_of_ble_eq_true rfl) (Nat.le_of_ble_eq_true rfl) ⟨rfl, rfl⟩
  replace h := im c1_4 h
  by_cases c1_5 : p1 = 5
  · replace h := ip c1_5 h
    refine j_tabEq C dX0_setTo_1 c1_5 (a := 5) rfl (by decide) (by decide) rfl (tgt := 104) (by decide) ?_
    refine j_aload_n C dX0_setTo_104 rfl rfl ?_
    refine j_iload_n C dX0_setTo_105 rfl rfl ?_
    refine jx_puti hκ C 3 (by decide) rfl rfl rfl q190 dX0_setTo_106 ?_
    refine jx_nmT h (fun T26 h => ?_)
    refine j_goto C dX0_setTo_109 (tgt := 125) (by decide) ?_
    obtain rfl := sp1 h
    exact j_vret C dX0_setTo_125 (Nat.le_of_ble_eq_true rfl) (Nat.le_of_ble_eq_true rfl) ⟨rfl, rfl⟩
  replace h := im c1_5 h
  by_cases c1_6 : p1 = 6
  · replace h := ip c1_6 h
    refine j_tabEq C dX0_setTo_1 c1_6 (a := 6) rfl (by decide) (by decide) rfl (tgt := 112) (by decide) ?_
    refine j_aload_n C dX0_setTo_112 rfl rfl ?_
    refine j_iload_n C dX0_setTo_113 rfl rfl ?_
    refine jx_puti hκ C 4 (by decide) rfl rfl rfl q191 dX0_setTo_114 ?_
    refine jx_nmT h (fun T27 h => ?_)
    refine j_goto C dX0_setTo_117 (tgt := 125) (by decide) ?_
    obtain rfl := sp1 h
    exact j_vret C dX0_setTo_125 (Nat.le_of_ble_eq_true rfl) (Nat.le_of_ble_eq_true rfl) ⟨rfl, rfl⟩
  replace h := im c1_6 h
  refine j_tabDef C [0, 1, 2, 3, 4, 5, 6] dX0_setTo_1 ⟨tab_ne c1_0 rfl, tab_ne c1_1 rfl, tab_ne c1_2 rfl, tab_ne c1_3 rfl, tab_ne c1_4 rfl, tab_ne c1_5 rfl, tab_ne c1_6 rfl, trivial⟩ rfl rfl (tgt := 120) (by decide) ?_
  refine j_aload_n C dX0_setTo_120 rfl rfl ?_
  refine j_iload_n C dX0_setTo_121 rfl rfl ?_
  refine jx_puti hκ C 5 (by decide) rfl rfl rfl q192 dX0_setTo_122 ?_
  refine jx_nmT h (fun T28 h => ?_)
  obtain rfl := sp1 h
  exact j_vret C dX0_setTo_125 (Nat.le_of_ble_eq_true rfl) (Nat.le_of_ble_eq_true rfl) ⟨rfl, rfl⟩
/-! undo -/
def x_undo (T : XS) : Option (Int32 × XS) :=
  (if (T.1 7) = 0 then
  some ((-5), T)
  else
  nm (xI T 7 ((T.1 7) - 1)) fun T1 =>
  nm (xI T1 8 ((T1.1 8) + 1)) fun T2 =>
  chk 40 (T2.1 7) (
  (T2.2.2.1 6 (T2.1 7).toNatClampNeg).bind fun a4 =>
  (getO T2 a4 4).bind fun q6 =>
  chk 40 (T2.1 7) (
  (T2.2.2.1 6 (T2.1 7).toNatClampNeg).bind fun a9 =>
  (getO T2 a9 4).bind fun q11 =>
  chk 40 (T2.1 7) (
  (T2.2.2.1 6 (T2.1 7).toNatClampNeg).bind fun a14 =>
  (getO T2 a14 4).bind fun q16 =>
  (x_setTo T2 (q6.2.1 0) (q11.2.1 1) (q16.2.1 2)).bind fun T20 =>
  some (T20.1 7, T20)))))
theorem mt_x_undo {κ : jK} (hκ : jX κ) (G : Nat → Nat) {T : XS} {v : Int32} {T' : XS} (h : x_undo T = some (v, T')) : jM κ yX0_undo (ws_ yX0_undo cX0_undo 1 (some .int)) 1 0 0 [.ref (G 0)] (wX κ G T) (fun u w' => u = some (.int v) ∧ w' = wX κ G T') := by
  rw [x_undo] at h
  refine jM.of (by decide) rfl (Nat.le_of_ble_eq_true rfl) fun Γ C _ => ?_
  show J κ Γ (1, 0, 0, (fun u w' => u = some (.int v) ∧ w' = wX κ G T')) 1 (wX κ G T) 0 0 0 [some (.ref (G 0))] []
  refine j_aload_n C dX0_undo_0 rfl rfl ?_
  refine jx_geti hκ C 7 (by decide) rfl q194 dX0_undo_1 ?_
  refine j_if_ne C dX0_undo_4 (tgt := 10) (by decide) (fun c => ?_) (fun c => ?_)
  · replace h := im c h
    refine j_aload_n C dX0_undo_10 rfl rfl ?_
    refine j_dup C dX0_undo_11 rfl ?_
    refine jx_geti hκ C 7 (by decide) rfl q194 dX0_undo_12 ?_
    refine j_iconst C (v := 1) dX0_undo_15 rfl ?_
    refine j_isub C dX0_undo_16 ?_
    refine jx_puti hκ C 7 (by decide) rfl rfl rfl q194 dX0_undo_17 ?_
    refine jx_nmT h (fun T1 h => ?_)
    refine j_aload_n C dX0_undo_20 rfl rfl ?_
    refine j_dup C dX0_undo_21 rfl ?_
    refine jx_geti hκ C 8 (by decide) rfl q195 dX0_undo_22 ?_
    refine j_iconst C (v := 1) dX0_undo_25 rfl ?_
    refine j_iadd C dX0_undo_26 ?_
    refine jx_puti hκ C 8 (by decide) rfl rfl rfl q195 dX0_undo_27 ?_
    refine jx_nmT h (fun T2 h => ?_)
    refine j_aload_n C dX0_undo_30 rfl rfl ?_
    refine j_aload_n C dX0_undo_31 rfl rfl ?_
    refine jx_geta hκ C 6 (by decide) rfl rfl q193 dX0_undo_32 ?_
    refine j_aload_n C dX0_undo_35 rfl rfl ?_
    refine jx_geti hκ C 7 (by decide) rfl q194 dX0_undo_36 ?_
    obtain ⟨b3, h⟩ := chk_some h
    obtain ⟨a4, w5, h⟩ := ob h
    refine jx_aaldP hκ C 6 rfl rfl b3 w5 dX0_undo_39 ?_
    obtain ⟨q6, g7, h⟩ := ob h
    refine jx_gi4N hκ C g7 0 (by decide) rfl q558 dX0_undo_40 ?_
    refine j_aload_n C dX0_undo_43 rfl rfl ?_
    refine jx_geta hκ C 6 (by decide) rfl rfl q193 dX0_undo_44 ?_
    refine j_aload_n C dX0_undo_47 rfl rfl ?_
    refine jx_geti hκ C 7 (by decide) rfl q194 dX0_undo_48 ?_
    obtain ⟨b8, h⟩ := chk_some h
    obtain ⟨a9, w10, h⟩ := ob h
    refine jx_aaldP hκ C 6 rfl rfl b8 w10 dX0_undo_51 ?_
    obtain ⟨q11, g12, h⟩ := ob h
    refine jx_gi4N hκ C g12 1 (by decide) rfl q560 dX0_undo_52 ?_
    refine j_aload_n C dX0_undo_55 rfl rfl ?_
    refine jx_geta hκ C 6 (by decide) rfl rfl q193 dX0_undo_56 ?_
    refine j_aload_n C dX0_undo_59 rfl rfl ?_
    refine jx_geti hκ C 7 (by decide) rfl q194 dX0_undo_60 ?_
    obtain ⟨b13, h⟩ := chk_some h
    obtain ⟨a14, w15, h⟩ := ob h
    refine jx_aaldP hκ C 6 rfl rfl b13 w15 dX0_undo_63 ?_
    obtain ⟨q16, g17, h⟩ := ob h
    refine jx_gi4N hκ C g17 2 (by decide) rfl q562 dX0_undo_64 ?_
    obtain ⟨T20, e18, h⟩ := ob h
    refine jx_Vv hκ C (mt_x_setTo hκ G e18) hG_x_setTo hy_x_setTo rfl rfl dX0_undo_67 (jfit.of (Nat.le_of_ble_eq_true rfl) (by decide) (Nat.le_of_ble_eq_true rfl) (Nat.le_of_ble_eq_true rfl) (Nat.le_of_ble_eq_true rfl)) rfl ?_
    refine j_aload_n C dX0_undo_70 rfl rfl ?_
    refine jx_geti hκ C 7 (by decide) rfl q194 dX0_undo_71 ?_
    obtain ⟨rfl, rfl⟩ := sp2 h
    exact j_iret C dX0_undo_74 (Nat.le_of_ble_eq_true rfl) (Nat.le_of_ble_eq_true rfl) ⟨rfl, rfl⟩
  replace h := ip c h
  refine j_bipush C (v := (-5)) dX0_undo_7 rfl ?_
  obtain ⟨rfl, rfl⟩ := sp2 h
  exact j_iret C dX0_undo_9 (Nat.le_of_ble_eq_true rfl) (Nat.le_of_ble_eq_true rfl) ⟨rfl, rfl⟩
/-! redo -/
def x_redo (T : XS) : Option (Int32 × XS) :=
  (if (T.1 8) = 0 then
  some ((-5), T)
  else
  chk 40 (T.1 7) (
  (T.2.2.1 6 (T.1 7).toNatClampNeg).bind fun a2 =>
  (getO T a2 4).bind fun q4 =>
  chk 40 (T.1 7) (
  (T.2.2.1 6 (T.1 7).toNatClampNeg).bind fun a7 =>
  (getO T a7 4).bind fun q9 =>
  chk 40 (T.1 7) (
  (T.2.2.1 6 (T.1 7).toNatClampNeg).bind fun a12 =>
  (getO T a12 4).bind fun q14 =>
  (x_setTo T (q4.2.1 0) (q9.2.1 1) (q14.2.1 3)).bind fun T18 =>
  nm (xI T18 7 ((T18.1 7) + 1)) fun T19 =>
  nm (xI T19 8 ((T19.1 8) - 1)) fun T20 =>
  some (T20.1 8, T20)))))
theorem mt_x_redo {κ : jK} (hκ : jX κ) (G : Nat → Nat) {T : XS} {v : Int32} {T' : XS} (h : x_redo T = some (v, T')) : jM κ yX0_redo (ws_ yX0_redo cX0_redo 1 (some .int)) 1 0 0 [.ref (G 0)] (wX κ G T) (fun u w' => u = some (.int v) ∧ w' = wX κ G T') := by
  rw [x_redo] at h
  refine jM.of (by decide) rfl (Nat.le_of_ble_eq_true rfl) fun Γ C _ => ?_
  show J κ Γ (1, 0, 0, (fun u w' => u = some (.int v) ∧ w' = wX κ G T')) 1 (wX κ G T) 0 0 0 [some (.ref (G 0))] []
  refine j_aload_n C dX0_redo_0 rfl rfl ?_
  refine jx_geti hκ C 8 (by decide) rfl q195 dX0_redo_1 ?_
  refine j_if_ne C dX0_redo_4 (tgt := 10) (by decide) (fun c => ?_) (fun c => ?_)
  · replace h := im c h
    refine j_aload_n C dX0_redo_10 rfl rfl ?_
    refine j_aload_n C dX0_redo_11 rfl rfl ?_
    refine jx_geta hκ C 6 (by decide) rfl rfl q193 dX0_redo_12 ?_
    refine j_aload_n C dX0_redo_15 rfl rfl ?_
    refine jx_geti hκ C 7 (by decide) rfl q194 dX0_redo_16 ?_
    obtain ⟨b1, h⟩ := chk_some h
    obtain ⟨a2, w3, h⟩ := ob h
    refine jx_aaldP hκ C 6 rfl rfl b1 w3 dX0_redo_19 ?_
    obtain ⟨q4, g5, h⟩ := ob h
    refine jx_gi4N hκ C g5 0 (by decide) rfl q558 dX0_redo_20 ?_
    refine j_aload_n C dX0_redo_23 rfl rfl ?_
    refine jx_geta hκ C 6 (by decide) rfl rfl q193 dX0_redo_24 ?_
    refine j_aload_n C dX0_redo_27 rfl rfl ?_
    refine jx_geti hκ C 7 (by decide) rfl q194 dX0_redo_28 ?_
    obtain ⟨b6, h⟩ := chk_some h
    obtain ⟨a7, w8, h⟩ := ob h
    refine jx_aaldP hκ C 6 rfl rfl b6 w8 dX0_redo_31 ?_
    obtain ⟨q9, g10, h⟩ := ob h
    refine jx_gi4N hκ C g10 1 (by decide) rfl q560 dX0_redo_32 ?_
    refine j_aload_n C dX0_redo_35 rfl rfl ?_
    refine jx_geta hκ C 6 (by decide) rfl rfl q193 dX0_redo_36 ?_
    refine j_aload_n C dX0_redo_39 rfl rfl ?_
    refine jx_geti hκ C 7 (by decide) rfl q194 dX0_redo_40 ?_
    obtain ⟨b11, h⟩ := chk_some h
    obtain ⟨a12, w13, h⟩ := ob h
    refine jx_aaldP hκ C 6 rfl rfl b11 w13 dX0_redo_43 ?_
    obtain ⟨q14, g15, h⟩ := ob h
    refine jx_gi4N hκ C g15 3 (by decide) rfl q564 dX0_redo_44 ?_
    obtain ⟨T18, e16, h⟩ := ob h
    refine jx_Vv hκ C (mt_x_setTo hκ G e16) hG_x_setTo hy_x_setTo rfl rfl dX0_redo_47 (jfit.of (Nat.le_of_ble_eq_true rfl) (by decide) (Nat.le_of_ble_eq_true rfl) (Nat.le_of_ble_eq_true rfl) (Nat.le_of_ble_eq_true rfl)) rfl ?_
    refine j_aload_n C dX0_redo_50 rfl rfl ?_
    refine j_dup C dX0_redo_51 rfl ?_
    refine jx_geti hκ C 7 (by decide) rfl q194 dX0_redo_52 ?_
    refine j_iconst C (v := 1) dX0_redo_55 rfl ?_
    refine j_iadd C dX0_redo_56 ?_
    refine jx_puti hκ C 7 (by decide) rfl rfl rfl q194 dX0_redo_57 ?_
    refine jx_nmT h (fun T19 h => ?_)
    refine j_aload_n C dX0_redo_60 rfl rfl ?_
    refine j_dup C dX0_redo_61 rfl ?_
    refine jx_geti hκ C 8 (by decide) rfl q195 dX0_redo_62 ?_
    refine j_iconst C (v := 1) dX0_redo_65 rfl ?_
    refine j_isub C dX0_redo_66 ?_
    refine jx_puti hκ C 8 (by decide) rfl rfl rfl q195 dX0_redo_67 ?_
    refine jx_nmT h (fun T20 h => ?_)
    refine j_aload_n C dX0_redo_70 rfl rfl ?_
    refine jx_geti hκ C 8 (by decide) rfl q195 dX0_redo_71 ?_
    obtain ⟨rfl, rfl⟩ := sp2 h
    exact j_iret C dX0_redo_74 (Nat.le_of_ble_eq_true rfl) (Nat.le_of_ble_eq_true rfl) ⟨rfl, rfl⟩
  replace h := ip c h
  refine j_bipush C (v := (-5)) dX0_redo_7 rfl ?_
  obtain ⟨rfl, rfl⟩ := sp2 h
  exact j_iret C dX0_redo_9 (Nat.le_of_ble_eq_true rfl) (Nat.le_of_ble_eq_true rfl) ⟨rfl, rfl⟩
/-! isPost -/
def x_isPost (T : XS) (p1 : Int32) : Option Bool :=
  (x_in p1 0 ((T.1 1) - 1)).bind fun v2 =>
  some v2
theorem mt_x_isPost {κ : jK} (hκ : jX κ) (G : Nat → Nat) {T : XS} {p1 : Int32} {v : Bool} (h : x_isPost T p1 = some v) : jM κ yX0_isPost (ws_ yX0_isPost cX0_isPost 2 (some .boolean)) 1 0 0 [.ref (G 0), .int p1] (wX κ G T) (fun u w' => u = some (.int (b2i v)) ∧ w' = wX κ G T) := by
  rw [x_isPost] at h
  refine jM.of (by decide) rfl (Nat.le_of_ble_eq_true rfl) fun Γ C _ => ?_
  show J κ Γ (1, 0, 0, (fun u w' => u = some (.int (b2i v)) ∧ w' = wX κ G T)) 2 (wX κ G T) 0 0 0 [some (.ref (G 0)), some (.int p1)] []
  refine j_iload_n C dX0_isPost_0 rfl rfl ?_
  refine j_iconst C (v := 0) dX0_isPost_1 rfl ?_
  refine j_aload_n C dX0_isPost_2 rfl rfl ?_
  refine jx_geti hκ C 1 (by decide) rfl q188 dX0_isPost_3 ?_
  refine j_iconst C (v := 1) dX0_isPost_6 rfl ?_
  refine j_isub C dX0_isPost_7 ?_
  obtain ⟨v2, e1, h⟩ := ob h
  refine j_Si hκ.1.1 C (mt_x_in hκ e1) hG_x_in hy_x_in rfl dX0_isPost_8 (jfit.of (Nat.le_of_ble_eq_true rfl) (by decide) (Nat.le_of_ble_eq_true rfl) (Nat.le_of_ble_eq_true rfl) (Nat.le_of_ble_eq_true rfl)) rfl ?_
  obtain rfl := sp1 h
  exact j_zret C (b2i_z _) dX0_isPost_11 (Nat.le_of_ble_eq_true rfl) (Nat.le_of_ble_eq_true rfl) ⟨rfl, rfl⟩
/-! isOf -/
def x_isOf (T : XS) (p1 : Int32) (p2 : Int32) : Option Bool :=
  (x_in p2 0 3).bind fun v2 =>
  (if (b2i v2) = 0 then
  (x_in p2 4 7).bind fun v4 =>
  (if (b2i v4) = 0 then
  some false
  else
  (if p1 = 0 then
  some true
  else
  some false))
  else
  (x_isPost T p1).bind fun v6 =>
  some v6)
theorem mt_x_isOf {κ : jK} (hκ : jX κ) (G : Nat → Nat) {T : XS} {p1 : Int32} {p2 : Int32} {v : Bool} (h : x_isOf T p1 p2 = some v) : jM κ yX0_isOf (ws_ yX0_isOf cX0_isOf 3 (some .boolean)) 2 0 0 [.ref (G 0), .int p1, .int p2] (wX κ G T) (fun u w' => u = some (.int (b2i v)) ∧ w' = wX κ G T) := by
  rw [x_isOf] at h
  refine jM.of (by decide) rfl (Nat.le_of_ble_eq_true rfl) fun Γ C _ => ?_
  show J κ Γ (2, 0, 0, (fun u w' => u = some (.int (b2i v)) ∧ w' = wX κ G T)) 3 (wX κ G T) 0 0 0 [some (.ref (G 0)), some (.int p1), some (.int p2)] []
  refine j_iload_n C dX0_isOf_0 rfl rfl ?_
  refine j_iconst C (v := 0) dX0_isOf_1 rfl ?_
  refine j_iconst C (v := 3) dX0_isOf_2 rfl ?_
  obtain ⟨v2, e1, h⟩ := ob h
  refine j_Si hκ.1.1 C (mt_x_in hκ e1) hG_x_in hy_x_in rfl dX0_isOf_3 (jfit.of (Nat.le_of_ble_eq_true rfl) (by decide) (Nat.le_of_ble_eq_true rfl) (Nat.le_of_ble_eq_true rfl) (Nat.le_of_ble_eq_true rfl)) rfl ?_
  refine j_if_eq C dX0_isOf_6 (tgt := 17) (by decide) (fun c => ?_) (fun c => ?_)
  · replace h := ip c h
    refine j_iload_n C dX0_isOf_17 rfl rfl ?_
    refine j_iconst C (v := 4) dX0_isOf_18 rfl ?_
    refine j_bipush C (v := 7) dX0_isOf_19 rfl ?_
    obtain ⟨v4, e3, h⟩ := ob h
    refine j_Si hκ.1.1 C (mt_x_in hκ e3) hG_x_in hy_x_in rfl dX0_isOf_21 (jfit.of (Nat.le_of_ble_eq_true rfl) (by decide) (Nat.le_of_ble_eq_true rfl) (Nat.le_of_ble_eq_true rfl) (Nat.le_of_ble_eq_true rfl)) rfl ?_
    refine j_if_eq C dX0_isOf_24 (tgt := 35) (by decide) (fun c => ?_) (fun c => ?_)
    · replace h := ip c h
      refine j_iconst C (v := 0) dX0_isOf_35 rfl ?_
      obtain rfl := sp1 h
      exact j_zret C rfl dX0_isOf_36 (Nat.le_of_ble_eq_true rfl) (Nat.le_of_ble_eq_true rfl) ⟨rfl, rfl⟩
    replace h := im c h
    refine j_iload_n C dX0_isOf_27 rfl rfl ?_
    refine j_if_ne C dX0_isOf_28 (tgt := 35) (by decide) (fun c => ?_) (fun c => ?_)
    · replace h := im c h
      refine j_iconst C (v := 0) dX0_isOf_35 rfl ?_
      obtain rfl := sp1 h
      exact j_zret C rfl dX0_isOf_36 (Nat.le_of_ble_eq_true rfl) (Nat.le_of_ble_eq_true rfl) ⟨rfl, rfl⟩
    replace h := ip c h
    refine j_iconst C (v := 1) dX0_isOf_31 rfl ?_
    refine j_goto C dX0_isOf_32 (tgt := 36) (by decide) ?_
    obtain rfl := sp1 h
    exact j_zret C rfl dX0_isOf_36 (Nat.le_of_ble_eq_true rfl) (Nat.le_of_ble_eq_true rfl) ⟨rfl, rfl⟩
  replace h := im c h
  refine j_aload_n C dX0_isOf_9 rfl rfl ?_
  refine j_iload_n C dX0_isOf_10 rfl rfl ?_
  obtain ⟨v6, e5, h⟩ := ob h
  refine jx_Vi hκ C (mt_x_isPost hκ G e5) hG_x_isPost hy_x_isPost rfl rfl dX0_isOf_11 (jfit.of (Nat.le_of_ble_eq_true rfl) (by decide) (Nat.le_of_ble_eq_true rfl) (Nat.le_of_ble_eq_true rfl) (Nat.le_of_ble_eq_true rfl)) rfl ?_
  refine j_goto C dX0_isOf_14 (tgt := 36) (by decide) ?_
  obtain rfl := sp1 h
  exact j_zret C (b2i_z _) dX0_isOf_36 (Nat.le_of_ble_eq_true rfl) (Nat.le_of_ble_eq_true rfl) ⟨rfl, rfl⟩
/-! mayBe -/
def x_mayBe (p1 : Int32) (p2 : Int32) : Option Bool :=
  (if p1 = 2 then
  (x_in p2 0 9).bind fun v2 =>
  some v2
  else if p1 = 3 then
  (x_in p2 1 999).bind fun v4 =>
  some v4
  else if p1 = 6 then
  (x_in p2 1 9).bind fun v6 =>
  some v6
  else if p1 = 7 then
  (x_in p2 0 9).bind fun v8 =>
  some v8
  else 
  (x_isCell p2).bind fun v10 =>
  some v10)
theorem mt_x_mayBe {κ : jK} (hκ : jX κ) {w : jW} {p1 : Int32} {p2 : Int32} {v : Bool} (h : x_mayBe p1 p2 = some v) : jM κ yX0_mayBe (ws_ yX0_mayBe cX0_mayBe 2 (some .boolean)) 2 0 0 [.int p1, .int p2] (w) (fun u w' => u = some (.int (b2i v)) ∧ w' = w) := by
  rw [x_mayBe] at h
  refine jM.of (by decide) rfl (Nat.le_of_ble_eq_true rfl) fun Γ C _ => ?_
  show J κ Γ (2, 0, 0, (fun u w' => u = some (.int (b2i v)) ∧ w' = w)) 2 (w) 0 0 0 [some (.int p1), some (.int p2)] []
  refine j_iload_n C dX0_mayBe_0 rfl rfl ?_
  by_cases c1_0 : p1 = 2
  · replace h := ip c1_0 h
    refine j_tabEq C dX0_mayBe_1 c1_0 (a := 2) rfl (by decide) (by decide) rfl (tgt := 40) (by decide) ?_
    refine j_iload_n C dX0_mayBe_40 rfl rfl ?_
    refine j_iconst C (v := 0) dX0_mayBe_41 rfl ?_
    refine j_bipush C (v := 9) dX0_mayBe_42 rfl ?_
    obtain ⟨v2, e1, h⟩ := ob h
    refine j_Si hκ.1.1 C (mt_x_in hκ e1) hG_x_in hy_x_in rfl dX0_mayBe_44 (jfit.of (Nat.le_of_ble_eq_true rfl) (by decide) (Nat.le_of_ble_eq_true rfl) (Nat.le_of_ble_eq_true rfl) (Nat.le_of_ble_eq_true rfl)) rfl ?_
    obtain rfl := sp1 h
    exact j_zret C (b2i_z _) dX0_mayBe_47 (Nat.le_of_ble_eq_true rfl) (Nat.le_of_ble_eq_true rfl) ⟨rfl, rfl⟩
  replace h := im c1_0 h
  by_cases c1_1 : p1 = 3
  · replace h := ip c1_1 h
    refine j_tabEq C dX0_mayBe_1 c1_1 (a := 3) rfl (by decide) (by decide) rfl (tgt := 48) (by decide) ?_
    refine j_iload_n C dX0_mayBe_48 rfl rfl ?_
    refine j_iconst C (v := 1) dX0_mayBe_49 rfl ?_
    refine j_sipush C (v := 999) dX0_mayBe_50 rfl ?_
    obtain ⟨v4, e3, h⟩ := ob h
    refine j_Si hκ.1.1 C (mt_x_in hκ e3) hG_x_in hy_x_in rfl dX0_mayBe_53 (jfit.of (Nat.le_of_ble_eq_true rfl) (by decide) (Nat.le_of_ble_eq_true rfl) (Nat.le_of_ble_eq_true rfl) (Nat.le_of_ble_eq_true rfl)) rfl ?_
    obtain rfl := sp1 h
    exact j_zret C (b2i_z _) dX0_mayBe_56 (Nat.le_of_ble_eq_true rfl) (Nat.le_of_ble_eq_true rfl) ⟨rfl, rfl⟩
  replace h := im c1_1 h
  by_cases c1_2 : p1 = 6
  · replace h := ip c1_2 h
    refine j_tabEq C dX0_mayBe_1 c1_2 (a := 6) rfl (by decide) (by decide) rfl (tgt := 57) (by decide) ?_
    refine j_iload_n C dX0_mayBe_57 rfl rfl ?_
    refine j_iconst C (v := 1) dX0_mayBe_58 rfl ?_
    refine j_bipush C (v := 9) dX0_mayBe_59 rfl ?_
    obtain ⟨v6, e5, h⟩ := ob h
    refine j_Si hκ.1.1 C (mt_x_in hκ e5) hG_x_in hy_x_in rfl dX0_mayBe_61 (jfit.of (Nat.le_of_ble_eq_true rfl) (by decide) (Nat.le_of_ble_eq_true rfl) (Nat.le_of_ble_eq_true rfl) (Nat.le_of_ble_eq_true rfl)) rfl ?_
    obtain rfl := sp1 h
    exact j_zret C (b2i_z _) dX0_mayBe_64 (Nat.le_of_ble_eq_true rfl) (Nat.le_of_ble_eq_true rfl) ⟨rfl, rfl⟩
  replace h := im c1_2 h
  by_cases c1_3 : p1 = 7
  · replace h := ip c1_3 h
    refine j_tabEq C dX0_mayBe_1 c1_3 (a := 7) rfl (by decide) (by decide) rfl (tgt := 65) (by decide) ?_
    refine j_iload_n C dX0_mayBe_65 rfl rfl ?_
    refine j_iconst C (v := 0) dX0_mayBe_66 rfl ?_
    refine j_bipush C (v := 9) dX0_mayBe_67 rfl ?_
    obtain ⟨v8, e7, h⟩ := ob h
    refine j_Si hκ.1.1 C (mt_x_in hκ e7) hG_x_in hy_x_in rfl dX0_mayBe_69 (jfit.of (Nat.le_of_ble_eq_true rfl) (by decide) (Nat.le_of_ble_eq_true rfl) (Nat.le_of_ble_eq_true rfl) (Nat.le_of_ble_eq_true rfl)) rfl ?_
    obtain rfl := sp1 h
    exact j_zret C (b2i_z _) dX0_mayBe_72 (Nat.le_of_ble_eq_true rfl) (Nat.le_of_ble_eq_true rfl) ⟨rfl, rfl⟩
  replace h := im c1_3 h
  refine j_tabDef C [2, 3, 6, 7] dX0_mayBe_1 ⟨tab_ne c1_0 rfl, tab_ne c1_1 rfl, tab_ne c1_2 rfl, tab_ne c1_3 rfl, trivial⟩ rfl rfl (tgt := 73) (by decide) ?_
  refine j_iload_n C dX0_mayBe_73 rfl rfl ?_
  obtain ⟨v10, e9, h⟩ := ob h
  refine j_Si hκ.1.1 C (mt_x_isCell hκ e9) hG_x_isCell hy_x_isCell rfl dX0_mayBe_74 (jfit.of (Nat.le_of_ble_eq_true rfl) (by decide) (Nat.le_of_ble_eq_true rfl) (Nat.le_of_ble_eq_true rfl) (Nat.le_of_ble_eq_true rfl)) rfl ?_
  obtain rfl := sp1 h
  exact j_zret C (b2i_z _) dX0_mayBe_77 (Nat.le_of_ble_eq_true rfl) (Nat.le_of_ble_eq_true rfl) ⟨rfl, rfl⟩
/-! valueOf -/
def x_valueOf (T : XS) (p1 : Int32) (p2 : Int32) : Option Int32 :=
  (if p2 = 0 then
  chk 9 p1 (
  (T.2.2.1 0 p1.toNatClampNeg).bind fun a2 =>
  (getO T a2 3).bind fun q4 =>
  some (q4.2.1 0))
  else if p2 = 1 then
  chk 9 p1 (
  (T.2.2.1 0 p1.toNatClampNeg).bind fun a7 =>
  (getO T a7 3).bind fun q9 =>
  some (q9.2.1 1))
  else if p2 = 2 then
  chk 9 p1 (
  (T.2.2.1 0 p1.toNatClampNeg).bind fun a12 =>
  (getO T a12 3).bind fun q14 =>
  some (q14.2.1 2))
  else if p2 = 3 then
  chk 9 p1 (
  (T.2.2.1 0 p1.toNatClampNeg).bind fun a17 =>
  (getO T a17 3).bind fun q19 =>
  some (q19.2.1 3))
  else if p2 = 4 then
  some (T.1 2)
  else if p2 = 5 then
  some (T.1 3)
  else if p2 = 6 then
  some (T.1 4)
  else 
  some (T.1 5))
theorem mt_x_valueOf {κ : jK} (hκ : jX κ) (G : Nat → Nat) {T : XS} {p1 : Int32} {p2 : Int32} {v : Int32} (h : x_valueOf T p1 p2 = some v) : jM κ yX0_valueOf (ws_ yX0_valueOf cX0_valueOf 3 (some .int)) 0 0 0 [.ref (G 0), .int p1, .int p2] (wX κ G T) (fun u w' => u = some (.int v) ∧ w' = wX κ G T) := by
  rw [x_valueOf] at h
  refine jM.of (by decide) rfl (Nat.le_of_ble_eq_true rfl) fun Γ C _ => ?_
  show J κ Γ (0, 0, 0, (fun u w' => u = some (.int v) ∧ w' = wX κ G T)) 3 (wX κ G T) 0 0 0 [some (.ref (G 0)), some (.int p1), some (.int p2)] []
  refine j_iload_n C dX0_valueOf_0 rfl rfl ?_
  by_cases c1_0 : p2 = 0
  · replace h := ip c1_0 h
    refine j_tabEq C dX0_valueOf_1 c1_0 (a := 0) rfl (by decide) (by decide) rfl (tgt := 44) (by decide) ?_
    refine j_aload_n C dX0_valueOf_44 rfl rfl ?_
    refine jx_geta hκ C 0 (by decide) rfl rfl q187 dX0_valueOf_45 ?_
    refine j_iload_n C dX0_valueOf_48 rfl rfl ?_
    obtain ⟨b1, h⟩ := chk_some h
    obtain ⟨a2, w3, h⟩ := ob h
    refine jx_aaldP hκ C 0 rfl rfl b1 w3 dX0_valueOf_49 ?_
    obtain ⟨q4, g5, h⟩ := ob h
    refine jx_gi3N hκ C g5 0 (by decide) rfl q358 dX0_valueOf_50 ?_
    obtain rfl := sp1 h
    exact j_iret C dX0_valueOf_53 (Nat.le_of_ble_eq_true rfl) (Nat.le_of_ble_eq_true rfl) ⟨rfl, rfl⟩
  replace h := im c1_0 h
  by_cases c1_1 : p2 = 1
  · replace h := ip c1_1 h
    refine j_tabEq C dX0_valueOf_1 c1_1 (a := 1) rfl (by decide) (by decide) rfl (tgt := 54) (by decide) ?_
    refine j_aload_n C dX0_valueOf_54 rfl rfl ?_
    refine jx_geta hκ C 0 (by decide) rfl rfl q187 dX0_valueOf_55 ?_
    refine j_iload_n C dX0_valueOf_58 rfl rfl ?_
    obtain ⟨b6, h⟩ := chk_some h
    obtain ⟨a7, w8, h⟩ := ob h
    refine jx_aaldP hκ C 0 rfl rfl b6 w8 dX0_valueOf_59 ?_
    obtain ⟨q9, g10, h⟩ := ob h
    refine jx_gi3N hκ C g10 1 (by decide) rfl q360 dX0_valueOf_60 ?_
    obtain rfl := sp1 h
    exact j_iret C dX0_valueOf_63 (Nat.le_of_ble_eq_true rfl) (Nat.le_of_ble_eq_true rfl) ⟨rfl, rfl⟩
  replace h := im c1_1 h
  by_cases c1_2 : p2 = 2
  · replace h := ip c1_2 h
    refine j_tabEq C dX0_valueOf_1 c1_2 (a := 2) rfl (by decide) (by decide) rfl (tgt := 64) (by decide) ?_
    refine j_aload_n C dX0_valueOf_64 rfl rfl ?_
    refine jx_geta hκ C 0 (by decide) rfl rfl q187 dX0_valueOf_65 ?_
    refine j_iload_n C dX0_valueOf_68 rfl rfl ?_
    obtain ⟨b11, h⟩ := chk_some h
    obtain ⟨a12, w13, h⟩ := ob h
    refine jx_aaldP hκ C 0 rfl rfl b11 w13 dX0_valueOf_69 ?_
    obtain ⟨q14, g15, h⟩ := ob h
    refine jx_gi3N hκ C g15 2 (by decide) rfl q362 dX0_valueOf_70 ?_
    obtain rfl := sp1 h
    exact j_iret C dX0_valueOf_73 (Nat.le_of_ble_eq_true rfl) (Nat.le_of_ble_eq_true rfl) ⟨rfl, rfl⟩
  replace h := im c1_2 h
  by_cases c1_3 : p2 = 3
  · replace h := ip c1_3 h
    refine j_tabEq C dX0_valueOf_1 c1_3 (a := 3) rfl (by decide) (by decide) rfl (tgt := 74) (by decide) ?_
    refine j_aload_n C dX0_valueOf_74 rfl rfl ?_
    refine jx_geta hκ C 0 (by decide) rfl rfl q187 dX0_valueOf_75 ?_
    refine j_iload_n C dX0_valueOf_78 rfl rfl ?_
    obtain ⟨b16, h⟩ := chk_some h
    obtain ⟨a17, w18, h⟩ := ob h
    refine jx_aaldP hκ C 0 rfl rfl b16 w18 dX0_valueOf_79 ?_
    obtain ⟨q19, g20, h⟩ := ob h
    refine jx_gi3N hκ C g20 3 (by decide) rfl q364 dX0_valueOf_80 ?_
    obtain rfl := sp1 h
    exact j_iret C dX0_valueOf_83 (Nat.le_of_ble_eq_true rfl) (Nat.le_of_ble_eq_true rfl) ⟨rfl, rfl⟩
  replace h := im c1_3 h
  by_cases c1_4 : p2 = 4
  · replace h := ip c1_4 h
    refine j_tabEq C dX0_valueOf_1 c1_4 (a := 4) rfl (by decide) (by decide) rfl (tgt := 84) (by decide) ?_
    refine j_aload_n C dX0_valueOf_84 rfl rfl ?_
    refine jx_geti hκ C 2 (by decide) rfl q189 dX0_valueOf_85 ?_
    obtain rfl := sp1 h
    exact j_iret C dX0_valueOf_88 (Nat.le_of_ble_eq_true rfl) (Nat.le_of_ble_eq_true rfl) ⟨rfl, rfl⟩
  replace h := im c1_4 h
  by_cases c1_5 : p2 = 5
  · replace h := ip c1_5 h
    refine j_tabEq C dX0_valueOf_1 c1_5 (a := 5) rfl (by decide) (by decide) rfl (tgt := 89) (by decide) ?_
    refine j_aload_n C dX0_valueOf_89 rfl rfl ?_
    refine jx_geti hκ C 3 (by decide) rfl q190 dX0_valueOf_90 ?_
    obtain rfl := sp1 h
    exact j_iret C dX0_valueOf_93 (Nat.le_of_ble_eq_true rfl) (Nat.le_of_ble_eq_true rfl) ⟨rfl, rfl⟩
  replace h := im c1_5 h
  by_cases c1_6 : p2 = 6
  · replace h := ip c1_6 h
    refine j_tabEq C dX0_valueOf_1 c1_6 (a := 6) rfl (by decide) (by decide) rfl (tgt := 94) (by decide) ?_
    refine j_aload_n C dX0_valueOf_94 rfl rfl ?_
    refine jx_geti hκ C 4 (by decide) rfl q191 dX0_valueOf_95 ?_
    obtain rfl := sp1 h
    exact j_iret C dX0_valueOf_98 (Nat.le_of_ble_eq_true rfl) (Nat.le_of_ble_eq_true rfl) ⟨rfl, rfl⟩
  replace h := im c1_6 h
  refine j_tabDef C [0, 1, 2, 3, 4, 5, 6] dX0_valueOf_1 ⟨tab_ne c1_0 rfl, tab_ne c1_1 rfl, tab_ne c1_2 rfl, tab_ne c1_3 rfl, tab_ne c1_4 rfl, tab_ne c1_5 rfl, tab_ne c1_6 rfl, trivial⟩ rfl rfl (tgt := 99) (by decide) ?_
  refine j_aload_n C dX0_valueOf_99 rfl rfl ?_
  refine jx_geti hκ C 5 (by decide) rfl q192 dX0_valueOf_100 ?_
  obtain rfl := sp1 h
  exact j_iret C dX0_valueOf_103 (Nat.le_of_ble_eq_true rfl) (Nat.le_of_ble_eq_true rfl) ⟨rfl, rfl⟩
/-! of -/
def x_of (T : XS) (p1 : Int32) (p2 : Int32) : Option Int32 :=
  (if p2 = 8 then
  (x_isPost T p1).bind fun v6 =>
  (if (b2i v6) = 0 then
  some (-1)
  else
  chk 9 p1 (
  (T.2.2.1 0 p1.toNatClampNeg).bind fun a8 =>
  (getO T a8 3).bind fun q10 =>
  some (q10.2.1 4)))
  else
  (x_isOf T p1 p2).bind fun v2 =>
  (if (b2i v2) = 0 then
  some (-1)
  else
  (x_valueOf T p1 p2).bind fun v4 =>
  some v4))
theorem mt_x_of {κ : jK} (hκ : jX κ) (G : Nat → Nat) {T : XS} {p1 : Int32} {p2 : Int32} {v : Int32} (h : x_of T p1 p2 = some v) : jM κ yX0_of (ws_ yX0_of cX0_of 3 (some .int)) 3 0 0 [.ref (G 0), .int p1, .int p2] (wX κ G T) (fun u w' => u = some (.int v) ∧ w' = wX κ G T) := by
  rw [x_of] at h
  refine jM.of (by decide) rfl (Nat.le_of_ble_eq_true rfl) fun Γ C _ => ?_
  show J κ Γ (3, 0, 0, (fun u w' => u = some (.int v) ∧ w' = wX κ G T)) 3 (wX κ G T) 0 0 0 [some (.ref (G 0)), some (.int p1), some (.int p2)] []
  refine j_iload_n C dX0_of_0 rfl rfl ?_
  refine j_bipush C (v := 8) dX0_of_1 rfl ?_
  refine j_icmp_ne C dX0_of_3 (tgt := 28) (by decide) (fun c => ?_) (fun c => ?_)
  · replace h := im c h
    refine j_aload_n C dX0_of_28 rfl rfl ?_
    refine j_iload_n C dX0_of_29 rfl rfl ?_
    refine j_iload_n C dX0_of_30 rfl rfl ?_
    obtain ⟨v2, e1, h⟩ := ob h
    refine jx_Vi hκ C (mt_x_isOf hκ G e1) hG_x_isOf hy_x_isOf rfl rfl dX0_of_31 (jfit.of (Nat.le_of_ble_eq_true rfl) (by decide) (Nat.le_of_ble_eq_true rfl) (Nat.le_of_ble_eq_true rfl) (Nat.le_of_ble_eq_true rfl)) rfl ?_
    refine j_if_eq C dX0_of_34 (tgt := 46) (by decide) (fun c => ?_) (fun c => ?_)
    · replace h := ip c h
      refine j_iconst C (v := (-1)) dX0_of_46 rfl ?_
      obtain rfl := sp1 h
      exact j_iret C dX0_of_47 (Nat.le_of_ble_eq_true rfl) (Nat.le_of_ble_eq_true rfl) ⟨rfl, rfl⟩
    replace h := im c h
    refine j_aload_n C dX0_of_37 rfl rfl ?_
    refine j_iload_n C dX0_of_38 rfl rfl ?_
    refine j_iload_n C dX0_of_39 rfl rfl ?_
    obtain ⟨v4, e3, h⟩ := ob h
    refine jx_Vi hκ C (mt_x_valueOf hκ G e3) hG_x_valueOf hy_x_valueOf rfl rfl dX0_of_40 (jfit.of (Nat.le_of_ble_eq_true rfl) (by decide) (Nat.le_of_ble_eq_true rfl) (Nat.le_of_ble_eq_true rfl) (Nat.le_of_ble_eq_true rfl)) rfl ?_
    refine j_goto C dX0_of_43 (tgt := 47) (by decide) ?_
    obtain rfl := sp1 h
    exact j_iret C dX0_of_47 (Nat.le_of_ble_eq_true rfl) (Nat.le_of_ble_eq_true rfl) ⟨rfl, rfl⟩
  replace h := ip c h
  refine j_aload_n C dX0_of_6 rfl rfl ?_
  refine j_iload_n C dX0_of_7 rfl rfl ?_
  obtain ⟨v6, e5, h⟩ := ob h
  refine jx_Vi hκ C (mt_x_isPost hκ G e5) hG_x_isPost hy_x_isPost rfl rfl dX0_of_8 (jfit.of (Nat.le_of_ble_eq_true rfl) (by decide) (Nat.le_of_ble_eq_true rfl) (Nat.le_of_ble_eq_true rfl) (Nat.le_of_ble_eq_true rfl)) rfl ?_
  refine j_if_eq C dX0_of_11 (tgt := 26) (by decide) (fun c => ?_) (fun c => ?_)
  · replace h := ip c h
    refine j_iconst C (v := (-1)) dX0_of_26 rfl ?_
    obtain rfl := sp1 h
    exact j_iret C dX0_of_27 (Nat.le_of_ble_eq_true rfl) (Nat.le_of_ble_eq_true rfl) ⟨rfl, rfl⟩
  replace h := im c h
  refine j_aload_n C dX0_of_14 rfl rfl ?_
  refine jx_geta hκ C 0 (by decide) rfl rfl q187 dX0_of_15 ?_
  refine j_iload_n C dX0_of_18 rfl rfl ?_
  obtain ⟨b7, h⟩ := chk_some h
  obtain ⟨a8, w9, h⟩ := ob h
  refine jx_aaldP hκ C 0 rfl rfl b7 w9 dX0_of_19 ?_
  obtain ⟨q10, g11, h⟩ := ob h
  refine jx_gi3N hκ C g11 4 (by decide) rfl q365 dX0_of_20 ?_
  refine j_goto C dX0_of_23 (tgt := 27) (by decide) ?_
  obtain rfl := sp1 h
  exact j_iret C dX0_of_27 (Nat.le_of_ble_eq_true rfl) (Nat.le_of_ble_eq_true rfl) ⟨rfl, rfl⟩
/-! feed -/
def x_feed (T : XS) (p1 : Int32) : Option (Int32 × XS) :=
  (x_in p1 0 255).bind fun v2 =>
  (if (b2i v2) = 0 then
  some ((-1), T)
  else
  (if (T.1 10) = 120 then
  some ((-3), T)
  else
  chk 120 (T.1 10) (
  nm (xA T 9 (T.1 10).toNatClampNeg p1.toInt8.toInt32) fun T3 =>
  nm (xI T3 10 ((T3.1 10) + 1)) fun T5 =>
  some (T5.1 10, T5))))
theorem mt_x_feed {κ : jK} (hκ : jX κ) (G : Nat → Nat) {T : XS} {p1 : Int32} {v : Int32} {T' : XS} (h : x_feed T p1 = some (v, T')) : jM κ yX0_feed (ws_ yX0_feed cX0_feed 2 (some .int)) 1 0 0 [.ref (G 0), .int p1] (wX κ G T) (fun u w' => u = some (.int v) ∧ w' = wX κ G T') := by
  rw [x_feed] at h
  refine jM.of (by decide) rfl (Nat.le_of_ble_eq_true rfl) fun Γ C _ => ?_
  show J κ Γ (1, 0, 0, (fun u w' => u = some (.int v) ∧ w' = wX κ G T')) 2 (wX κ G T) 0 0 0 [some (.ref (G 0)), some (.int p1)] []
  refine j_iload_n C dX0_feed_0 rfl rfl ?_
  refine j_iconst C (v := 0) dX0_feed_1 rfl ?_
  refine j_sipush C (v := 255) dX0_feed_2 rfl ?_
  obtain ⟨v2, e1, h⟩ := ob h
  refine j_Si hκ.1.1 C (mt_x_in hκ e1) hG_x_in hy_x_in rfl dX0_feed_5 (jfit.of (Nat.le_of_ble_eq_true rfl) (by decide) (Nat.le_of_ble_eq_true rfl) (Nat.le_of_ble_eq_true rfl) (Nat.le_of_ble_eq_true rfl)) rfl ?_
  refine j_if_ne C dX0_feed_8 (tgt := 13) (by decide) (fun c => ?_) (fun c => ?_)
  · replace h := im c h
    refine j_aload_n C dX0_feed_13 rfl rfl ?_
    refine jx_geti hκ C 10 (by decide) rfl q199 dX0_feed_14 ?_
    refine j_bipush C (v := 120) dX0_feed_17 rfl ?_
    refine j_icmp_ne C dX0_feed_19 (tgt := 25) (by decide) (fun c => ?_) (fun c => ?_)
    · replace h := im c h
      refine j_aload_n C dX0_feed_25 rfl rfl ?_
      refine jx_geta hκ C 9 (by decide) rfl rfl q196 dX0_feed_26 ?_
      refine j_aload_n C dX0_feed_29 rfl rfl ?_
      refine jx_geti hκ C 10 (by decide) rfl q199 dX0_feed_30 ?_
      refine j_iload_n C dX0_feed_33 rfl rfl ?_
      refine j_i2b C dX0_feed_34 ?_
      obtain ⟨b4, h⟩ := chk_some h
      refine jx_bastB hκ C 9 rfl rfl b4 dX0_feed_35 ?_
      refine jx_nmT h (fun T3 h => ?_)
      refine j_aload_n C dX0_feed_36 rfl rfl ?_
      refine j_dup C dX0_feed_37 rfl ?_
      refine jx_geti hκ C 10 (by decide) rfl q199 dX0_feed_38 ?_
      refine j_iconst C (v := 1) dX0_feed_41 rfl ?_
      refine j_iadd C dX0_feed_42 ?_
      refine jx_puti hκ C 10 (by decide) rfl rfl rfl q199 dX0_feed_43 ?_
      refine jx_nmT h (fun T5 h => ?_)
      refine j_aload_n C dX0_feed_46 rfl rfl ?_
      refine jx_geti hκ C 10 (by decide) rfl q199 dX0_feed_47 ?_
      obtain ⟨rfl, rfl⟩ := sp2 h
      exact j_iret C dX0_feed_50 (Nat.le_of_ble_eq_true rfl) (Nat.le_of_ble_eq_true rfl) ⟨rfl, rfl⟩
    replace h := ip c h
    refine j_bipush C (v := (-3)) dX0_feed_22 rfl ?_
    obtain ⟨rfl, rfl⟩ := sp2 h
    exact j_iret C dX0_feed_24 (Nat.le_of_ble_eq_true rfl) (Nat.le_of_ble_eq_true rfl) ⟨rfl, rfl⟩
  replace h := ip c h
  refine j_iconst C (v := (-1)) dX0_feed_11 rfl ?_
  obtain ⟨rfl, rfl⟩ := sp2 h
  exact j_iret C dX0_feed_12 (Nat.le_of_ble_eq_true rfl) (Nat.le_of_ble_eq_true rfl) ⟨rfl, rfl⟩
/-! layRound -/
def x_layRound_b17 (N : Nat) (l2 : Nat) : Nat → XS → Int32 → Option (Int32 × XS)
  | 0, _, _ => none
  | n + 1, T, l3 =>
    b2 (rowZ T l2 23) fun b1 z2 =>
    (if (Int32.ofNat z2.2.2.2.1) ≤ l3 then
    some (0, T)
    else
    (if 20 ≤ l3 then
    some (0, T)
    else
    b2 (rowZ T l2 23) fun b6 z7 =>
    chk z7.2.2.2.1 l3 (
    nm ((rAt 23 z7 l3.toNatClampNeg).toInt32) fun x12 =>
    (x_isPost T x12).bind fun v14 =>
    (if (b2i v14) = 0 then
    some (0, T)
    else
    chk 20 l3 (
    nm (xA T 13 l3.toNatClampNeg x12) fun T15 =>
    nm (xI T15 16 ((T15.1 16) + 1)) fun T17 =>
    nm (l3 + 1) fun x18 =>
    x_layRound_b17 N l2 n T17 x18)))))
theorem wx_layRound_b17 {κ : jK} (hκ : jX κ) (N : Nat) {Γ : jG} (C : jC κ Γ cX0_layRound 5 RX0 (some .int)) (ht : jtab Γ [((5 : Nat), (49 : Nat), (77 : Nat), (133 : Nat)), ((50 : Nat), (74 : Nat), (77 : Nat), (133 : Nat)), ((5 : Nat), (49 : Nat), (81 : Nat), (135 : Nat)), ((50 : Nat), (74 : Nat), (81 : Nat), (135 : Nat))]) {G : Nat → Nat} (l2 : Nat) {v : Int32} {T' : XS} : ∀ (n : Nat) (T : XS) (l3 : Int32), x_layRound_b17 N l2 n T l3 = some (v, T') → J κ Γ (230, 16, 1024, (fun u w' => u = some (.int v) ∧ w' = wX κ G T')) 5 (wX κ G T) 0 0 17 [some (.ref (G 0)), none, some (.ref l2), some (.int l3), none] [] := by
  intro n
  induction n with
  | zero => intro _ _ h; cases h
  | succ n ih =>
    intro T l3 h
    rw [x_layRound_b17] at h
    refine j_iload_n C dX0_layRound_17 rfl rfl ?_
    refine j_aload_n C dX0_layRound_18 rfl rfl ?_
    obtain ⟨b1, z2, r3, h⟩ := ob2 h
    obtain ⟨q4, g5, -, -⟩ := rowZ_some r3
    refine jx_Oi hκ C (mt_r_size23 hκ G r3) (lw_V q835 q836 q837 q151 q838) (N := 0) ⟨by decide, by decide, by decide +kernel⟩ rfl g5 (by decide) rfl rfl dX0_layRound_19 (jfit.of (Nat.le_of_ble_eq_true rfl) (by decide) (Nat.le_of_ble_eq_true rfl) (Nat.le_of_ble_eq_true rfl) (Nat.le_of_ble_eq_true rfl)) rfl ?_
    refine j_icmp_ge C dX0_layRound_22 (tgt := 74) (by decide) (fun c => ?_) (fun c => ?_)
    · replace h := ip c h
      refine j_goto C dX0_layRound_74 (tgt := 85) (by decide) ?_
      refine j_iconst C (v := 0) dX0_layRound_85 rfl ?_
      obtain ⟨rfl, rfl⟩ := sp2 h
      exact j_iret C dX0_layRound_86 (Nat.le_of_ble_eq_true rfl) (Nat.le_of_ble_eq_true rfl) ⟨rfl, rfl⟩
    replace h := im c h
    refine j_iload_n C dX0_layRound_25 rfl rfl ?_
    refine j_bipush C (v := 20) dX0_layRound_26 rfl ?_
    refine j_icmp_ge C dX0_layRound_28 (tgt := 74) (by decide) (fun c => ?_) (fun c => ?_)
    · replace h := ip c h
      refine j_goto C dX0_layRound_74 (tgt := 85) (by decide) ?_
      refine j_iconst C (v := 0) dX0_layRound_85 rfl ?_
      obtain ⟨rfl, rfl⟩ := sp2 h
      exact j_iret C dX0_layRound_86 (Nat.le_of_ble_eq_true rfl) (Nat.le_of_ble_eq_true rfl) ⟨rfl, rfl⟩
    replace h := im c h
    refine j_aload_n C dX0_layRound_31 rfl rfl ?_
    refine j_iload_n C dX0_layRound_32 rfl rfl ?_
    obtain ⟨b6, z7, r8, h⟩ := ob2 h
    obtain ⟨q9, g10, -, -⟩ := rowZ_some r8
    obtain ⟨c11, h⟩ := chk_some h
    refine jx_Ol hκ C (mt_r_at23 hκ G r8 c11) (lw_V q513 q514 q515 q151 q516) (N := 1) ⟨by decide, by decide, by decide +kernel⟩ rfl g10 (by decide) rfl rfl dX0_layRound_33 (jfit.of (Nat.le_of_ble_eq_true rfl) (by decide) (Nat.le_of_ble_eq_true rfl) (Nat.le_of_ble_eq_true rfl) (Nat.le_of_ble_eq_true rfl)) rfl ?_
    refine j_l2i C dX0_layRound_36 ?_
    refine j_nmI h (fun x12 h => ?_)
    refine j_istore C dX0_layRound_37 (by decide) rfl ?_
    refine j_aload_n C dX0_layRound_39 rfl rfl ?_
    refine j_iload C dX0_layRound_40 rfl ?_
    obtain ⟨v14, e13, h⟩ := ob h
    refine jx_Vi hκ C (mt_x_isPost hκ G e13) hG_x_isPost hy_x_isPost rfl rfl dX0_layRound_42 (jfit.of (Nat.le_of_ble_eq_true rfl) (by decide) (Nat.le_of_ble_eq_true rfl) (Nat.le_of_ble_eq_true rfl) (Nat.le_of_ble_eq_true rfl)) rfl ?_
    refine j_if_ne C dX0_layRound_45 (tgt := 50) (by decide) (fun c => ?_) (fun c => ?_)
    · replace h := im c h
      refine j_aload_n C dX0_layRound_50 rfl rfl ?_
      refine jx_geta hκ C 13 (by decide) rfl rfl q202 dX0_layRound_51 ?_
      refine j_iload_n C dX0_layRound_54 rfl rfl ?_
      refine j_iload C dX0_layRound_55 rfl ?_
      obtain ⟨b16, h⟩ := chk_some h
      refine jx_iast hκ C 13 rfl rfl b16 dX0_layRound_57 ?_
      refine jx_nmT h (fun T15 h => ?_)
      refine j_aload_n C dX0_layRound_58 rfl rfl ?_
      refine j_dup C dX0_layRound_59 rfl ?_
      refine jx_geti hκ C 16 (by decide) rfl q205 dX0_layRound_60 ?_
      refine j_iconst C (v := 1) dX0_layRound_63 rfl ?_
      refine j_iadd C dX0_layRound_64 ?_
      refine jx_puti hκ C 16 (by decide) rfl rfl rfl q205 dX0_layRound_65 ?_
      refine jx_nmT h (fun T17 h => ?_)
      refine j_iincN C h dX0_layRound_68 rfl rfl (by decide) rfl (fun x18 h => ?_)
      refine j_goto C dX0_layRound_71 (tgt := 17) (by decide) ?_
      exact j_sub (ih _ _ h) ⟨rfl, ⟨rfl, ⟨rfl, trivial⟩⟩⟩
    replace h := ip c h
    refine j_iconst C (v := 0) dX0_layRound_48 rfl ?_
    obtain ⟨rfl, rfl⟩ := sp2 h
    exact j_iret C dX0_layRound_49 (Nat.le_of_ble_eq_true rfl) (Nat.le_of_ble_eq_true rfl) ⟨rfl, rfl⟩
def x_layRound (N : Nat) (T : XS) (p1 : Int32) : Option (Int32 × XS) :=
  nm (xI T 16 0) fun T1 =>
  chk 6 p1 (
  onl (T1.2.2.1 48 p1.toNatClampNeg) (
  some ((-11), T1)) fun a5 =>
  (T1.2.2.2 a5).bind fun q7 =>
  (if q7.1 = 23 then
  x_layRound_b17 N a5 N T1 0
  else if q7.1 ∈ [14, 15, 16, 17, 18, 19, 20, 21, 24, 25, 26, 27] then
  some ((-12), T1)
  else none))
theorem mt_x_layRound {κ : jK} (hκ : jX κ) (N : Nat) (G : Nat → Nat) {T : XS} {p1 : Int32} {v : Int32} {T' : XS} (h : x_layRound N T p1 = some (v, T')) : jM κ yX0_layRound (wsW_ yX0_layRound cX0_layRound 5 (some .int) [((5 : Nat), (49 : Nat), (77 : Nat), (133 : Nat)), ((50 : Nat), (74 : Nat), (77 : Nat), (133 : Nat)), ((5 : Nat), (49 : Nat), (81 : Nat), (135 : Nat)), ((50 : Nat), (74 : Nat), (81 : Nat), (135 : Nat))]) 230 16 1024 [.ref (G 0), .int p1] (wX κ G T) (fun u w' => u = some (.int v) ∧ w' = wX κ G T') := by
  rw [x_layRound] at h
  refine jM.ofH (by decide) rfl (Nat.le_of_ble_eq_true rfl) fun Γ C ht => ?_
  show J κ Γ (230, 16, 1024, (fun u w' => u = some (.int v) ∧ w' = wX κ G T')) 5 (wX κ G T) 0 0 0 [some (.ref (G 0)), some (.int p1), none, none, none] []
  refine j_aload_n C dX0_layRound_0 rfl rfl ?_
  refine j_iconst C (v := 0) dX0_layRound_1 rfl ?_
  refine jx_puti hκ C 16 (by decide) rfl rfl rfl q205 dX0_layRound_2 ?_
  refine jx_nmT h (fun T1 h => ?_)
  refine j_aload_n C dX0_layRound_5 rfl rfl ?_
  refine jx_geta hκ C 48 (by decide) rfl rfl q237 dX0_layRound_6 ?_
  refine j_iload_n C dX0_layRound_9 rfl rfl ?_
  obtain ⟨b2, h⟩ := chk_some h
  refine jx_aald hκ C 48 rfl rfl b2 dX0_layRound_10 ?_
  rcases onl_some h with ⟨w6, h⟩ | ⟨a5, w6, h⟩
  · refine j_nul w6 ?_
    refine j_castN C dX0_layRound_11 ?_
    refine j_astore_nN C dX0_layRound_14 rfl (by decide) rfl ?_
    refine j_iconst C (v := 0) dX0_layRound_15 rfl ?_
    refine j_istore_n C dX0_layRound_16 rfl (by decide) rfl ?_
    refine j_iload_n C dX0_layRound_17 rfl rfl ?_
    refine j_aload_nN C dX0_layRound_18 rfl rfl ?_
    refine j_nullX hκ C ht (As := []) q835 (Or.inl q837) (Or.inr ⟨q836, _, _, _, q838⟩) ⟨by decide, by decide⟩ (by show _ = some 0; decide +kernel) dX0_layRound_19 (jcat_mk [(5, 49, 77, 133), (50, 74, 77, 133)] (5, 49, 81, 135) [(50, 74, 81, 135)] "java/lang/NullPointerException" rfl ⟨Or.inr ⟨by decide, "java/lang/ClassCastException", q381, by decide⟩, ⟨Or.inl (by decide), trivial⟩⟩ (by decide) (by decide) q465 q487 rfl) rfl (Nat.le_of_ble_eq_true rfl) (Nat.le_of_ble_eq_true rfl) (Nat.le_of_ble_eq_true rfl) (Nat.le_of_ble_eq_true rfl) (fun e => ?_)
    refine j_widen (k' := 1) (n' := 64) (by decide) (by decide) ?_
    refine j_astore_n C dX0_layRound_81 rfl (by decide) rfl ?_
    refine j_bipush C (v := (-11)) dX0_layRound_82 rfl ?_
    obtain ⟨rfl, rfl⟩ := sp2 h
    exact j_iret C dX0_layRound_84 (Nat.le_of_ble_eq_true rfl) (Nat.le_of_ble_eq_true rfl) ⟨rfl, rfl⟩
  refine j_nn w6 ?_
  obtain ⟨q7, g8, h⟩ := ob h
  by_cases c9 : q7.1 = 23
  · replace h := ip c9 h
    refine jx_castY hκ C q512 (getO_eq g8 c9) (by decide) rfl rfl (Or.inr rfl) dX0_layRound_11 ?_
    refine j_astore_n C dX0_layRound_14 rfl (by decide) rfl ?_
    refine j_iconst C (v := 0) dX0_layRound_15 rfl ?_
    refine j_istore_n C dX0_layRound_16 rfl (by decide) rfl ?_
    exact j_sub (wx_layRound_b17 hκ N C ht _ N _ _ h) ⟨rfl, ⟨rfl, ⟨rfl, trivial⟩⟩⟩
  replace h := im c9 h
  by_cases c10 : q7.1 ∈ [14, 15, 16, 17, 18, 19, 20, 21, 24, 25, 26, 27]
  · replace h := ip c10 h
    refine jx_castX hκ C ht q512 g8 c10 jbad_Byte dX0_layRound_11 (jcat_mk [] (5, 49, 77, 133) [(50, 74, 77, 133), (5, 49, 81, 135), (50, 74, 81, 135)] "java/lang/ClassCastException" rfl trivial (by decide) (by decide) q381 q443 rfl) (Nat.le_of_ble_eq_true rfl) (Nat.le_of_ble_eq_true rfl) (Nat.le_of_ble_eq_true rfl) (Nat.le_of_ble_eq_true rfl) (fun e => ?_)
    refine j_widen (k' := 16) (n' := 1024) (by decide) (by decide) ?_
    refine j_astore_n C dX0_layRound_77 rfl (by decide) rfl ?_
    refine j_bipush C (v := (-12)) dX0_layRound_78 rfl ?_
    obtain ⟨rfl, rfl⟩ := sp2 h
    exact j_iret C dX0_layRound_80 (Nat.le_of_ble_eq_true rfl) (Nat.le_of_ble_eq_true rfl) ⟨rfl, rfl⟩
  replace h := im c10 h
  cases h
/-! between -/
def x_between (T : XS) (p1 : Int32) (p2 : Int32) : Option Int32 :=
  chk 9 p1 (
  (T.2.2.1 0 p1.toNatClampNeg).bind fun a2 =>
  chk 9 p2 (
  (T.2.2.1 0 p2.toNatClampNeg).bind fun a5 =>
  (getO T a2 3).bind fun q9 =>
  (p_fromPost T a2 a5).bind fun v8 =>
  some ((T.1 4) * v8)))
theorem mt_x_between {κ : jK} (hκ : jX κ) (G : Nat → Nat) {T : XS} {p1 : Int32} {p2 : Int32} {v : Int32} (h : x_between T p1 p2 = some v) : jM κ yX0_between (ws_ yX0_between cX0_between 3 (some .int)) 3 0 0 [.ref (G 0), .int p1, .int p2] (wX κ G T) (fun u w' => u = some (.int v) ∧ w' = wX κ G T) := by
  rw [x_between] at h
  refine jM.of (by decide) rfl (Nat.le_of_ble_eq_true rfl) fun Γ C _ => ?_
  show J κ Γ (3, 0, 0, (fun u w' => u = some (.int v) ∧ w' = wX κ G T)) 3 (wX κ G T) 0 0 0 [some (.ref (G 0)), some (.int p1), some (.int p2)] []
  refine j_aload_n C dX0_between_0 rfl rfl ?_
  refine jx_geti hκ C 4 (by decide) rfl q191 dX0_between_1 ?_
  refine j_aload_n C dX0_between_4 rfl rfl ?_
  refine jx_geta hκ C 0 (by decide) rfl rfl q187 dX0_between_5 ?_
  refine j_iload_n C dX0_between_8 rfl rfl ?_
  obtain ⟨b1, h⟩ := chk_some h
  obtain ⟨a2, w3, h⟩ := ob h
  refine jx_aaldP hκ C 0 rfl rfl b1 w3 dX0_between_9 ?_
  refine j_aload_n C dX0_between_10 rfl rfl ?_
  refine jx_geta hκ C 0 (by decide) rfl rfl q187 dX0_between_11 ?_
  refine j_iload_n C dX0_between_14 rfl rfl ?_
  obtain ⟨b4, h⟩ := chk_some h
  obtain ⟨a5, w6, h⟩ := ob h
  refine jx_aaldP hκ C 0 rfl rfl b4 w6 dX0_between_15 ?_
  obtain ⟨q9, g10, h⟩ := ob h
  obtain ⟨v8, e7, h⟩ := ob h
  refine jx_Oi hκ C (mt_p_fromPost hκ G e7) hG_p_fromPost_x hy_p_fromPost rfl g10 (by decide) rfl rfl dX0_between_16 (jfit.of (Nat.le_of_ble_eq_true rfl) (by decide) (Nat.le_of_ble_eq_true rfl) (Nat.le_of_ble_eq_true rfl) (Nat.le_of_ble_eq_true rfl)) rfl ?_
  refine j_imul C dX0_between_19 ?_
  obtain rfl := sp1 h
  exact j_iret C dX0_between_20 (Nat.le_of_ble_eq_true rfl) (Nat.le_of_ble_eq_true rfl) ⟨rfl, rfl⟩
/-! goesTo -/
def x_goesTo (T : XS) (p1 : Int32) (p2 : Int32) : Option Int32 :=
  (if p2 = 0 then
  nz (T.1 16) (
  chk 20 (jrem p1 (T.1 16)) (
  some (T.2.1 13 (jrem p1 (T.1 16)).toNatClampNeg)))
  else
  nz (T.1 16) (
  chk 20 (((T.1 16) - 1) - (jrem p1 (T.1 16))) (
  some (T.2.1 13 (((T.1 16) - 1) - (jrem p1 (T.1 16))).toNatClampNeg))))
theorem mt_x_goesTo {κ : jK} (hκ : jX κ) (G : Nat → Nat) {T : XS} {p1 : Int32} {p2 : Int32} {v : Int32} (h : x_goesTo T p1 p2 = some v) : jM κ yX0_goesTo (ws_ yX0_goesTo cX0_goesTo 3 (some .int)) 0 0 0 [.ref (G 0), .int p1, .int p2] (wX κ G T) (fun u w' => u = some (.int v) ∧ w' = wX κ G T) := by
  rw [x_goesTo] at h
  refine jM.of (by decide) rfl (Nat.le_of_ble_eq_true rfl) fun Γ C _ => ?_
  show J κ Γ (0, 0, 0, (fun u w' => u = some (.int v) ∧ w' = wX κ G T)) 3 (wX κ G T) 0 0 0 [some (.ref (G 0)), some (.int p1), some (.int p2)] []
  refine j_aload_n C dX0_goesTo_0 rfl rfl ?_
  refine jx_geta hκ C 13 (by decide) rfl rfl q202 dX0_goesTo_1 ?_
  refine j_iload_n C dX0_goesTo_4 rfl rfl ?_
  refine j_if_eq C dX0_goesTo_5 (tgt := 24) (by decide) (fun c => ?_) (fun c => ?_)
  · replace h := ip c h
    refine j_iload_n C dX0_goesTo_24 rfl rfl ?_
    refine j_aload_n C dX0_goesTo_25 rfl rfl ?_
    refine jx_geti hκ C 16 (by decide) rfl q205 dX0_goesTo_26 ?_
    obtain ⟨z1, h⟩ := nz_some h
    refine j_irem C dX0_goesTo_29 z1 ?_
    obtain ⟨b2, h⟩ := chk_some h
    refine jx_iald hκ C 13 rfl rfl b2 dX0_goesTo_30 ?_
    obtain rfl := sp1 h
    exact j_iret C dX0_goesTo_31 (Nat.le_of_ble_eq_true rfl) (Nat.le_of_ble_eq_true rfl) ⟨rfl, rfl⟩
  replace h := im c h
  refine j_aload_n C dX0_goesTo_8 rfl rfl ?_
  refine jx_geti hκ C 16 (by decide) rfl q205 dX0_goesTo_9 ?_
  refine j_iconst C (v := 1) dX0_goesTo_12 rfl ?_
  refine j_isub C dX0_goesTo_13 ?_
  refine j_iload_n C dX0_goesTo_14 rfl rfl ?_
  refine j_aload_n C dX0_goesTo_15 rfl rfl ?_
  refine jx_geti hκ C 16 (by decide) rfl q205 dX0_goesTo_16 ?_
  obtain ⟨z3, h⟩ := nz_some h
  refine j_irem C dX0_goesTo_19 z3 ?_
  refine j_isub C dX0_goesTo_20 ?_
  refine j_goto C dX0_goesTo_21 (tgt := 30) (by decide) ?_
  obtain ⟨b4, h⟩ := chk_some h
  refine jx_iald hκ C 13 rfl rfl b4 dX0_goesTo_30 ?_
  obtain rfl := sp1 h
  exact j_iret C dX0_goesTo_31 (Nat.le_of_ble_eq_true rfl) (Nat.le_of_ble_eq_true rfl) ⟨rfl, rfl⟩
/-! roundLong -/
def x_roundLong_b4 (N : Nat) (T : XS) : Nat → Int32 → Int32 → Option Int32
  | 0, _, _ => none
  | n + 1, l1, l2 =>
    (if (T.1 16) ≤ l2 then
    some l1
    else
    (x_goesTo T l2 0).bind fun v2 =>
    (x_goesTo T (l2 + 1) 0).bind fun v4 =>
    (x_between T v2 v4).bind fun v6 =>
    nm (l1 + ((T.1 5) + v6)) fun x7 =>
    nm (l2 + 1) fun x8 =>
    x_roundLong_b4 N T n x7 x8)
theorem wx_roundLong_b4 {κ : jK} (hκ : jX κ) (N : Nat) {Γ : jG} (C : jC κ Γ cX0_roundLong 3 RX0 (some .int)) {G : Nat → Nat} {T : XS}  {v : Int32} : ∀ (n : Nat) (l1 : Int32) (l2 : Int32), x_roundLong_b4 N T n l1 l2 = some v → J κ Γ (4, 0, 0, (fun u w' => u = some (.int v) ∧ w' = wX κ G T)) 3 (wX κ G T) 0 0 4 [some (.ref (G 0)), some (.int l1), some (.int l2)] [] := by
  intro n
  induction n with
  | zero => intro _ _ h; cases h
  | succ n ih =>
    intro l1 l2 h
    rw [x_roundLong_b4] at h
    refine j_iload_n C dX0_roundLong_4 rfl rfl ?_
    refine j_aload_n C dX0_roundLong_5 rfl rfl ?_
    refine jx_geti hκ C 16 (by decide) rfl q205 dX0_roundLong_6 ?_
    refine j_icmp_ge C dX0_roundLong_9 (tgt := 44) (by decide) (fun c => ?_) (fun c => ?_)
    · replace h := ip c h
      refine j_iload_n C dX0_roundLong_44 rfl rfl ?_
      obtain rfl := sp1 h
      exact j_iret C dX0_roundLong_45 (Nat.le_of_ble_eq_true rfl) (Nat.le_of_ble_eq_true rfl) ⟨rfl, rfl⟩
    replace h := im c h
    refine j_iload_n C dX0_roundLong_12 rfl rfl ?_
    refine j_aload_n C dX0_roundLong_13 rfl rfl ?_
    refine jx_geti hκ C 5 (by decide) rfl q192 dX0_roundLong_14 ?_
    refine j_aload_n C dX0_roundLong_17 rfl rfl ?_
    refine j_aload_n C dX0_roundLong_18 rfl rfl ?_
    refine j_iload_n C dX0_roundLong_19 rfl rfl ?_
    refine j_iconst C (v := 0) dX0_roundLong_20 rfl ?_
    obtain ⟨v2, e1, h⟩ := ob h
    refine jx_Vi hκ C (mt_x_goesTo hκ G e1) hG_x_goesTo hy_x_goesTo rfl rfl dX0_roundLong_21 (jfit.of (Nat.le_of_ble_eq_true rfl) (by decide) (Nat.le_of_ble_eq_true rfl) (Nat.le_of_ble_eq_true rfl) (Nat.le_of_ble_eq_true rfl)) rfl ?_
    refine j_aload_n C dX0_roundLong_24 rfl rfl ?_
    refine j_iload_n C dX0_roundLong_25 rfl rfl ?_
    refine j_iconst C (v := 1) dX0_roundLong_26 rfl ?_
    refine j_iadd C dX0_roundLong_27 ?_
    refine j_iconst C (v := 0) dX0_roundLong_28 rfl ?_
    obtain ⟨v4, e3, h⟩ := ob h
    refine jx_Vi hκ C (mt_x_goesTo hκ G e3) hG_x_goesTo hy_x_goesTo rfl rfl dX0_roundLong_29 (jfit.of (Nat.le_of_ble_eq_true rfl) (by decide) (Nat.le_of_ble_eq_true rfl) (Nat.le_of_ble_eq_true rfl) (Nat.le_of_ble_eq_true rfl)) rfl ?_
    obtain ⟨v6, e5, h⟩ := ob h
    refine jx_Vi hκ C (mt_x_between hκ G e5) hG_x_between hy_x_between rfl rfl dX0_roundLong_32 (jfit.of (Nat.le_of_ble_eq_true rfl) (by decide) (Nat.le_of_ble_eq_true rfl) (Nat.le_of_ble_eq_true rfl) (Nat.le_of_ble_eq_true rfl)) rfl ?_
    refine j_iadd C dX0_roundLong_35 ?_
    refine j_iadd C dX0_roundLong_36 ?_
    refine j_nmI h (fun x7 h => ?_)
    refine j_istore_n C dX0_roundLong_37 rfl (by decide) rfl ?_
    refine j_iincN C h dX0_roundLong_38 rfl rfl (by decide) rfl (fun x8 h => ?_)
    refine j_goto C dX0_roundLong_41 (tgt := 4) (by decide) ?_
    exact j_sub (ih _ _ h) ⟨rfl, ⟨rfl, ⟨rfl, trivial⟩⟩⟩
def x_roundLong (N : Nat) (T : XS) : Option Int32 :=
  x_roundLong_b4 N T N 0 0
theorem mt_x_roundLong {κ : jK} (hκ : jX κ) (N : Nat) (G : Nat → Nat) {T : XS} {v : Int32} (h : x_roundLong N T = some v) : jM κ yX0_roundLong (ws_ yX0_roundLong cX0_roundLong 3 (some .int)) 4 0 0 [.ref (G 0)] (wX κ G T) (fun u w' => u = some (.int v) ∧ w' = wX κ G T) := by
  rw [x_roundLong] at h
  refine jM.of (by decide) rfl (Nat.le_of_ble_eq_true rfl) fun Γ C _ => ?_
  show J κ Γ (4, 0, 0, (fun u w' => u = some (.int v) ∧ w' = wX κ G T)) 3 (wX κ G T) 0 0 0 [some (.ref (G 0)), none, none] []
  refine j_iconst C (v := 0) dX0_roundLong_0 rfl ?_
  refine j_istore_n C dX0_roundLong_1 rfl (by decide) rfl ?_
  refine j_iconst C (v := 0) dX0_roundLong_2 rfl ?_
  refine j_istore_n C dX0_roundLong_3 rfl (by decide) rfl ?_
  exact j_sub (wx_roundLong_b4 hκ N C N _ _ h) ⟨rfl, ⟨rfl, ⟨rfl, trivial⟩⟩⟩
/-! round -/
def x_round (N : Nat) (T : XS) (p1 : Int32) (p2 : Int32) : Option (Int32 × XS) :=
  (x_isShelf p1).bind fun v2 =>
  (if (b2i v2) = 0 then
  some ((-1), T)
  else
  (x_in p2 0 1).bind fun v4 =>
  (if (b2i v4) = 0 then
  some ((-1), T)
  else
  b2 (x_layRound N T p1) fun v6 T7 =>
  (if 0 ≤ v6 then
  (if p2 = 0 then
  some (T7.1 16, T7)
  else
  (x_roundLong N T7).bind fun v9 =>
  some (v9, T7))
  else
  some (v6, T7))))
theorem mt_x_round {κ : jK} (hκ : jX κ) (N : Nat) (G : Nat → Nat) {T : XS} {p1 : Int32} {p2 : Int32} {v : Int32} {T' : XS} (h : x_round N T p1 p2 = some (v, T')) : jM κ yX0_round (ws_ yX0_round cX0_round 4 (some .int)) 231 16 1024 [.ref (G 0), .int p1, .int p2] (wX κ G T) (fun u w' => u = some (.int v) ∧ w' = wX κ G T') := by
  rw [x_round] at h
  refine jM.of (by decide) rfl (Nat.le_of_ble_eq_true rfl) fun Γ C _ => ?_
  show J κ Γ (231, 16, 1024, (fun u w' => u = some (.int v) ∧ w' = wX κ G T')) 4 (wX κ G T) 0 0 0 [some (.ref (G 0)), some (.int p1), some (.int p2), none] []
  refine j_iload_n C dX0_round_0 rfl rfl ?_
  obtain ⟨v2, e1, h⟩ := ob h
  refine j_Si hκ.1.1 C (mt_x_isShelf hκ e1) hG_x_isShelf hy_x_isShelf rfl dX0_round_1 (jfit.of (Nat.le_of_ble_eq_true rfl) (by decide) (Nat.le_of_ble_eq_true rfl) (Nat.le_of_ble_eq_true rfl) (Nat.le_of_ble_eq_true rfl)) rfl ?_
  refine j_if_eq C dX0_round_4 (tgt := 16) (by decide) (fun c => ?_) (fun c => ?_)
  · replace h := ip c h
    refine j_iconst C (v := (-1)) dX0_round_16 rfl ?_
    obtain ⟨rfl, rfl⟩ := sp2 h
    exact j_iret C dX0_round_17 (Nat.le_of_ble_eq_true rfl) (Nat.le_of_ble_eq_true rfl) ⟨rfl, rfl⟩
  replace h := im c h
  refine j_iload_n C dX0_round_7 rfl rfl ?_
  refine j_iconst C (v := 0) dX0_round_8 rfl ?_
  refine j_iconst C (v := 1) dX0_round_9 rfl ?_
  obtain ⟨v4, e3, h⟩ := ob h
  refine j_Si hκ.1.1 C (mt_x_in hκ e3) hG_x_in hy_x_in rfl dX0_round_10 (jfit.of (Nat.le_of_ble_eq_true rfl) (by decide) (Nat.le_of_ble_eq_true rfl) (Nat.le_of_ble_eq_true rfl) (Nat.le_of_ble_eq_true rfl)) rfl ?_
  refine j_if_ne C dX0_round_13 (tgt := 18) (by decide) (fun c => ?_) (fun c => ?_)
  · replace h := im c h
    refine j_aload_n C dX0_round_18 rfl rfl ?_
    refine j_iload_n C dX0_round_19 rfl rfl ?_
    obtain ⟨v6, T7, e5, h⟩ := ob2 h
    refine jx_Hi hκ C (mt_x_layRound hκ N G e5) hG_x_layRound hy_x_layRound rfl rfl dX0_round_20 ⟨(Nat.le_of_ble_eq_true rfl), by decide, Nat.le_of_ble_eq_true rfl, Nat.le_of_ble_eq_true rfl, Nat.le_of_ble_eq_true rfl⟩ rfl ?_
    refine j_istore_n C dX0_round_23 rfl (by decide) rfl ?_
    refine j_iload_n C dX0_round_24 rfl rfl ?_
    refine j_if_ge C dX0_round_25 (tgt := 30) (by decide) (fun c => ?_) (fun c => ?_)
    · replace h := ip c h
      refine j_iload_n C dX0_round_30 rfl rfl ?_
      refine j_if_ne C dX0_round_31 (tgt := 41) (by decide) (fun c => ?_) (fun c => ?_)
      · replace h := im c h
        refine j_aload_n C dX0_round_41 rfl rfl ?_
        obtain ⟨v9, e8, h⟩ := ob h
        refine jx_Vi hκ C (mt_x_roundLong hκ N G e8) hG_x_roundLong hy_x_roundLong rfl rfl dX0_round_42 (jfit.of (Nat.le_of_ble_eq_true rfl) (by decide) (Nat.le_of_ble_eq_true rfl) (Nat.le_of_ble_eq_true rfl) (Nat.le_of_ble_eq_true rfl)) rfl ?_
        obtain ⟨rfl, rfl⟩ := sp2 h
        exact j_iret C dX0_round_45 (Nat.le_of_ble_eq_true rfl) (Nat.le_of_ble_eq_true rfl) ⟨rfl, rfl⟩
      replace h := ip c h
      refine j_aload_n C dX0_round_34 rfl rfl ?_
      refine jx_geti hκ C 16 (by decide) rfl q205 dX0_round_35 ?_
      refine j_goto C dX0_round_38 (tgt := 45) (by decide) ?_
      obtain ⟨rfl, rfl⟩ := sp2 h
      exact j_iret C dX0_round_45 (Nat.le_of_ble_eq_true rfl) (Nat.le_of_ble_eq_true rfl) ⟨rfl, rfl⟩
    replace h := im c h
    refine j_iload_n C dX0_round_28 rfl rfl ?_
    obtain ⟨rfl, rfl⟩ := sp2 h
    exact j_iret C dX0_round_29 (Nat.le_of_ble_eq_true rfl) (Nat.le_of_ble_eq_true rfl) ⟨rfl, rfl⟩
  replace h := ip c h
  refine j_iconst C (v := (-1)) dX0_round_16 rfl ?_
  obtain ⟨rfl, rfl⟩ := sp2 h
  exact j_iret C dX0_round_17 (Nat.le_of_ble_eq_true rfl) (Nat.le_of_ble_eq_true rfl) ⟨rfl, rfl⟩
/-! firstOf -/
def x_firstOf_b2 (N : Nat) (T : XS) (l1 : Int32) : Nat → Int32 → Option Int32
  | 0, _ => none
  | n + 1, l2 =>
    (if (T.1 17) ≤ l2 then
    some (-2)
    else
    chk 4000 l2 (
    (if 999 < (T.2.1 15 l2.toNatClampNeg) then
    some (-2)
    else
    chk 4000 l2 (
    (if (T.2.1 14 l2.toNatClampNeg) = l1 then
    chk 4000 l2 (
    some (T.2.1 15 l2.toNatClampNeg))
    else
    nm (l2 + 1) fun x3 =>
    x_firstOf_b2 N T l1 n x3)))))
theorem wx_firstOf_b2 {κ : jK} (hκ : jX κ) (N : Nat) {Γ : jG} (C : jC κ Γ cX0_firstOf 3 RX0 (some .int)) {G : Nat → Nat} {T : XS} (l1 : Int32) {v : Int32} : ∀ (n : Nat) (l2 : Int32), x_firstOf_b2 N T l1 n l2 = some v → J κ Γ (0, 0, 0, (fun u w' => u = some (.int v) ∧ w' = wX κ G T)) 3 (wX κ G T) 0 0 2 [some (.ref (G 0)), some (.int l1), some (.int l2)] [] := by
  intro n
  induction n with
  | zero => intro _ h; cases h
  | succ n ih =>
    intro l2 h
    rw [x_firstOf_b2] at h
    refine j_iload_n C dX0_firstOf_2 rfl rfl ?_
    refine j_aload_n C dX0_firstOf_3 rfl rfl ?_
    refine jx_geti hκ C 17 (by decide) rfl q206 dX0_firstOf_4 ?_
    refine j_icmp_ge C dX0_firstOf_7 (tgt := 45) (by decide) (fun c => ?_) (fun c => ?_)
    · replace h := ip c h
      refine j_bipush C (v := (-2)) dX0_firstOf_45 rfl ?_
      obtain rfl := sp1 h
      exact j_iret C dX0_firstOf_47 (Nat.le_of_ble_eq_true rfl) (Nat.le_of_ble_eq_true rfl) ⟨rfl, rfl⟩
    replace h := im c h
    refine j_aload_n C dX0_firstOf_10 rfl rfl ?_
    refine jx_geta hκ C 15 (by decide) rfl rfl q204 dX0_firstOf_11 ?_
    refine j_iload_n C dX0_firstOf_14 rfl rfl ?_
    obtain ⟨b1, h⟩ := chk_some h
    refine jx_iald hκ C 15 rfl rfl b1 dX0_firstOf_15 ?_
    refine j_sipush C (v := 999) dX0_firstOf_16 rfl ?_
    refine j_icmp_gt C dX0_firstOf_19 (tgt := 45) (by decide) (fun c => ?_) (fun c => ?_)
    · replace h := ip c h
      refine j_bipush C (v := (-2)) dX0_firstOf_45 rfl ?_
      obtain rfl := sp1 h
      exact j_iret C dX0_firstOf_47 (Nat.le_of_ble_eq_true rfl) (Nat.le_of_ble_eq_true rfl) ⟨rfl, rfl⟩
    replace h := im c h
    refine j_aload_n C dX0_firstOf_22 rfl rfl ?_
    refine jx_geta hκ C 14 (by decide) rfl rfl q203 dX0_firstOf_23 ?_
    refine j_iload_n C dX0_firstOf_26 rfl rfl ?_
    obtain ⟨b2, h⟩ := chk_some h
    refine jx_iald hκ C 14 rfl rfl b2 dX0_firstOf_27 ?_
    refine j_iload_n C dX0_firstOf_28 rfl rfl ?_
    refine j_icmp_ne C dX0_firstOf_29 (tgt := 39) (by decide) (fun c => ?_) (fun c => ?_)
    · replace h := im c h
      refine j_iincN C h dX0_firstOf_39 rfl rfl (by decide) rfl (fun x3 h => ?_)
      refine j_goto C dX0_firstOf_42 (tgt := 2) (by decide) ?_
      exact j_sub (ih _ h) ⟨rfl, ⟨rfl, ⟨rfl, trivial⟩⟩⟩
    replace h := ip c h
    refine j_aload_n C dX0_firstOf_32 rfl rfl ?_
    refine jx_geta hκ C 15 (by decide) rfl rfl q204 dX0_firstOf_33 ?_
    refine j_iload_n C dX0_firstOf_36 rfl rfl ?_
    obtain ⟨b4, h⟩ := chk_some h
    refine jx_iald hκ C 15 rfl rfl b4 dX0_firstOf_37 ?_
    obtain rfl := sp1 h
    exact j_iret C dX0_firstOf_38 (Nat.le_of_ble_eq_true rfl) (Nat.le_of_ble_eq_true rfl) ⟨rfl, rfl⟩
def x_firstOf (N : Nat) (T : XS) (p1 : Int32) : Option Int32 :=
  x_firstOf_b2 N T p1 N 0
theorem mt_x_firstOf {κ : jK} (hκ : jX κ) (N : Nat) (G : Nat → Nat) {T : XS} {p1 : Int32} {v : Int32} (h : x_firstOf N T p1 = some v) : jM κ yX0_firstOf (ws_ yX0_firstOf cX0_firstOf 3 (some .int)) 0 0 0 [.ref (G 0), .int p1] (wX κ G T) (fun u w' => u = some (.int v) ∧ w' = wX κ G T) := by
  rw [x_firstOf] at h
  refine jM.of (by decide) rfl (Nat.le_of_ble_eq_true rfl) fun Γ C _ => ?_
  show J κ Γ (0, 0, 0, (fun u w' => u = some (.int v) ∧ w' = wX κ G T)) 3 (wX κ G T) 0 0 0 [some (.ref (G 0)), some (.int p1), none] []
  refine j_iconst C (v := 0) dX0_firstOf_0 rfl ?_
  refine j_istore_n C dX0_firstOf_1 rfl (by decide) rfl ?_
  exact j_sub (wx_firstOf_b2 hκ N C _ N _ h) ⟨rfl, ⟨rfl, ⟨rfl, trivial⟩⟩⟩
/-! fromGate -/
def x_fromGate (T : XS) (p1 : Int32) : Option Int32 :=
  chk 9 p1 (
  (T.2.2.1 0 p1.toNatClampNeg).bind fun a2 =>
  (getO T a2 3).bind fun q6 =>
  (p_farFrom T a2 (T.1 2) (T.1 3)).bind fun v5 =>
  some ((T.1 4) * v5))
theorem mt_x_fromGate {κ : jK} (hκ : jX κ) (G : Nat → Nat) {T : XS} {p1 : Int32} {v : Int32} (h : x_fromGate T p1 = some v) : jM κ yX0_fromGate (ws_ yX0_fromGate cX0_fromGate 2 (some .int)) 2 0 0 [.ref (G 0), .int p1] (wX κ G T) (fun u w' => u = some (.int v) ∧ w' = wX κ G T) := by
  rw [x_fromGate] at h
  refine jM.of (by decide) rfl (Nat.le_of_ble_eq_true rfl) fun Γ C _ => ?_
  show J κ Γ (2, 0, 0, (fun u w' => u = some (.int v) ∧ w' = wX κ G T)) 2 (wX κ G T) 0 0 0 [some (.ref (G 0)), some (.int p1)] []
  refine j_aload_n C dX0_fromGate_0 rfl rfl ?_
  refine jx_geti hκ C 4 (by decide) rfl q191 dX0_fromGate_1 ?_
  refine j_aload_n C dX0_fromGate_4 rfl rfl ?_
  refine jx_geta hκ C 0 (by decide) rfl rfl q187 dX0_fromGate_5 ?_
  refine j_iload_n C dX0_fromGate_8 rfl rfl ?_
  obtain ⟨b1, h⟩ := chk_some h
  obtain ⟨a2, w3, h⟩ := ob h
  refine jx_aaldP hκ C 0 rfl rfl b1 w3 dX0_fromGate_9 ?_
  refine j_aload_n C dX0_fromGate_10 rfl rfl ?_
  refine jx_geti hκ C 2 (by decide) rfl q189 dX0_fromGate_11 ?_
  refine j_aload_n C dX0_fromGate_14 rfl rfl ?_
  refine jx_geti hκ C 3 (by decide) rfl q190 dX0_fromGate_15 ?_
  obtain ⟨q6, g7, h⟩ := ob h
  obtain ⟨v5, e4, h⟩ := ob h
  refine jx_Oi hκ C (mt_p_farFrom hκ G e4) hG_p_farFrom_x hy_p_farFrom rfl g7 (by decide) rfl rfl dX0_fromGate_18 (jfit.of (Nat.le_of_ble_eq_true rfl) (by decide) (Nat.le_of_ble_eq_true rfl) (Nat.le_of_ble_eq_true rfl) (Nat.le_of_ble_eq_true rfl)) rfl ?_
  refine j_imul C dX0_fromGate_21 ?_
  obtain rfl := sp1 h
  exact j_iret C dX0_fromGate_22 (Nat.le_of_ble_eq_true rfl) (Nat.le_of_ble_eq_true rfl) ⟨rfl, rfl⟩
/-! layDents -/
def x_layDents_b24 (N : Nat) (l1 : Int32) : Nat → XS → Int32 → Option XS
  | 0, _, _ => none
  | n + 1, T, l2 =>
    (if 1999 < l2 then
    some T
    else
    (if 4000 ≤ (T.1 17) then
    some T
    else
    (x_goesTo T (T.1 17) l1).bind fun v2 =>
    chk 4000 (T.1 17) (
    nm (xA T 14 (T.1 17).toNatClampNeg v2) fun T3 =>
    chk 4000 (T3.1 17) (
    nm (xA T3 15 (T3.1 17).toNatClampNeg l2) fun T5 =>
    (x_goesTo T5 (T5.1 17) l1).bind fun v8 =>
    (x_goesTo T5 ((T5.1 17) + 1) l1).bind fun v10 =>
    (x_between T5 v8 v10).bind fun v12 =>
    nm (l2 + ((T5.1 5) + v12)) fun x13 =>
    nm (xI T5 17 ((T5.1 17) + 1)) fun T14 =>
    x_layDents_b24 N l1 n T14 x13))))
theorem wx_layDents_b24 {κ : jK} (hκ : jX κ) (N : Nat) {Γ : jG} (C : jC κ Γ cX0_layDents 3 RX0 none) {G : Nat → Nat} (l1 : Int32) {T' : XS} : ∀ (n : Nat) (T : XS) (l2 : Int32), x_layDents_b24 N l1 n T l2 = some T' → J κ Γ (4, 0, 0, (fun u w' => u = none ∧ w' = wX κ G T')) 3 (wX κ G T) 0 0 24 [some (.ref (G 0)), some (.int l1), some (.int l2)] [] := by
  intro n
  induction n with
  | zero => intro _ _ h; cases h
  | succ n ih =>
    intro T l2 h
    rw [x_layDents_b24] at h
    refine j_iload_n C dX0_layDents_24 rfl rfl ?_
    refine j_sipush C (v := 1999) dX0_layDents_25 rfl ?_
    refine j_icmp_gt C dX0_layDents_28 (tgt := 114) (by decide) (fun c => ?_) (fun c => ?_)
    · replace h := ip c h
      obtain rfl := sp1 h
      exact j_vret C dX0_layDents_114 (Nat.le_of_ble_eq_true rfl) (Nat.le_of_ble_eq_true rfl) ⟨rfl, rfl⟩
    replace h := im c h
    refine j_aload_n C dX0_layDents_31 rfl rfl ?_
    refine jx_geti hκ C 17 (by decide) rfl q206 dX0_layDents_32 ?_
    refine j_sipush C (v := 4000) dX0_layDents_35 rfl ?_
    refine j_icmp_ge C dX0_layDents_38 (tgt := 114) (by decide) (fun c => ?_) (fun c => ?_)
    · replace h := ip c h
      obtain rfl := sp1 h
      exact j_vret C dX0_layDents_114 (Nat.le_of_ble_eq_true rfl) (Nat.le_of_ble_eq_true rfl) ⟨rfl, rfl⟩
    replace h := im c h
    refine j_aload_n C dX0_layDents_41 rfl rfl ?_
    refine jx_geta hκ C 14 (by decide) rfl rfl q203 dX0_layDents_42 ?_
    refine j_aload_n C dX0_layDents_45 rfl rfl ?_
    refine jx_geti hκ C 17 (by decide) rfl q206 dX0_layDents_46 ?_
    refine j_aload_n C dX0_layDents_49 rfl rfl ?_
    refine j_aload_n C dX0_layDents_50 rfl rfl ?_
    refine jx_geti hκ C 17 (by decide) rfl q206 dX0_layDents_51 ?_
    refine j_iload_n C dX0_layDents_54 rfl rfl ?_
    obtain ⟨v2, e1, h⟩ := ob h
    refine jx_Vi hκ C (mt_x_goesTo hκ G e1) hG_x_goesTo hy_x_goesTo rfl rfl dX0_layDents_55 (jfit.of (Nat.le_of_ble_eq_true rfl) (by decide) (Nat.le_of_ble_eq_true rfl) (Nat.le_of_ble_eq_true rfl) (Nat.le_of_ble_eq_true rfl)) rfl ?_
    obtain ⟨b4, h⟩ := chk_some h
    refine jx_iast hκ C 14 rfl rfl b4 dX0_layDents_58 ?_
    refine jx_nmT h (fun T3 h => ?_)
    refine j_aload_n C dX0_layDents_59 rfl rfl ?_
    refine jx_geta hκ C 15 (by decide) rfl rfl q204 dX0_layDents_60 ?_
    refine j_aload_n C dX0_layDents_63 rfl rfl ?_
    refine jx_geti hκ C 17 (by decide) rfl q206 dX0_layDents_64 ?_
    refine j_iload_n C dX0_layDents_67 rfl rfl ?_
    obtain ⟨b6, h⟩ := chk_some h
    refine jx_iast hκ C 15 rfl rfl b6 dX0_layDents_68 ?_
    refine jx_nmT h (fun T5 h => ?_)
    refine j_iload_n C dX0_layDents_69 rfl rfl ?_
    refine j_aload_n C dX0_layDents_70 rfl rfl ?_
    refine jx_geti hκ C 5 (by decide) rfl q192 dX0_layDents_71 ?_
    refine j_aload_n C dX0_layDents_74 rfl rfl ?_
    refine j_aload_n C dX0_layDents_75 rfl rfl ?_
    refine j_aload_n C dX0_layDents_76 rfl rfl ?_
    refine jx_geti hκ C 17 (by decide) rfl q206 dX0_layDents_77 ?_
    refine j_iload_n C dX0_layDents_80 rfl rfl ?_
    obtain ⟨v8, e7, h⟩ := ob h
    refine jx_Vi hκ C (mt_x_goesTo hκ G e7) hG_x_goesTo hy_x_goesTo rfl rfl dX0_layDents_81 (jfit.of (Nat.le_of_ble_eq_true rfl) (by decide) (Nat.le_of_ble_eq_true rfl) (Nat.le_of_ble_eq_true rfl) (Nat.le_of_ble_eq_true rfl)) rfl ?_
    refine j_aload_n C dX0_layDents_84 rfl rfl ?_
    refine j_aload_n C dX0_layDents_85 rfl rfl ?_
    refine jx_geti hκ C 17 (by decide) rfl q206 dX0_layDents_86 ?_
    refine j_iconst C (v := 1) dX0_layDents_89 rfl ?_
    refine j_iadd C dX0_layDents_90 ?_
    refine j_iload_n C dX0_layDents_91 rfl rfl ?_
    obtain ⟨v10, e9, h⟩ := ob h
    refine jx_Vi hκ C (mt_x_goesTo hκ G e9) hG_x_goesTo hy_x_goesTo rfl rfl dX0_layDents_92 (jfit.of (Nat.le_of_ble_eq_true rfl) (by decide) (Nat.le_of_ble_eq_true rfl) (Nat.le_of_ble_eq_true rfl) (Nat.le_of_ble_eq_true rfl)) rfl ?_
    obtain ⟨v12, e11, h⟩ := ob h
    refine jx_Vi hκ C (mt_x_between hκ G e11) hG_x_between hy_x_between rfl rfl dX0_layDents_95 (jfit.of (Nat.le_of_ble_eq_true rfl) (by decide) (Nat.le_of_ble_eq_true rfl) (Nat.le_of_ble_eq_true rfl) (Nat.le_of_ble_eq_true rfl)) rfl ?_
    refine j_iadd C dX0_layDents_98 ?_
    refine j_iadd C dX0_layDents_99 ?_
    refine j_nmI h (fun x13 h => ?_)
    refine j_istore_n C dX0_layDents_100 rfl (by decide) rfl ?_
    refine j_aload_n C dX0_layDents_101 rfl rfl ?_
    refine j_dup C dX0_layDents_102 rfl ?_
    refine jx_geti hκ C 17 (by decide) rfl q206 dX0_layDents_103 ?_
    refine j_iconst C (v := 1) dX0_layDents_106 rfl ?_
    refine j_iadd C dX0_layDents_107 ?_
    refine jx_puti hκ C 17 (by decide) rfl rfl rfl q206 dX0_layDents_108 ?_
    refine jx_nmT h (fun T14 h => ?_)
    refine j_goto C dX0_layDents_111 (tgt := 24) (by decide) ?_
    exact j_sub (ih _ _ h) ⟨rfl, ⟨rfl, ⟨rfl, trivial⟩⟩⟩
def x_layDents (N : Nat) (T : XS) (p1 : Int32) : Option XS :=
  nm (xI T 17 0) fun T1 =>
  (if (T1.1 16) = 0 then
  some T1
  else
  (x_goesTo T1 0 p1).bind fun v3 =>
  (x_fromGate T1 v3).bind fun v5 =>
  x_layDents_b24 N p1 N T1 v5)
theorem mt_x_layDents {κ : jK} (hκ : jX κ) (N : Nat) (G : Nat → Nat) {T : XS} {p1 : Int32} {T' : XS} (h : x_layDents N T p1 = some T') : jM κ yX0_layDents (ws_ yX0_layDents cX0_layDents 3 none) 4 0 0 [.ref (G 0), .int p1] (wX κ G T) (fun u w' => u = none ∧ w' = wX κ G T') := by
  rw [x_layDents] at h
  refine jM.of (by decide) rfl (Nat.le_of_ble_eq_true rfl) fun Γ C _ => ?_
  show J κ Γ (4, 0, 0, (fun u w' => u = none ∧ w' = wX κ G T')) 3 (wX κ G T) 0 0 0 [some (.ref (G 0)), some (.int p1), none] []
  refine j_aload_n C dX0_layDents_0 rfl rfl ?_
  refine j_iconst C (v := 0) dX0_layDents_1 rfl ?_
  refine jx_puti hκ C 17 (by decide) rfl rfl rfl q206 dX0_layDents_2 ?_
  refine jx_nmT h (fun T1 h => ?_)
  refine j_aload_n C dX0_layDents_5 rfl rfl ?_
  refine jx_geti hκ C 16 (by decide) rfl q205 dX0_layDents_6 ?_
  refine j_if_ne C dX0_layDents_9 (tgt := 13) (by decide) (fun c => ?_) (fun c => ?_)
  · replace h := im c h
    refine j_aload_n C dX0_layDents_13 rfl rfl ?_
    refine j_aload_n C dX0_layDents_14 rfl rfl ?_
    refine j_iconst C (v := 0) dX0_layDents_15 rfl ?_
    refine j_iload_n C dX0_layDents_16 rfl rfl ?_
    obtain ⟨v3, e2, h⟩ := ob h
    refine jx_Vi hκ C (mt_x_goesTo hκ G e2) hG_x_goesTo hy_x_goesTo rfl rfl dX0_layDents_17 (jfit.of (Nat.le_of_ble_eq_true rfl) (by decide) (Nat.le_of_ble_eq_true rfl) (Nat.le_of_ble_eq_true rfl) (Nat.le_of_ble_eq_true rfl)) rfl ?_
    obtain ⟨v5, e4, h⟩ := ob h
    refine jx_Vi hκ C (mt_x_fromGate hκ G e4) hG_x_fromGate hy_x_fromGate rfl rfl dX0_layDents_20 (jfit.of (Nat.le_of_ble_eq_true rfl) (by decide) (Nat.le_of_ble_eq_true rfl) (Nat.le_of_ble_eq_true rfl) (Nat.le_of_ble_eq_true rfl)) rfl ?_
    refine j_istore_n C dX0_layDents_23 rfl (by decide) rfl ?_
    exact j_sub (wx_layDents_b24 hκ N C _ N _ _ h) ⟨rfl, ⟨rfl, ⟨rfl, trivial⟩⟩⟩
  replace h := ip c h
  obtain rfl := sp1 h
  exact j_vret C dX0_layDents_12 (Nat.le_of_ble_eq_true rfl) (Nat.le_of_ble_eq_true rfl) ⟨rfl, rfl⟩
/-! layForth -/
def x_layForth (N : Nat) (T : XS) (p1 : Int32) : Option (Int32 × XS) :=
  b2 (x_layRound N T p1) fun v2 T3 =>
  (if v2 = 0 then
  (x_layDents N T3 0).bind fun T6 =>
  some (v2, T6)
  else
  some (v2, T3))
theorem mt_x_layForth {κ : jK} (hκ : jX κ) (N : Nat) (G : Nat → Nat) {T : XS} {p1 : Int32} {v : Int32} {T' : XS} (h : x_layForth N T p1 = some (v, T')) : jM κ yX0_layForth (ws_ yX0_layForth cX0_layForth 3 (some .int)) 231 16 1024 [.ref (G 0), .int p1] (wX κ G T) (fun u w' => u = some (.int v) ∧ w' = wX κ G T') := by
  rw [x_layForth] at h
  refine jM.of (by decide) rfl (Nat.le_of_ble_eq_true rfl) fun Γ C _ => ?_
  show J κ Γ (231, 16, 1024, (fun u w' => u = some (.int v) ∧ w' = wX κ G T')) 3 (wX κ G T) 0 0 0 [some (.ref (G 0)), some (.int p1), none] []
  refine j_aload_n C dX0_layForth_0 rfl rfl ?_
  refine j_iload_n C dX0_layForth_1 rfl rfl ?_
  obtain ⟨v2, T3, e1, h⟩ := ob2 h
  refine jx_Hi hκ C (mt_x_layRound hκ N G e1) hG_x_layRound hy_x_layRound rfl rfl dX0_layForth_2 ⟨(Nat.le_of_ble_eq_true rfl), by decide, Nat.le_of_ble_eq_true rfl, Nat.le_of_ble_eq_true rfl, Nat.le_of_ble_eq_true rfl⟩ rfl ?_
  refine j_istore_n C dX0_layForth_5 rfl (by decide) rfl ?_
  refine j_iload_n C dX0_layForth_6 rfl rfl ?_
  refine j_if_ne C dX0_layForth_7 (tgt := 15) (by decide) (fun c => ?_) (fun c => ?_)
  · replace h := im c h
    refine j_iload_n C dX0_layForth_15 rfl rfl ?_
    obtain ⟨rfl, rfl⟩ := sp2 h
    exact j_iret C dX0_layForth_16 (Nat.le_of_ble_eq_true rfl) (Nat.le_of_ble_eq_true rfl) ⟨rfl, rfl⟩
  replace h := ip c h
  refine j_aload_n C dX0_layForth_10 rfl rfl ?_
  refine j_iconst C (v := 0) dX0_layForth_11 rfl ?_
  obtain ⟨T6, e4, h⟩ := ob h
  refine jx_Vv hκ C (mt_x_layDents hκ N G e4) hG_x_layDents hy_x_layDents rfl rfl dX0_layForth_12 (jfit.of (Nat.le_of_ble_eq_true rfl) (by decide) (Nat.le_of_ble_eq_true rfl) (Nat.le_of_ble_eq_true rfl) (Nat.le_of_ble_eq_true rfl)) rfl ?_
  refine j_iload_n C dX0_layForth_15 rfl rfl ?_
  obtain ⟨rfl, rfl⟩ := sp2 h
  exact j_iret C dX0_layForth_16 (Nat.le_of_ble_eq_true rfl) (Nat.le_of_ble_eq_true rfl) ⟨rfl, rfl⟩
/-! first -/
def x_first (N : Nat) (T : XS) (p1 : Int32) (p2 : Int32) : Option (Int32 × XS) :=
  (x_isShelf p1).bind fun v2 =>
  (if (b2i v2) = 0 then
  some ((-1), T)
  else
  (x_isPost T p2).bind fun v4 =>
  (if (b2i v4) = 0 then
  some ((-1), T)
  else
  b2 (x_layForth N T p1) fun v6 T7 =>
  (if 0 ≤ v6 then
  (x_firstOf N T7 p2).bind fun v9 =>
  some (v9, T7)
  else
  some (v6, T7))))
theorem mt_x_first {κ : jK} (hκ : jX κ) (N : Nat) (G : Nat → Nat) {T : XS} {p1 : Int32} {p2 : Int32} {v : Int32} {T' : XS} (h : x_first N T p1 p2 = some (v, T')) : jM κ yX0_first (ws_ yX0_first cX0_first 4 (some .int)) 232 16 1024 [.ref (G 0), .int p1, .int p2] (wX κ G T) (fun u w' => u = some (.int v) ∧ w' = wX κ G T') := by
  rw [x_first] at h
  refine jM.of (by decide) rfl (Nat.le_of_ble_eq_true rfl) fun Γ C _ => ?_
  show J κ Γ (232, 16, 1024, (fun u w' => u = some (.int v) ∧ w' = wX κ G T')) 4 (wX κ G T) 0 0 0 [some (.ref (G 0)), some (.int p1), some (.int p2), none] []
  refine j_iload_n C dX0_first_0 rfl rfl ?_
  obtain ⟨v2, e1, h⟩ := ob h
  refine j_Si hκ.1.1 C (mt_x_isShelf hκ e1) hG_x_isShelf hy_x_isShelf rfl dX0_first_1 (jfit.of (Nat.le_of_ble_eq_true rfl) (by decide) (Nat.le_of_ble_eq_true rfl) (Nat.le_of_ble_eq_true rfl) (Nat.le_of_ble_eq_true rfl)) rfl ?_
  refine j_if_eq C dX0_first_4 (tgt := 15) (by decide) (fun c => ?_) (fun c => ?_)
  · replace h := ip c h
    refine j_iconst C (v := (-1)) dX0_first_15 rfl ?_
    obtain ⟨rfl, rfl⟩ := sp2 h
    exact j_iret C dX0_first_16 (Nat.le_of_ble_eq_true rfl) (Nat.le_of_ble_eq_true rfl) ⟨rfl, rfl⟩
  replace h := im c h
  refine j_aload_n C dX0_first_7 rfl rfl ?_
  refine j_iload_n C dX0_first_8 rfl rfl ?_
  obtain ⟨v4, e3, h⟩ := ob h
  refine jx_Vi hκ C (mt_x_isPost hκ G e3) hG_x_isPost hy_x_isPost rfl rfl dX0_first_9 (jfit.of (Nat.le_of_ble_eq_true rfl) (by decide) (Nat.le_of_ble_eq_true rfl) (Nat.le_of_ble_eq_true rfl) (Nat.le_of_ble_eq_true rfl)) rfl ?_
  refine j_if_ne C dX0_first_12 (tgt := 17) (by decide) (fun c => ?_) (fun c => ?_)
  · replace h := im c h
    refine j_aload_n C dX0_first_17 rfl rfl ?_
    refine j_iload_n C dX0_first_18 rfl rfl ?_
    obtain ⟨v6, T7, e5, h⟩ := ob2 h
    refine jx_Wi hκ C (mt_x_layForth hκ N G e5) hG_x_layForth hy_x_layForth rfl rfl dX0_first_19 ⟨(Nat.le_of_ble_eq_true rfl), by decide, Nat.le_of_ble_eq_true rfl, Nat.le_of_ble_eq_true rfl, Nat.le_of_ble_eq_true rfl⟩ rfl ?_
    refine j_istore_n C dX0_first_22 rfl (by decide) rfl ?_
    refine j_iload_n C dX0_first_23 rfl rfl ?_
    refine j_if_ge C dX0_first_24 (tgt := 31) (by decide) (fun c => ?_) (fun c => ?_)
    · replace h := ip c h
      refine j_aload_n C dX0_first_31 rfl rfl ?_
      refine j_iload_n C dX0_first_32 rfl rfl ?_
      obtain ⟨v9, e8, h⟩ := ob h
      refine jx_Vi hκ C (mt_x_firstOf hκ N G e8) hG_x_firstOf hy_x_firstOf rfl rfl dX0_first_33 (jfit.of (Nat.le_of_ble_eq_true rfl) (by decide) (Nat.le_of_ble_eq_true rfl) (Nat.le_of_ble_eq_true rfl) (Nat.le_of_ble_eq_true rfl)) rfl ?_
      obtain ⟨rfl, rfl⟩ := sp2 h
      exact j_iret C dX0_first_36 (Nat.le_of_ble_eq_true rfl) (Nat.le_of_ble_eq_true rfl) ⟨rfl, rfl⟩
    replace h := im c h
    refine j_iload_n C dX0_first_27 rfl rfl ?_
    refine j_goto C dX0_first_28 (tgt := 36) (by decide) ?_
    obtain ⟨rfl, rfl⟩ := sp2 h
    exact j_iret C dX0_first_36 (Nat.le_of_ble_eq_true rfl) (Nat.le_of_ble_eq_true rfl) ⟨rfl, rfl⟩
  replace h := ip c h
  refine j_iconst C (v := (-1)) dX0_first_15 rfl ?_
  obtain ⟨rfl, rfl⟩ := sp2 h
  exact j_iret C dX0_first_16 (Nat.le_of_ble_eq_true rfl) (Nat.le_of_ble_eq_true rfl) ⟨rfl, rfl⟩
/-! isMinute -/
def x_isMinute (p1 : Int32) : Option Bool :=
  (x_in p1 0 999).bind fun v2 =>
  some v2
theorem mt_x_isMinute {κ : jK} (hκ : jX κ) {w : jW} {p1 : Int32} {v : Bool} (h : x_isMinute p1 = some v) : jM κ yX0_isMinute (ws_ yX0_isMinute cX0_isMinute 1 (some .boolean)) 1 0 0 [.int p1] (w) (fun u w' => u = some (.int (b2i v)) ∧ w' = w) := by
  rw [x_isMinute] at h
  refine jM.of (by decide) rfl (Nat.le_of_ble_eq_true rfl) fun Γ C _ => ?_
  show J κ Γ (1, 0, 0, (fun u w' => u = some (.int (b2i v)) ∧ w' = w)) 1 (w) 0 0 0 [some (.int p1)] []
  refine j_iload_n C dX0_isMinute_0 rfl rfl ?_
  refine j_iconst C (v := 0) dX0_isMinute_1 rfl ?_
  refine j_sipush C (v := 999) dX0_isMinute_2 rfl ?_
  obtain ⟨v2, e1, h⟩ := ob h
  refine j_Si hκ.1.1 C (mt_x_in hκ e1) hG_x_in hy_x_in rfl dX0_isMinute_5 (jfit.of (Nat.le_of_ble_eq_true rfl) (by decide) (Nat.le_of_ble_eq_true rfl) (Nat.le_of_ble_eq_true rfl) (Nat.le_of_ble_eq_true rfl)) rfl ?_
  obtain rfl := sp1 h
  exact j_zret C (b2i_z _) dX0_isMinute_8 (Nat.le_of_ble_eq_true rfl) (Nat.le_of_ble_eq_true rfl) ⟨rfl, rfl⟩
/-! by -/
def x_by_b69 (N : Nat) (l3 : Int32) (l5 : Int32) (T : XS) : Option (Int32 × XS) :=
  (if l3 = 1 then
  some (l5, T)
  else
  (if l5 = 0 then
  some ((-2), T)
  else
  chk 4000 (l5 - 1) (
  some (T.2.1 14 (l5 - 1).toNatClampNeg, T))))
theorem wx_by_b69 {κ : jK} (hκ : jX κ) (N : Nat) {Γ : jG} (C : jC κ Γ cX0_by 6 RX0 (some .int)) {G : Nat → Nat} (l3 : Int32) (l5 : Int32) {v : Int32} {T' : XS} : ∀ (T : XS), x_by_b69 N l3 l5 T = some (v, T') → J κ Γ (232, 16, 1024, (fun u w' => u = some (.int v) ∧ w' = wX κ G T')) 6 (wX κ G T) 16 1024 69 [some (.ref (G 0)), none, none, some (.int l3), none, some (.int l5)] [] := by
  intro T h
  rw [x_by_b69] at h
  refine j_iload_n C dX0_by_69 rfl rfl ?_
  refine j_iconst C (v := 1) dX0_by_70 rfl ?_
  refine j_icmp_ne C dX0_by_71 (tgt := 79) (by decide) (fun c => ?_) (fun c => ?_)
  · replace h := im c h
    refine j_iload C dX0_by_79 rfl ?_
    refine j_if_ne C dX0_by_81 (tgt := 89) (by decide) (fun c => ?_) (fun c => ?_)
    · replace h := im c h
      refine j_aload_n C dX0_by_89 rfl rfl ?_
      refine jx_geta hκ C 14 (by decide) rfl rfl q203 dX0_by_90 ?_
      refine j_iload C dX0_by_93 rfl ?_
      refine j_iconst C (v := 1) dX0_by_95 rfl ?_
      refine j_isub C dX0_by_96 ?_
      obtain ⟨b1, h⟩ := chk_some h
      refine jx_iald hκ C 14 rfl rfl b1 dX0_by_97 ?_
      obtain ⟨rfl, rfl⟩ := sp2 h
      exact j_iret C dX0_by_98 (Nat.le_of_ble_eq_true rfl) (Nat.le_of_ble_eq_true rfl) ⟨rfl, rfl⟩
    replace h := ip c h
    refine j_bipush C (v := (-2)) dX0_by_84 rfl ?_
    refine j_goto C dX0_by_86 (tgt := 98) (by decide) ?_
    obtain ⟨rfl, rfl⟩ := sp2 h
    exact j_iret C dX0_by_98 (Nat.le_of_ble_eq_true rfl) (Nat.le_of_ble_eq_true rfl) ⟨rfl, rfl⟩
  replace h := ip c h
  refine j_iload C dX0_by_74 rfl ?_
  refine j_goto C dX0_by_76 (tgt := 98) (by decide) ?_
  obtain ⟨rfl, rfl⟩ := sp2 h
  exact j_iret C dX0_by_98 (Nat.le_of_ble_eq_true rfl) (Nat.le_of_ble_eq_true rfl) ⟨rfl, rfl⟩
def x_by_b43 (N : Nat) (l2 : Int32) (l3 : Int32) : Nat → XS → Int32 → Option (Int32 × XS)
  | 0, _, _ => none
  | n + 1, T, l5 =>
    (if (T.1 17) ≤ l5 then
    x_by_b69 N l3 l5 T
    else
    chk 4000 l5 (
    (if l2 < (T.2.1 15 l5.toNatClampNeg) then
    x_by_b69 N l3 l5 T
    else
    nm (l5 + 1) fun x2 =>
    x_by_b43 N l2 l3 n T x2)))
theorem wx_by_b43 {κ : jK} (hκ : jX κ) (N : Nat) {Γ : jG} (C : jC κ Γ cX0_by 6 RX0 (some .int)) {G : Nat → Nat} (l2 : Int32) (l3 : Int32) {v : Int32} {T' : XS} : ∀ (n : Nat) (T : XS) (l5 : Int32), x_by_b43 N l2 l3 n T l5 = some (v, T') → J κ Γ (232, 16, 1024, (fun u w' => u = some (.int v) ∧ w' = wX κ G T')) 6 (wX κ G T) 16 1024 43 [some (.ref (G 0)), none, some (.int l2), some (.int l3), none, some (.int l5)] [] := by
  intro n
  induction n with
  | zero => intro _ _ h; cases h
  | succ n ih =>
    intro T l5 h
    rw [x_by_b43] at h
    refine j_iload C dX0_by_43 rfl ?_
    refine j_aload_n C dX0_by_45 rfl rfl ?_
    refine jx_geti hκ C 17 (by decide) rfl q206 dX0_by_46 ?_
    refine j_icmp_ge C dX0_by_49 (tgt := 69) (by decide) (fun c => ?_) (fun c => ?_)
    · replace h := ip c h
      exact j_sub (wx_by_b69 hκ N C _ _ _ h) ⟨rfl, ⟨rfl, ⟨rfl, trivial⟩⟩⟩
    replace h := im c h
    refine j_aload_n C dX0_by_52 rfl rfl ?_
    refine jx_geta hκ C 15 (by decide) rfl rfl q204 dX0_by_53 ?_
    refine j_iload C dX0_by_56 rfl ?_
    obtain ⟨b1, h⟩ := chk_some h
    refine jx_iald hκ C 15 rfl rfl b1 dX0_by_58 ?_
    refine j_iload_n C dX0_by_59 rfl rfl ?_
    refine j_icmp_gt C dX0_by_60 (tgt := 69) (by decide) (fun c => ?_) (fun c => ?_)
    · replace h := ip c h
      exact j_sub (wx_by_b69 hκ N C _ _ _ h) ⟨rfl, ⟨rfl, ⟨rfl, trivial⟩⟩⟩
    replace h := im c h
    refine j_iincN C h dX0_by_63 rfl rfl (by decide) rfl (fun x2 h => ?_)
    refine j_goto C dX0_by_66 (tgt := 43) (by decide) ?_
    exact j_sub (ih _ _ h) ⟨rfl, ⟨rfl, ⟨rfl, ⟨rfl, trivial⟩⟩⟩⟩
def x_by (N : Nat) (T : XS) (p1 : Int32) (p2 : Int32) (p3 : Int32) : Option (Int32 × XS) :=
  (x_isShelf p1).bind fun v2 =>
  (if (b2i v2) = 0 then
  some ((-1), T)
  else
  (x_isMinute p2).bind fun v4 =>
  (if (b2i v4) = 0 then
  some ((-1), T)
  else
  (x_in p3 0 1).bind fun v6 =>
  (if (b2i v6) = 0 then
  some ((-1), T)
  else
  b2 (x_layForth N T p1) fun v8 T9 =>
  (if 0 ≤ v8 then
  x_by_b43 N p2 p3 N T9 0
  else
  some (v8, T9)))))
theorem mt_x_by {κ : jK} (hκ : jX κ) (N : Nat) (G : Nat → Nat) {T : XS} {p1 : Int32} {p2 : Int32} {p3 : Int32} {v : Int32} {T' : XS} (h : x_by N T p1 p2 p3 = some (v, T')) : jM κ yX0_by (ws_ yX0_by cX0_by 6 (some .int)) 232 16 1024 [.ref (G 0), .int p1, .int p2, .int p3] (wX κ G T) (fun u w' => u = some (.int v) ∧ w' = wX κ G T') := by
  rw [x_by] at h
  refine jM.of (by decide) rfl (Nat.le_of_ble_eq_true rfl) fun Γ C _ => ?_
  show J κ Γ (232, 16, 1024, (fun u w' => u = some (.int v) ∧ w' = wX κ G T')) 6 (wX κ G T) 0 0 0 [some (.ref (G 0)), some (.int p1), some (.int p2), some (.int p3), none, none] []
  refine j_iload_n C dX0_by_0 rfl rfl ?_
  obtain ⟨v2, e1, h⟩ := ob h
  refine j_Si hκ.1.1 C (mt_x_isShelf hκ e1) hG_x_isShelf hy_x_isShelf rfl dX0_by_1 (jfit.of (Nat.le_of_ble_eq_true rfl) (by decide) (Nat.le_of_ble_eq_true rfl) (Nat.le_of_ble_eq_true rfl) (Nat.le_of_ble_eq_true rfl)) rfl ?_
  refine j_if_eq C dX0_by_4 (tgt := 23) (by decide) (fun c => ?_) (fun c => ?_)
  · replace h := ip c h
    refine j_iconst C (v := (-1)) dX0_by_23 rfl ?_
    obtain ⟨rfl, rfl⟩ := sp2 h
    exact j_iret C dX0_by_24 (Nat.le_of_ble_eq_true rfl) (Nat.le_of_ble_eq_true rfl) ⟨rfl, rfl⟩
  replace h := im c h
  refine j_iload_n C dX0_by_7 rfl rfl ?_
  obtain ⟨v4, e3, h⟩ := ob h
  refine j_Si hκ.1.1 C (mt_x_isMinute hκ e3) hG_x_isMinute hy_x_isMinute rfl dX0_by_8 (jfit.of (Nat.le_of_ble_eq_true rfl) (by decide) (Nat.le_of_ble_eq_true rfl) (Nat.le_of_ble_eq_true rfl) (Nat.le_of_ble_eq_true rfl)) rfl ?_
  refine j_if_eq C dX0_by_11 (tgt := 23) (by decide) (fun c => ?_) (fun c => ?_)
  · replace h := ip c h
    refine j_iconst C (v := (-1)) dX0_by_23 rfl ?_
    obtain ⟨rfl, rfl⟩ := sp2 h
    exact j_iret C dX0_by_24 (Nat.le_of_ble_eq_true rfl) (Nat.le_of_ble_eq_true rfl) ⟨rfl, rfl⟩
  replace h := im c h
  refine j_iload_n C dX0_by_14 rfl rfl ?_
  refine j_iconst C (v := 0) dX0_by_15 rfl ?_
  refine j_iconst C (v := 1) dX0_by_16 rfl ?_
  obtain ⟨v6, e5, h⟩ := ob h
  refine j_Si hκ.1.1 C (mt_x_in hκ e5) hG_x_in hy_x_in rfl dX0_by_17 (jfit.of (Nat.le_of_ble_eq_true rfl) (by decide) (Nat.le_of_ble_eq_true rfl) (Nat.le_of_ble_eq_true rfl) (Nat.le_of_ble_eq_true rfl)) rfl ?_
  refine j_if_ne C dX0_by_20 (tgt := 25) (by decide) (fun c => ?_) (fun c => ?_)
  · replace h := im c h
    refine j_aload_n C dX0_by_25 rfl rfl ?_
    refine j_iload_n C dX0_by_26 rfl rfl ?_
    obtain ⟨v8, T9, e7, h⟩ := ob2 h
    refine jx_Wi hκ C (mt_x_layForth hκ N G e7) hG_x_layForth hy_x_layForth rfl rfl dX0_by_27 ⟨(Nat.le_of_ble_eq_true rfl), by decide, Nat.le_of_ble_eq_true rfl, Nat.le_of_ble_eq_true rfl, Nat.le_of_ble_eq_true rfl⟩ rfl ?_
    refine j_istore C dX0_by_30 (by decide) rfl ?_
    refine j_iload C dX0_by_32 rfl ?_
    refine j_if_ge C dX0_by_34 (tgt := 40) (by decide) (fun c => ?_) (fun c => ?_)
    · replace h := ip c h
      refine j_iconst C (v := 0) dX0_by_40 rfl ?_
      refine j_istore C dX0_by_41 (by decide) rfl ?_
      exact j_sub (wx_by_b43 hκ N C _ _ N _ _ h) ⟨rfl, ⟨rfl, ⟨rfl, ⟨rfl, trivial⟩⟩⟩⟩
    replace h := im c h
    refine j_iload C dX0_by_37 rfl ?_
    obtain ⟨rfl, rfl⟩ := sp2 h
    exact j_iret C dX0_by_39 (Nat.le_of_ble_eq_true rfl) (Nat.le_of_ble_eq_true rfl) ⟨rfl, rfl⟩
  replace h := ip c h
  refine j_iconst C (v := (-1)) dX0_by_23 rfl ?_
  obtain ⟨rfl, rfl⟩ := sp2 h
  exact j_iret C dX0_by_24 (Nat.le_of_ble_eq_true rfl) (Nat.le_of_ble_eq_true rfl) ⟨rfl, rfl⟩
/-! isSeen -/
def x_isSeen_b12 (N : Nat) (T : XS) (l1 : Int32) (l2 : Int32) (l3 : Int32) : Nat → Int32 → Option Bool
  | 0, _ => none
  | n + 1, l4 =>
    (if (T.1 17) ≤ l4 then
    some false
    else
    chk 4000 l4 (
    (if l2 < (T.2.1 15 l4.toNatClampNeg) then
    some false
    else
    chk 4000 l4 (
    (if (T.2.1 14 l4.toNatClampNeg) = l1 then
    chk 4000 l4 (
    (if ((T.2.1 15 l4.toNatClampNeg) + l3) ≤ l2 then
    nm (l4 + 1) fun x5 =>
    x_isSeen_b12 N T l1 l2 l3 n x5
    else
    some true))
    else
    nm (l4 + 1) fun x3 =>
    x_isSeen_b12 N T l1 l2 l3 n x3)))))
theorem wx_isSeen_b12 {κ : jK} (hκ : jX κ) (N : Nat) {Γ : jG} (C : jC κ Γ cX0_isSeen 5 RX0 (some .boolean)) {G : Nat → Nat} {T : XS} (l1 : Int32) (l2 : Int32) (l3 : Int32) {v : Bool} : ∀ (n : Nat) (l4 : Int32), x_isSeen_b12 N T l1 l2 l3 n l4 = some v → J κ Γ (1, 0, 0, (fun u w' => u = some (.int (b2i v)) ∧ w' = wX κ G T)) 5 (wX κ G T) 0 0 12 [some (.ref (G 0)), some (.int l1), some (.int l2), some (.int l3), some (.int l4)] [] := by
  intro n
  induction n with
  | zero => intro _ h; cases h
  | succ n ih =>
    intro l4 h
    rw [x_isSeen_b12] at h
    refine j_iload C dX0_isSeen_12 rfl ?_
    refine j_aload_n C dX0_isSeen_14 rfl rfl ?_
    refine jx_geti hκ C 17 (by decide) rfl q206 dX0_isSeen_15 ?_
    refine j_icmp_ge C dX0_isSeen_18 (tgt := 64) (by decide) (fun c => ?_) (fun c => ?_)
    · replace h := ip c h
      refine j_iconst C (v := 0) dX0_isSeen_64 rfl ?_
      obtain rfl := sp1 h
      exact j_zret C rfl dX0_isSeen_65 (Nat.le_of_ble_eq_true rfl) (Nat.le_of_ble_eq_true rfl) ⟨rfl, rfl⟩
    replace h := im c h
    refine j_aload_n C dX0_isSeen_21 rfl rfl ?_
    refine jx_geta hκ C 15 (by decide) rfl rfl q204 dX0_isSeen_22 ?_
    refine j_iload C dX0_isSeen_25 rfl ?_
    obtain ⟨b1, h⟩ := chk_some h
    refine jx_iald hκ C 15 rfl rfl b1 dX0_isSeen_27 ?_
    refine j_iload_n C dX0_isSeen_28 rfl rfl ?_
    refine j_icmp_gt C dX0_isSeen_29 (tgt := 64) (by decide) (fun c => ?_) (fun c => ?_)
    · replace h := ip c h
      refine j_iconst C (v := 0) dX0_isSeen_64 rfl ?_
      obtain rfl := sp1 h
      exact j_zret C rfl dX0_isSeen_65 (Nat.le_of_ble_eq_true rfl) (Nat.le_of_ble_eq_true rfl) ⟨rfl, rfl⟩
    replace h := im c h
    refine j_aload_n C dX0_isSeen_32 rfl rfl ?_
    refine jx_geta hκ C 14 (by decide) rfl rfl q203 dX0_isSeen_33 ?_
    refine j_iload C dX0_isSeen_36 rfl ?_
    obtain ⟨b2, h⟩ := chk_some h
    refine jx_iald hκ C 14 rfl rfl b2 dX0_isSeen_38 ?_
    refine j_iload_n C dX0_isSeen_39 rfl rfl ?_
    refine j_icmp_ne C dX0_isSeen_40 (tgt := 58) (by decide) (fun c => ?_) (fun c => ?_)
    · replace h := im c h
      refine j_iincN C h dX0_isSeen_58 rfl rfl (by decide) rfl (fun x3 h => ?_)
      refine j_goto C dX0_isSeen_61 (tgt := 12) (by decide) ?_
      exact j_sub (ih _ h) ⟨rfl, ⟨rfl, ⟨rfl, ⟨rfl, ⟨rfl, trivial⟩⟩⟩⟩⟩
    replace h := ip c h
    refine j_iload_n C dX0_isSeen_43 rfl rfl ?_
    refine j_aload_n C dX0_isSeen_44 rfl rfl ?_
    refine jx_geta hκ C 15 (by decide) rfl rfl q204 dX0_isSeen_45 ?_
    refine j_iload C dX0_isSeen_48 rfl ?_
    obtain ⟨b4, h⟩ := chk_some h
    refine jx_iald hκ C 15 rfl rfl b4 dX0_isSeen_50 ?_
    refine j_iload_n C dX0_isSeen_51 rfl rfl ?_
    refine j_iadd C dX0_isSeen_52 ?_
    refine j_icmp_ge C dX0_isSeen_53 (tgt := 58) (by decide) (fun c => ?_) (fun c => ?_)
    · replace h := ip c h
      refine j_iincN C h dX0_isSeen_58 rfl rfl (by decide) rfl (fun x5 h => ?_)
      refine j_goto C dX0_isSeen_61 (tgt := 12) (by decide) ?_
      exact j_sub (ih _ h) ⟨rfl, ⟨rfl, ⟨rfl, ⟨rfl, ⟨rfl, trivial⟩⟩⟩⟩⟩
    replace h := im c h
    refine j_iconst C (v := 1) dX0_isSeen_56 rfl ?_
    obtain rfl := sp1 h
    exact j_zret C rfl dX0_isSeen_57 (Nat.le_of_ble_eq_true rfl) (Nat.le_of_ble_eq_true rfl) ⟨rfl, rfl⟩
def x_isSeen (N : Nat) (T : XS) (p1 : Int32) (p2 : Int32) : Option Bool :=
  nm (jmax 1 (T.1 5)) fun x1 =>
  x_isSeen_b12 N T p1 p2 x1 N 0
theorem mt_x_isSeen {κ : jK} (hκ : jX κ) (N : Nat) (G : Nat → Nat) {T : XS} {p1 : Int32} {p2 : Int32} {v : Bool} (h : x_isSeen N T p1 p2 = some v) : jM κ yX0_isSeen (ws_ yX0_isSeen cX0_isSeen 5 (some .boolean)) 1 0 0 [.ref (G 0), .int p1, .int p2] (wX κ G T) (fun u w' => u = some (.int (b2i v)) ∧ w' = wX κ G T) := by
  rw [x_isSeen] at h
  refine jM.of (by decide) rfl (Nat.le_of_ble_eq_true rfl) fun Γ C _ => ?_
  show J κ Γ (1, 0, 0, (fun u w' => u = some (.int (b2i v)) ∧ w' = wX κ G T)) 5 (wX κ G T) 0 0 0 [some (.ref (G 0)), some (.int p1), some (.int p2), none, none] []
  refine j_iconst C (v := 1) dX0_isSeen_0 rfl ?_
  refine j_aload_n C dX0_isSeen_1 rfl rfl ?_
  refine jx_geti hκ C 5 (by decide) rfl q192 dX0_isSeen_2 ?_
  refine j_mmax C dX0_isSeen_5 q902 q695 q129 q696 (Nat.le_of_ble_eq_true rfl) (Nat.le_of_ble_eq_true rfl) (Nat.le_of_ble_eq_true rfl) (Nat.le_of_ble_eq_true rfl) ?_
  refine j_nmI h (fun x1 h => ?_)
  refine j_istore_n C dX0_isSeen_8 rfl (by decide) rfl ?_
  refine j_iconst C (v := 0) dX0_isSeen_9 rfl ?_
  refine j_istore C dX0_isSeen_10 (by decide) rfl ?_
  exact j_sub (wx_isSeen_b12 hκ N C _ _ _ N _ h) ⟨rfl, ⟨rfl, ⟨rfl, ⟨rfl, ⟨rfl, trivial⟩⟩⟩⟩⟩
/-! unseenIn -/
def x_unseenIn_b5 (N : Nat) (T : XS) (l1 : Int32) (l2 : Int32) : Nat → Int32 → Int32 → Option Int32
  | 0, _, _ => none
  | n + 1, l3, l4 =>
    (if (T.1 17) ≤ l4 then
    some (l2 - l3)
    else
    chk 4000 l4 (
    (if l2 < (T.2.1 15 l4.toNatClampNeg) then
    some (l2 - l3)
    else
    chk 4000 l4 (
    (if (T.2.1 14 l4.toNatClampNeg) = l1 then
    chk 4000 l4 (
    nm (T.2.1 15 l4.toNatClampNeg) fun x5 =>
    nm (l4 + 1) fun x6 =>
    x_unseenIn_b5 N T l1 l2 n x5 x6)
    else
    nm (l4 + 1) fun x3 =>
    x_unseenIn_b5 N T l1 l2 n l3 x3)))))
theorem wx_unseenIn_b5 {κ : jK} (hκ : jX κ) (N : Nat) {Γ : jG} (C : jC κ Γ cX0_unseenIn 5 RX0 (some .int)) {G : Nat → Nat} {T : XS} (l1 : Int32) (l2 : Int32) {v : Int32} : ∀ (n : Nat) (l3 : Int32) (l4 : Int32), x_unseenIn_b5 N T l1 l2 n l3 l4 = some v → J κ Γ (0, 0, 0, (fun u w' => u = some (.int v) ∧ w' = wX κ G T)) 5 (wX κ G T) 0 0 5 [some (.ref (G 0)), some (.int l1), some (.int l2), some (.int l3), some (.int l4)] [] := by
  intro n
  induction n with
  | zero => intro _ _ h; cases h
  | succ n ih =>
    intro l3 l4 h
    rw [x_unseenIn_b5] at h
    refine j_iload C dX0_unseenIn_5 rfl ?_
    refine j_aload_n C dX0_unseenIn_7 rfl rfl ?_
    refine jx_geti hκ C 17 (by decide) rfl q206 dX0_unseenIn_8 ?_
    refine j_icmp_ge C dX0_unseenIn_11 (tgt := 50) (by decide) (fun c => ?_) (fun c => ?_)
    · replace h := ip c h
      refine j_iload_n C dX0_unseenIn_50 rfl rfl ?_
      refine j_iload_n C dX0_unseenIn_51 rfl rfl ?_
      refine j_isub C dX0_unseenIn_52 ?_
      obtain rfl := sp1 h
      exact j_iret C dX0_unseenIn_53 (Nat.le_of_ble_eq_true rfl) (Nat.le_of_ble_eq_true rfl) ⟨rfl, rfl⟩
    replace h := im c h
    refine j_aload_n C dX0_unseenIn_14 rfl rfl ?_
    refine jx_geta hκ C 15 (by decide) rfl rfl q204 dX0_unseenIn_15 ?_
    refine j_iload C dX0_unseenIn_18 rfl ?_
    obtain ⟨b1, h⟩ := chk_some h
    refine jx_iald hκ C 15 rfl rfl b1 dX0_unseenIn_20 ?_
    refine j_iload_n C dX0_unseenIn_21 rfl rfl ?_
    refine j_icmp_gt C dX0_unseenIn_22 (tgt := 50) (by decide) (fun c => ?_) (fun c => ?_)
    · replace h := ip c h
      refine j_iload_n C dX0_unseenIn_50 rfl rfl ?_
      refine j_iload_n C dX0_unseenIn_51 rfl rfl ?_
      refine j_isub C dX0_unseenIn_52 ?_
      obtain rfl := sp1 h
      exact j_iret C dX0_unseenIn_53 (Nat.le_of_ble_eq_true rfl) (Nat.le_of_ble_eq_true rfl) ⟨rfl, rfl⟩
    replace h := im c h
    refine j_aload_n C dX0_unseenIn_25 rfl rfl ?_
    refine jx_geta hκ C 14 (by decide) rfl rfl q203 dX0_unseenIn_26 ?_
    refine j_iload C dX0_unseenIn_29 rfl ?_
    obtain ⟨b2, h⟩ := chk_some h
    refine jx_iald hκ C 14 rfl rfl b2 dX0_unseenIn_31 ?_
    refine j_iload_n C dX0_unseenIn_32 rfl rfl ?_
    refine j_icmp_ne C dX0_unseenIn_33 (tgt := 44) (by decide) (fun c => ?_) (fun c => ?_)
    · replace h := im c h
      refine j_iincN C h dX0_unseenIn_44 rfl rfl (by decide) rfl (fun x3 h => ?_)
      refine j_goto C dX0_unseenIn_47 (tgt := 5) (by decide) ?_
      exact j_sub (ih _ _ h) ⟨rfl, ⟨rfl, ⟨rfl, ⟨rfl, ⟨rfl, trivial⟩⟩⟩⟩⟩
    replace h := ip c h
    refine j_aload_n C dX0_unseenIn_36 rfl rfl ?_
    refine jx_geta hκ C 15 (by decide) rfl rfl q204 dX0_unseenIn_37 ?_
    refine j_iload C dX0_unseenIn_40 rfl ?_
    obtain ⟨b4, h⟩ := chk_some h
    refine jx_iald hκ C 15 rfl rfl b4 dX0_unseenIn_42 ?_
    refine j_nmI h (fun x5 h => ?_)
    refine j_istore_n C dX0_unseenIn_43 rfl (by decide) rfl ?_
    refine j_iincN C h dX0_unseenIn_44 rfl rfl (by decide) rfl (fun x6 h => ?_)
    refine j_goto C dX0_unseenIn_47 (tgt := 5) (by decide) ?_
    exact j_sub (ih _ _ h) ⟨rfl, ⟨rfl, ⟨rfl, ⟨rfl, ⟨rfl, trivial⟩⟩⟩⟩⟩
def x_unseenIn (N : Nat) (T : XS) (p1 : Int32) (p2 : Int32) : Option Int32 :=
  x_unseenIn_b5 N T p1 p2 N (-1) 0
theorem mt_x_unseenIn {κ : jK} (hκ : jX κ) (N : Nat) (G : Nat → Nat) {T : XS} {p1 : Int32} {p2 : Int32} {v : Int32} (h : x_unseenIn N T p1 p2 = some v) : jM κ yX0_unseenIn (ws_ yX0_unseenIn cX0_unseenIn 5 (some .int)) 0 0 0 [.ref (G 0), .int p1, .int p2] (wX κ G T) (fun u w' => u = some (.int v) ∧ w' = wX κ G T) := by
  rw [x_unseenIn] at h
  refine jM.of (by decide) rfl (Nat.le_of_ble_eq_true rfl) fun Γ C _ => ?_
  show J κ Γ (0, 0, 0, (fun u w' => u = some (.int v) ∧ w' = wX κ G T)) 5 (wX κ G T) 0 0 0 [some (.ref (G 0)), some (.int p1), some (.int p2), none, none] []
  refine j_iconst C (v := (-1)) dX0_unseenIn_0 rfl ?_
  refine j_istore_n C dX0_unseenIn_1 rfl (by decide) rfl ?_
  refine j_iconst C (v := 0) dX0_unseenIn_2 rfl ?_
  refine j_istore C dX0_unseenIn_3 (by decide) rfl ?_
  exact j_sub (wx_unseenIn_b5 hκ N C _ _ N _ _ h) ⟨rfl, ⟨rfl, ⟨rfl, ⟨rfl, ⟨rfl, trivial⟩⟩⟩⟩⟩
/-! unseen -/
def x_unseen (N : Nat) (T : XS) (p1 : Int32) (p2 : Int32) (p3 : Int32) (p4 : Int32) : Option (Int32 × XS) :=
  (x_isShelf p1).bind fun v2 =>
  (if (b2i v2) = 0 then
  some ((-1), T)
  else
  (x_isPost T p2).bind fun v4 =>
  (if (b2i v4) = 0 then
  some ((-1), T)
  else
  (x_isMinute p3).bind fun v6 =>
  (if (b2i v6) = 0 then
  some ((-1), T)
  else
  (x_in p4 0 1).bind fun v8 =>
  (if (b2i v8) = 0 then
  some ((-1), T)
  else
  b2 (x_layForth N T p1) fun v10 T11 =>
  (if 0 ≤ v10 then
  (if p4 = 0 then
  (x_unseenIn N T11 p2 p3).bind fun v15 =>
  some (v15, T11)
  else
  (x_isSeen N T11 p2 p3).bind fun v13 =>
  (if (b2i v13) = 0 then
  some (0, T11)
  else
  some (1, T11)))
  else
  some (v10, T11))))))
theorem mt_x_unseen {κ : jK} (hκ : jX κ) (N : Nat) (G : Nat → Nat) {T : XS} {p1 : Int32} {p2 : Int32} {p3 : Int32} {p4 : Int32} {v : Int32} {T' : XS} (h : x_unseen N T p1 p2 p3 p4 = some (v, T')) : jM κ yX0_unseen (ws_ yX0_unseen cX0_unseen 6 (some .int)) 232 16 1024 [.ref (G 0), .int p1, .int p2, .int p3, .int p4] (wX κ G T) (fun u w' => u = some (.int v) ∧ w' = wX κ G T') := by
  rw [x_unseen] at h
  refine jM.of (by decide) rfl (Nat.le_of_ble_eq_true rfl) fun Γ C _ => ?_
  show J κ Γ (232, 16, 1024, (fun u w' => u = some (.int v) ∧ w' = wX κ G T')) 6 (wX κ G T) 0 0 0 [some (.ref (G 0)), some (.int p1), some (.int p2), some (.int p3), some (.int p4), none] []
  refine j_iload_n C dX0_unseen_0 rfl rfl ?_
  obtain ⟨v2, e1, h⟩ := ob h
  refine j_Si hκ.1.1 C (mt_x_isShelf hκ e1) hG_x_isShelf hy_x_isShelf rfl dX0_unseen_1 (jfit.of (Nat.le_of_ble_eq_true rfl) (by decide) (Nat.le_of_ble_eq_true rfl) (Nat.le_of_ble_eq_true rfl) (Nat.le_of_ble_eq_true rfl)) rfl ?_
  refine j_if_eq C dX0_unseen_4 (tgt := 32) (by decide) (fun c => ?_) (fun c => ?_)
  · replace h := ip c h
    refine j_iconst C (v := (-1)) dX0_unseen_32 rfl ?_
    obtain ⟨rfl, rfl⟩ := sp2 h
    exact j_iret C dX0_unseen_33 (Nat.le_of_ble_eq_true rfl) (Nat.le_of_ble_eq_true rfl) ⟨rfl, rfl⟩
  replace h := im c h
  refine j_aload_n C dX0_unseen_7 rfl rfl ?_
  refine j_iload_n C dX0_unseen_8 rfl rfl ?_
  obtain ⟨v4, e3, h⟩ := ob h
  refine jx_Vi hκ C (mt_x_isPost hκ G e3) hG_x_isPost hy_x_isPost rfl rfl dX0_unseen_9 (jfit.of (Nat.le_of_ble_eq_true rfl) (by decide) (Nat.le_of_ble_eq_true rfl) (Nat.le_of_ble_eq_true rfl) (Nat.le_of_ble_eq_true rfl)) rfl ?_
  refine j_if_eq C dX0_unseen_12 (tgt := 32) (by decide) (fun c => ?_) (fun c => ?_)
  · replace h := ip c h
    refine j_iconst C (v := (-1)) dX0_unseen_32 rfl ?_
    obtain ⟨rfl, rfl⟩ := sp2 h
    exact j_iret C dX0_unseen_33 (Nat.le_of_ble_eq_true rfl) (Nat.le_of_ble_eq_true rfl) ⟨rfl, rfl⟩
  replace h := im c h
  refine j_iload_n C dX0_unseen_15 rfl rfl ?_
  obtain ⟨v6, e5, h⟩ := ob h
  refine j_Si hκ.1.1 C (mt_x_isMinute hκ e5) hG_x_isMinute hy_x_isMinute rfl dX0_unseen_16 (jfit.of (Nat.le_of_ble_eq_true rfl) (by decide) (Nat.le_of_ble_eq_true rfl) (Nat.le_of_ble_eq_true rfl) (Nat.le_of_ble_eq_true rfl)) rfl ?_
  refine j_if_eq C dX0_unseen_19 (tgt := 32) (by decide) (fun c => ?_) (fun c => ?_)
  · replace h := ip c h
    refine j_iconst C (v := (-1)) dX0_unseen_32 rfl ?_
    obtain ⟨rfl, rfl⟩ := sp2 h
    exact j_iret C dX0_unseen_33 (Nat.le_of_ble_eq_true rfl) (Nat.le_of_ble_eq_true rfl) ⟨rfl, rfl⟩
  replace h := im c h
  refine j_iload C dX0_unseen_22 rfl ?_
  refine j_iconst C (v := 0) dX0_unseen_24 rfl ?_
  refine j_iconst C (v := 1) dX0_unseen_25 rfl ?_
  obtain ⟨v8, e7, h⟩ := ob h
  refine j_Si hκ.1.1 C (mt_x_in hκ e7) hG_x_in hy_x_in rfl dX0_unseen_26 (jfit.of (Nat.le_of_ble_eq_true rfl) (by decide) (Nat.le_of_ble_eq_true rfl) (Nat.le_of_ble_eq_true rfl) (Nat.le_of_ble_eq_true rfl)) rfl ?_
  refine j_if_ne C dX0_unseen_29 (tgt := 34) (by decide) (fun c => ?_) (fun c => ?_)
  · replace h := im c h
    refine j_aload_n C dX0_unseen_34 rfl rfl ?_
    refine j_iload_n C dX0_unseen_35 rfl rfl ?_
    obtain ⟨v10, T11, e9, h⟩ := ob2 h
    refine jx_Wi hκ C (mt_x_layForth hκ N G e9) hG_x_layForth hy_x_layForth rfl rfl dX0_unseen_36 ⟨(Nat.le_of_ble_eq_true rfl), by decide, Nat.le_of_ble_eq_true rfl, Nat.le_of_ble_eq_true rfl, Nat.le_of_ble_eq_true rfl⟩ rfl ?_
    refine j_istore C dX0_unseen_39 (by decide) rfl ?_
    refine j_iload C dX0_unseen_41 rfl ?_
    refine j_if_ge C dX0_unseen_43 (tgt := 49) (by decide) (fun c => ?_) (fun c => ?_)
    · replace h := ip c h
      refine j_iload C dX0_unseen_49 rfl ?_
      refine j_if_ne C dX0_unseen_51 (tgt := 63) (by decide) (fun c => ?_) (fun c => ?_)
      · replace h := im c h
        refine j_aload_n C dX0_unseen_63 rfl rfl ?_
        refine j_iload_n C dX0_unseen_64 rfl rfl ?_
        refine j_iload_n C dX0_unseen_65 rfl rfl ?_
        obtain ⟨v13, e12, h⟩ := ob h
        refine jx_Vi hκ C (mt_x_isSeen hκ N G e12) hG_x_isSeen hy_x_isSeen rfl rfl dX0_unseen_66 (jfit.of (Nat.le_of_ble_eq_true rfl) (by decide) (Nat.le_of_ble_eq_true rfl) (Nat.le_of_ble_eq_true rfl) (Nat.le_of_ble_eq_true rfl)) rfl ?_
        refine j_if_eq C dX0_unseen_69 (tgt := 76) (by decide) (fun c => ?_) (fun c => ?_)
        · replace h := ip c h
          refine j_iconst C (v := 0) dX0_unseen_76 rfl ?_
          obtain ⟨rfl, rfl⟩ := sp2 h
          exact j_iret C dX0_unseen_77 (Nat.le_of_ble_eq_true rfl) (Nat.le_of_ble_eq_true rfl) ⟨rfl, rfl⟩
        replace h := im c h
        refine j_iconst C (v := 1) dX0_unseen_72 rfl ?_
        refine j_goto C dX0_unseen_73 (tgt := 77) (by decide) ?_
        obtain ⟨rfl, rfl⟩ := sp2 h
        exact j_iret C dX0_unseen_77 (Nat.le_of_ble_eq_true rfl) (Nat.le_of_ble_eq_true rfl) ⟨rfl, rfl⟩
      replace h := ip c h
      refine j_aload_n C dX0_unseen_54 rfl rfl ?_
      refine j_iload_n C dX0_unseen_55 rfl rfl ?_
      refine j_iload_n C dX0_unseen_56 rfl rfl ?_
      obtain ⟨v15, e14, h⟩ := ob h
      refine jx_Vi hκ C (mt_x_unseenIn hκ N G e14) hG_x_unseenIn hy_x_unseenIn rfl rfl dX0_unseen_57 (jfit.of (Nat.le_of_ble_eq_true rfl) (by decide) (Nat.le_of_ble_eq_true rfl) (Nat.le_of_ble_eq_true rfl) (Nat.le_of_ble_eq_true rfl)) rfl ?_
      refine j_goto C dX0_unseen_60 (tgt := 77) (by decide) ?_
      obtain ⟨rfl, rfl⟩ := sp2 h
      exact j_iret C dX0_unseen_77 (Nat.le_of_ble_eq_true rfl) (Nat.le_of_ble_eq_true rfl) ⟨rfl, rfl⟩
    replace h := im c h
    refine j_iload C dX0_unseen_46 rfl ?_
    obtain ⟨rfl, rfl⟩ := sp2 h
    exact j_iret C dX0_unseen_48 (Nat.le_of_ble_eq_true rfl) (Nat.le_of_ble_eq_true rfl) ⟨rfl, rfl⟩
  replace h := ip c h
  refine j_iconst C (v := (-1)) dX0_unseen_32 rfl ?_
  obtain ⟨rfl, rfl⟩ := sp2 h
  exact j_iret C dX0_unseen_33 (Nat.le_of_ble_eq_true rfl) (Nat.le_of_ble_eq_true rfl) ⟨rfl, rfl⟩
/-! gives -/
def x_gives_b5 (N : Nat) (T : XS) : Nat → (Option Nat) → Option Int32
  | 0, _ => none
  | n + 1, l1 =>
    (if l1 = none then
    some 0
    else
    (l1).bind fun a1 =>
    (getO T a1 6).bind fun q3 =>
    (if q3.2.2.1 0 = none then
    (l1).bind fun a5 =>
    (getO T a5 6).bind fun q7 =>
    (q7.2.2.1 1).bind fun a9 =>
    ((x_val 130) T a9).bind fun v11 =>
    some v11
    else
    (l1).bind fun a13 =>
    (getO T a13 6).bind fun q15 =>
    (q15.2.2.1 0).bind fun a17 =>
    ((x_val 130) T a17).bind fun v19 =>
    (if v19 = 0 then
    (l1).bind fun a21 =>
    (getO T a21 6).bind fun q23 =>
    x_gives_b5 N T n (q23.2.2.1 2)
    else
    (l1).bind fun a25 =>
    (getO T a25 6).bind fun q27 =>
    (q27.2.2.1 1).bind fun a29 =>
    ((x_val 130) T a29).bind fun v31 =>
    some v31)))
theorem wx_gives_b5 {κ : jK} (hκ : jX κ) (N : Nat) {Γ : jG} (C : jC κ Γ cX0_gives 2 RX0 (some .int)) {G : Nat → Nat} {T : XS}  {v : Int32} : ∀ (n : Nat) (l1 : (Option Nat)), x_gives_b5 N T n l1 = some v → J κ Γ (261, 0, 0, (fun u w' => u = some (.int v) ∧ w' = wX κ G T)) 2 (wX κ G T) 0 0 5 [some (.ref (G 0)), some (va_rf l1)] [] := by
  intro n
  induction n with
  | zero => intro _ h; cases h
  | succ n ih =>
    intro l1 h
    rw [x_gives_b5] at h
    refine j_aloadE_n C (e := l1) dX0_gives_5 rfl rfl ?_
    refine j_ifnull C dX0_gives_6 (tgt := 50) (by decide) (fun c => ?_) (fun c => ?_)
    · replace h := ip c h
      refine j_iconst C (v := 0) dX0_gives_50 rfl ?_
      obtain rfl := sp1 h
      exact j_iret C dX0_gives_51 (Nat.le_of_ble_eq_true rfl) (Nat.le_of_ble_eq_true rfl) ⟨rfl, rfl⟩
    replace h := im c h
    refine j_aloadE_n C (e := l1) dX0_gives_9 rfl rfl ?_
    obtain ⟨a1, w2, h⟩ := ob h
    refine j_nn w2 ?_
    obtain ⟨q3, g4, h⟩ := ob h
    refine jx_gr6N hκ C g4 0 (by decide) rfl q621 dX0_gives_10 ?_
    refine j_ifnull C dX0_gives_13 (tgt := 30) (by decide) (fun c => ?_) (fun c => ?_)
    · replace h := ip c h
      refine j_aloadE_n C (e := l1) dX0_gives_30 rfl rfl ?_
      obtain ⟨a5, w6, h⟩ := ob h
      refine j_nn w6 ?_
      obtain ⟨q7, g8, h⟩ := ob h
      refine jx_gr6N hκ C g8 1 (by decide) rfl q623 dX0_gives_31 ?_
      refine j_aload_n C dX0_gives_34 rfl rfl ?_
      refine jx_geta hκ C 12 (by decide) rfl rfl q201 dX0_gives_35 ?_
      obtain ⟨a9, w10, h⟩ := ob h
      obtain ⟨v11, e12, h⟩ := ob h
      refine jx_value hκ C (mt_x_val hκ G 130) jUV_X0 w10 e12 dX0_gives_38 (Nat.le_of_ble_eq_true rfl) (Nat.le_of_ble_eq_true rfl) (Nat.le_of_ble_eq_true rfl) (Nat.le_of_ble_eq_true rfl) ?_
      obtain rfl := sp1 h
      exact j_iret C dX0_gives_41 (Nat.le_of_ble_eq_true rfl) (Nat.le_of_ble_eq_true rfl) ⟨rfl, rfl⟩
    replace h := im c h
    refine j_aloadE_n C (e := l1) dX0_gives_16 rfl rfl ?_
    obtain ⟨a13, w14, h⟩ := ob h
    refine j_nn w14 ?_
    obtain ⟨q15, g16, h⟩ := ob h
    refine jx_gr6N hκ C g16 0 (by decide) rfl q621 dX0_gives_17 ?_
    refine j_aload_n C dX0_gives_20 rfl rfl ?_
    refine jx_geta hκ C 12 (by decide) rfl rfl q201 dX0_gives_21 ?_
    obtain ⟨a17, w18, h⟩ := ob h
    obtain ⟨v19, e20, h⟩ := ob h
    refine jx_value hκ C (mt_x_val hκ G 130) jUV_X0 w18 e20 dX0_gives_24 (Nat.le_of_ble_eq_true rfl) (Nat.le_of_ble_eq_true rfl) (Nat.le_of_ble_eq_true rfl) (Nat.le_of_ble_eq_true rfl) ?_
    refine j_if_eq C dX0_gives_27 (tgt := 42) (by decide) (fun c => ?_) (fun c => ?_)
    · replace h := ip c h
      refine j_aloadE_n C (e := l1) dX0_gives_42 rfl rfl ?_
      obtain ⟨a21, w22, h⟩ := ob h
      refine j_nn w22 ?_
      obtain ⟨q23, g24, h⟩ := ob h
      refine jx_gr6N hκ C g24 2 (by decide) rfl q625 dX0_gives_43 ?_
      refine j_astoreE_n C (e := q23.2.2.1 2) dX0_gives_46 rfl (by decide) rfl ?_
      refine j_goto C dX0_gives_47 (tgt := 5) (by decide) ?_
      exact j_sub (ih _ h) ⟨rfl, ⟨rfl, trivial⟩⟩
    replace h := im c h
    refine j_aloadE_n C (e := l1) dX0_gives_30 rfl rfl ?_
    obtain ⟨a25, w26, h⟩ := ob h
    refine j_nn w26 ?_
    obtain ⟨q27, g28, h⟩ := ob h
    refine jx_gr6N hκ C g28 1 (by decide) rfl q623 dX0_gives_31 ?_
    refine j_aload_n C dX0_gives_34 rfl rfl ?_
    refine jx_geta hκ C 12 (by decide) rfl rfl q201 dX0_gives_35 ?_
    obtain ⟨a29, w30, h⟩ := ob h
    obtain ⟨v31, e32, h⟩ := ob h
    refine jx_value hκ C (mt_x_val hκ G 130) jUV_X0 w30 e32 dX0_gives_38 (Nat.le_of_ble_eq_true rfl) (Nat.le_of_ble_eq_true rfl) (Nat.le_of_ble_eq_true rfl) (Nat.le_of_ble_eq_true rfl) ?_
    obtain rfl := sp1 h
    exact j_iret C dX0_gives_41 (Nat.le_of_ble_eq_true rfl) (Nat.le_of_ble_eq_true rfl) ⟨rfl, rfl⟩
def x_gives (N : Nat) (T : XS) : Option Int32 :=
  x_gives_b5 N T N (T.2.2.1 11 0)
theorem mt_x_gives {κ : jK} (hκ : jX κ) (N : Nat) (G : Nat → Nat) {T : XS} {v : Int32} (h : x_gives N T = some v) : jM κ yX0_gives (ws_ yX0_gives cX0_gives 2 (some .int)) 261 0 0 [.ref (G 0)] (wX κ G T) (fun u w' => u = some (.int v) ∧ w' = wX κ G T) := by
  rw [x_gives] at h
  refine jM.of (by decide) rfl (Nat.le_of_ble_eq_true rfl) fun Γ C _ => ?_
  show J κ Γ (261, 0, 0, (fun u w' => u = some (.int v) ∧ w' = wX κ G T)) 2 (wX κ G T) 0 0 0 [some (.ref (G 0)), none] []
  refine j_aload_n C dX0_gives_0 rfl rfl ?_
  refine jx_getlaw hκ C q200 dX0_gives_1 ?_
  refine j_astoreE_n C (e := T.2.2.1 11 0) dX0_gives_4 rfl (by decide) rfl ?_
  exact j_sub (wx_gives_b5 hκ N C N _ h) ⟨rfl, ⟨rfl, trivial⟩⟩
/-! lostIn -/
def x_lostIn (N : Nat) (T : XS) (p1 : Int32) (p2 : Int32) (p3 : Int32) : Option (Int32 × XS) :=
  chk 9 p1 (
  (T.2.2.1 0 p1.toNatClampNeg).bind fun a2 =>
  (getO T a2 3).bind fun q4 =>
  nm (((q4.2.1 2) * p3) / 10) fun x6 =>
  (if T.2.2.1 11 0 = none then
  some ((jmax 0 (jmin 99 x6)), T)
  else
  (f_clear N T).bind fun T11 =>
  (getO T11 a2 3).bind fun q12 =>
  nm (xA T11 49 118 (q12.2.1 2)) fun T14 =>
  nm (xA T14 49 117 p3) fun T15 =>
  nm (xA T15 49 109 p2) fun T16 =>
  (getO T16 a2 3).bind fun q17 =>
  nm (xA T16 49 100 (q17.2.1 3)) fun T19 =>
  nm (xA T19 49 112 p1) fun T20 =>
  nm (xA T20 49 110 (T20.1 16)) fun T21 =>
  (x_gives N T21).bind fun v23 =>
  some ((jmax 0 (jmin 99 v23)), T21)))
theorem mt_x_lostIn {κ : jK} (hκ : jX κ) (N : Nat) (G : Nat → Nat) {T : XS} {p1 : Int32} {p2 : Int32} {p3 : Int32} {v : Int32} {T' : XS} (h : x_lostIn N T p1 p2 p3 = some (v, T')) : jM κ yX0_lostIn (ws_ yX0_lostIn cX0_lostIn 6 (some .int)) 262 0 0 [.ref (G 0), .int p1, .int p2, .int p3] (wX κ G T) (fun u w' => u = some (.int v) ∧ w' = wX κ G T') := by
  rw [x_lostIn] at h
  refine jM.of (by decide) rfl (Nat.le_of_ble_eq_true rfl) fun Γ C _ => ?_
  show J κ Γ (262, 0, 0, (fun u w' => u = some (.int v) ∧ w' = wX κ G T')) 6 (wX κ G T) 0 0 0 [some (.ref (G 0)), some (.int p1), some (.int p2), some (.int p3), none, none] []
  refine j_aload_n C dX0_lostIn_0 rfl rfl ?_
  refine jx_geta hκ C 0 (by decide) rfl rfl q187 dX0_lostIn_1 ?_
  refine j_iload_n C dX0_lostIn_4 rfl rfl ?_
  obtain ⟨b1, h⟩ := chk_some h
  obtain ⟨a2, w3, h⟩ := ob h
  refine jx_aaldP hκ C 0 rfl rfl b1 w3 dX0_lostIn_5 ?_
  refine j_astore C dX0_lostIn_6 (by decide) rfl ?_
  refine j_aload C dX0_lostIn_8 rfl ?_
  obtain ⟨q4, g5, h⟩ := ob h
  refine jx_gi3N hκ C g5 2 (by decide) rfl q362 dX0_lostIn_10 ?_
  refine j_iload_n C dX0_lostIn_13 rfl rfl ?_
  refine j_imul C dX0_lostIn_14 ?_
  refine j_bipush C (v := 10) dX0_lostIn_15 rfl ?_
  refine j_idiv C dX0_lostIn_17 (by decide) ?_
  refine j_nmI h (fun x6 h => ?_)
  refine j_istore C dX0_lostIn_18 (by decide) rfl ?_
  refine j_aload_n C dX0_lostIn_20 rfl rfl ?_
  refine jx_getlaw hκ C q200 dX0_lostIn_21 ?_
  refine j_ifnull C dX0_lostIn_24 (tgt := 117) (by decide) (fun c => ?_) (fun c => ?_)
  · replace h := ip c h
    refine j_iconst C (v := 0) dX0_lostIn_117 rfl ?_
    refine j_bipush C (v := 99) dX0_lostIn_118 rfl ?_
    refine j_iload C dX0_lostIn_120 rfl ?_
    refine j_mmin C dX0_lostIn_122 q947 q698 q129 q699 (Nat.le_of_ble_eq_true rfl) (Nat.le_of_ble_eq_true rfl) (Nat.le_of_ble_eq_true rfl) (Nat.le_of_ble_eq_true rfl) ?_
    refine j_mmax C dX0_lostIn_125 q902 q695 q129 q696 (Nat.le_of_ble_eq_true rfl) (Nat.le_of_ble_eq_true rfl) (Nat.le_of_ble_eq_true rfl) (Nat.le_of_ble_eq_true rfl) ?_
    obtain ⟨rfl, rfl⟩ := sp2 h
    exact j_iret C dX0_lostIn_128 (Nat.le_of_ble_eq_true rfl) (Nat.le_of_ble_eq_true rfl) ⟨rfl, rfl⟩
  replace h := im c h
  refine j_aload_n C dX0_lostIn_27 rfl rfl ?_
  refine jx_geta hκ C 12 (by decide) rfl rfl q201 dX0_lostIn_28 ?_
  obtain ⟨T11, e7, h⟩ := ob h
  refine jx_Fv hκ C (mt_f_clear hκ N G e7) hG_f_clear_x hy_f_clear rfl rfl dX0_lostIn_31 (jfit.of (Nat.le_of_ble_eq_true rfl) (by decide) (Nat.le_of_ble_eq_true rfl) (Nat.le_of_ble_eq_true rfl) (Nat.le_of_ble_eq_true rfl)) rfl ?_
  refine j_aload_n C dX0_lostIn_34 rfl rfl ?_
  refine jx_geta hκ C 12 (by decide) rfl rfl q201 dX0_lostIn_35 ?_
  refine jx_gnamedN hκ C q177 dX0_lostIn_38 ?_
  refine j_bipush C (v := 118) dX0_lostIn_41 rfl ?_
  refine j_aload C dX0_lostIn_43 rfl ?_
  obtain ⟨q12, g13, h⟩ := ob h
  refine jx_gi3N hκ C g13 2 (by decide) rfl q362 dX0_lostIn_45 ?_
  refine jx_iastK hκ C 49 118 rfl rfl rfl (vp_k rfl) dX0_lostIn_48 ?_
  refine jx_nmT h (fun T14 h => ?_)
  refine j_aload_n C dX0_lostIn_49 rfl rfl ?_
  refine jx_geta hκ C 12 (by decide) rfl rfl q201 dX0_lostIn_50 ?_
  refine jx_gnamedN hκ C q177 dX0_lostIn_53 ?_
  refine j_bipush C (v := 117) dX0_lostIn_56 rfl ?_
  refine j_iload_n C dX0_lostIn_58 rfl rfl ?_
  refine jx_iastK hκ C 49 117 rfl rfl rfl (vp_k rfl) dX0_lostIn_59 ?_
  refine jx_nmT h (fun T15 h => ?_)
  refine j_aload_n C dX0_lostIn_60 rfl rfl ?_
  refine jx_geta hκ C 12 (by decide) rfl rfl q201 dX0_lostIn_61 ?_
  refine jx_gnamedN hκ C q177 dX0_lostIn_64 ?_
  refine j_bipush C (v := 109) dX0_lostIn_67 rfl ?_
  refine j_iload_n C dX0_lostIn_69 rfl rfl ?_
  refine jx_iastK hκ C 49 109 rfl rfl rfl (vp_k rfl) dX0_lostIn_70 ?_
  refine jx_nmT h (fun T16 h => ?_)
  refine j_aload_n C dX0_lostIn_71 rfl rfl ?_
  refine jx_geta hκ C 12 (by decide) rfl rfl q201 dX0_lostIn_72 ?_
  refine jx_gnamedN hκ C q177 dX0_lostIn_75 ?_
  refine j_bipush C (v := 100) dX0_lostIn_78 rfl ?_
  refine j_aload C dX0_lostIn_80 rfl ?_
  obtain ⟨q17, g18, h⟩ := ob h
  refine jx_gi3N hκ C g18 3 (by decide) rfl q364 dX0_lostIn_82 ?_
  refine jx_iastK hκ C 49 100 rfl rfl rfl (vp_k rfl) dX0_lostIn_85 ?_
  refine jx_nmT h (fun T19 h => ?_)
  refine j_aload_n C dX0_lostIn_86 rfl rfl ?_
  refine jx_geta hκ C 12 (by decide) rfl rfl q201 dX0_lostIn_87 ?_
  refine jx_gnamedN hκ C q177 dX0_lostIn_90 ?_
  refine j_bipush C (v := 112) dX0_lostIn_93 rfl ?_
  refine j_iload_n C dX0_lostIn_95 rfl rfl ?_
  refine jx_iastK hκ C 49 112 rfl rfl rfl (vp_k rfl) dX0_lostIn_96 ?_
  refine jx_nmT h (fun T20 h => ?_)
  refine j_aload_n C dX0_lostIn_97 rfl rfl ?_
  refine jx_geta hκ C 12 (by decide) rfl rfl q201 dX0_lostIn_98 ?_
  refine jx_gnamedN hκ C q177 dX0_lostIn_101 ?_
  refine j_bipush C (v := 110) dX0_lostIn_104 rfl ?_
  refine j_aload_n C dX0_lostIn_106 rfl rfl ?_
  refine jx_geti hκ C 16 (by decide) rfl q205 dX0_lostIn_107 ?_
  refine jx_iastK hκ C 49 110 rfl rfl rfl (vp_k rfl) dX0_lostIn_110 ?_
  refine jx_nmT h (fun T21 h => ?_)
  refine j_aload_n C dX0_lostIn_111 rfl rfl ?_
  obtain ⟨v23, e22, h⟩ := ob h
  refine jx_Vi hκ C (mt_x_gives hκ N G e22) hG_x_gives hy_x_gives rfl rfl dX0_lostIn_112 (jfit.of (Nat.le_of_ble_eq_true rfl) (by decide) (Nat.le_of_ble_eq_true rfl) (Nat.le_of_ble_eq_true rfl) (Nat.le_of_ble_eq_true rfl)) rfl ?_
  refine j_istore C dX0_lostIn_115 (by decide) rfl ?_
  refine j_iconst C (v := 0) dX0_lostIn_117 rfl ?_
  refine j_bipush C (v := 99) dX0_lostIn_118 rfl ?_
  refine j_iload C dX0_lostIn_120 rfl ?_
  refine j_mmin C dX0_lostIn_122 q947 q698 q129 q699 (Nat.le_of_ble_eq_true rfl) (Nat.le_of_ble_eq_true rfl) (Nat.le_of_ble_eq_true rfl) (Nat.le_of_ble_eq_true rfl) ?_
  refine j_mmax C dX0_lostIn_125 q902 q695 q129 q696 (Nat.le_of_ble_eq_true rfl) (Nat.le_of_ble_eq_true rfl) (Nat.le_of_ble_eq_true rfl) (Nat.le_of_ble_eq_true rfl) ?_
  obtain ⟨rfl, rfl⟩ := sp2 h
  exact j_iret C dX0_lostIn_128 (Nat.le_of_ble_eq_true rfl) (Nat.le_of_ble_eq_true rfl) ⟨rfl, rfl⟩
/-! lostAt -/
def x_lostAt_b105 (N : Nat) (l1 : Int32) (l2 : Int32) (l3 : Int32) (l4 : Int32) (l5 : Int32) (l6 : Int32) (l7 : Int32) (l8 : Int32) (l9 : Int32) (k25 : XS → Int32 → Int32 → Int32 → Int32 → Int32 → Option (Int32 × XS)) (T : XS) : Option (Int32 × XS) :=
  b2 (x_lostIn N T l1 l9 (l9 - l5)) fun v2 T3 =>
  nm (l8 + v2) fun x4 =>
  nm (l9 + 1) fun x5 =>
  k25 T3 l5 l6 l7 x4 x5
theorem wx_lostAt_b105 {κ : jK} (hκ : jX κ) (N : Nat) {Γ : jG} (C : jC κ Γ cX0_lostAt 10 RX0 (some .int)) {G : Nat → Nat} (l1 : Int32) (l2 : Int32) (l3 : Int32) (l4 : Int32) (l5 : Int32) (l6 : Int32) (l7 : Int32) (l8 : Int32) (l9 : Int32) (k25 : XS → Int32 → Int32 → Int32 → Int32 → Int32 → Option (Int32 × XS)) {v : Int32} {T' : XS} (hk25 : ∀ (T : XS) (l5 : Int32) (l6 : Int32) (l7 : Int32) (l8 : Int32) (l9 : Int32), k25 T l5 l6 l7 l8 l9 = some (v, T') → J κ Γ (263, 0, 0, (fun u w' => u = some (.int v) ∧ w' = wX κ G T')) 10 (wX κ G T) 0 0 25 [some (.ref (G 0)), some (.int l1), some (.int l2), some (.int l3), some (.int l4), some (.int l5), some (.int l6), some (.int l7), some (.int l8), some (.int l9)] []) : ∀ (T : XS), x_lostAt_b105 N l1 l2 l3 l4 l5 l6 l7 l8 l9 k25 T = some (v, T') → J κ Γ (263, 0, 0, (fun u w' => u = some (.int v) ∧ w' = wX κ G T')) 10 (wX κ G T) 0 0 105 [some (.ref (G 0)), some (.int l1), some (.int l2), some (.int l3), some (.int l4), some (.int l5), some (.int l6), some (.int l7), some (.int l8), some (.int l9)] [] := by
  intro T h
  rw [x_lostAt_b105] at h
  refine j_iload C dX0_lostAt_105 rfl ?_
  refine j_aload_n C dX0_lostAt_107 rfl rfl ?_
  refine j_iload_n C dX0_lostAt_108 rfl rfl ?_
  refine j_iload C dX0_lostAt_109 rfl ?_
  refine j_iload C dX0_lostAt_111 rfl ?_
  refine j_iload C dX0_lostAt_113 rfl ?_
  refine j_isub C dX0_lostAt_115 ?_
  obtain ⟨v2, T3, e1, h⟩ := ob2 h
  refine jx_Vi hκ C (mt_x_lostIn hκ N G e1) hG_x_lostIn hy_x_lostIn rfl rfl dX0_lostAt_116 (jfit.of (Nat.le_of_ble_eq_true rfl) (by decide) (Nat.le_of_ble_eq_true rfl) (Nat.le_of_ble_eq_true rfl) (Nat.le_of_ble_eq_true rfl)) rfl ?_
  refine j_iadd C dX0_lostAt_119 ?_
  refine j_nmI h (fun x4 h => ?_)
  refine j_istore C dX0_lostAt_120 (by decide) rfl ?_
  refine j_iincN C h dX0_lostAt_122 rfl rfl (by decide) rfl (fun x5 h => ?_)
  refine j_goto C dX0_lostAt_125 (tgt := 25) (by decide) ?_
  exact j_sub (hk25 _ _ _ _ _ _ h) ⟨rfl, ⟨rfl, ⟨rfl, ⟨rfl, ⟨rfl, ⟨rfl, ⟨rfl, ⟨rfl, ⟨rfl, ⟨rfl, trivial⟩⟩⟩⟩⟩⟩⟩⟩⟩⟩
def x_lostAt_b84 (N : Nat) (l1 : Int32) (l2 : Int32) (l3 : Int32) (l4 : Int32) (l5 : Int32) (l6 : Int32) (l7 : Int32) (l8 : Int32) (l9 : Int32) (k25 : XS → Int32 → Int32 → Int32 → Int32 → Int32 → Option (Int32 × XS)) (T : XS) : Option (Int32 × XS) :=
  (if l9 < l2 then
  nm (l9 + 1) fun x1 =>
  k25 T l5 l6 l7 l8 x1
  else
  (if l6 = 0 then
  x_lostAt_b105 N l1 l2 l3 l4 l5 l6 l7 l8 l9 k25 T
  else
  (if l9 < (l5 + l4) then
  nm (l9 + 1) fun x2 =>
  k25 T l5 l6 l7 l8 x2
  else
  x_lostAt_b105 N l1 l2 l3 l4 l5 l6 l7 l8 l9 k25 T)))
theorem wx_lostAt_b84 {κ : jK} (hκ : jX κ) (N : Nat) {Γ : jG} (C : jC κ Γ cX0_lostAt 10 RX0 (some .int)) {G : Nat → Nat} (l1 : Int32) (l2 : Int32) (l3 : Int32) (l4 : Int32) (l5 : Int32) (l6 : Int32) (l7 : Int32) (l8 : Int32) (l9 : Int32) (k25 : XS → Int32 → Int32 → Int32 → Int32 → Int32 → Option (Int32 × XS)) {v : Int32} {T' : XS} (hk25 : ∀ (T : XS) (l5 : Int32) (l6 : Int32) (l7 : Int32) (l8 : Int32) (l9 : Int32), k25 T l5 l6 l7 l8 l9 = some (v, T') → J κ Γ (263, 0, 0, (fun u w' => u = some (.int v) ∧ w' = wX κ G T')) 10 (wX κ G T) 0 0 25 [some (.ref (G 0)), some (.int l1), some (.int l2), some (.int l3), some (.int l4), some (.int l5), some (.int l6), some (.int l7), some (.int l8), some (.int l9)] []) : ∀ (T : XS), x_lostAt_b84 N l1 l2 l3 l4 l5 l6 l7 l8 l9 k25 T = some (v, T') → J κ Γ (263, 0, 0, (fun u w' => u = some (.int v) ∧ w' = wX κ G T')) 10 (wX κ G T) 0 0 84 [some (.ref (G 0)), some (.int l1), some (.int l2), some (.int l3), some (.int l4), some (.int l5), some (.int l6), some (.int l7), some (.int l8), some (.int l9)] [] := by
  intro T h
  rw [x_lostAt_b84] at h
  refine j_iload C dX0_lostAt_84 rfl ?_
  refine j_iload_n C dX0_lostAt_86 rfl rfl ?_
  refine j_icmp_lt C dX0_lostAt_87 (tgt := 122) (by decide) (fun c => ?_) (fun c => ?_)
  · replace h := ip c h
    refine j_iincN C h dX0_lostAt_122 rfl rfl (by decide) rfl (fun x1 h => ?_)
    refine j_goto C dX0_lostAt_125 (tgt := 25) (by decide) ?_
    exact j_sub (hk25 _ _ _ _ _ _ h) ⟨rfl, ⟨rfl, ⟨rfl, ⟨rfl, ⟨rfl, ⟨rfl, ⟨rfl, ⟨rfl, ⟨rfl, ⟨rfl, trivial⟩⟩⟩⟩⟩⟩⟩⟩⟩⟩
  replace h := im c h
  refine j_iload C dX0_lostAt_90 rfl ?_
  refine j_if_eq C dX0_lostAt_92 (tgt := 105) (by decide) (fun c => ?_) (fun c => ?_)
  · replace h := ip c h
    exact j_sub (wx_lostAt_b105 hκ N C _ _ _ _ _ _ _ _ _ _ hk25 _ h) ⟨rfl, ⟨rfl, ⟨rfl, ⟨rfl, ⟨rfl, ⟨rfl, ⟨rfl, ⟨rfl, ⟨rfl, ⟨rfl, trivial⟩⟩⟩⟩⟩⟩⟩⟩⟩⟩
  replace h := im c h
  refine j_iload C dX0_lostAt_95 rfl ?_
  refine j_iload C dX0_lostAt_97 rfl ?_
  refine j_iload C dX0_lostAt_99 rfl ?_
  refine j_iadd C dX0_lostAt_101 ?_
  refine j_icmp_lt C dX0_lostAt_102 (tgt := 122) (by decide) (fun c => ?_) (fun c => ?_)
  · replace h := ip c h
    refine j_iincN C h dX0_lostAt_122 rfl rfl (by decide) rfl (fun x2 h => ?_)
    refine j_goto C dX0_lostAt_125 (tgt := 25) (by decide) ?_
    exact j_sub (hk25 _ _ _ _ _ _ h) ⟨rfl, ⟨rfl, ⟨rfl, ⟨rfl, ⟨rfl, ⟨rfl, ⟨rfl, ⟨rfl, ⟨rfl, ⟨rfl, trivial⟩⟩⟩⟩⟩⟩⟩⟩⟩⟩
  replace h := im c h
  exact j_sub (wx_lostAt_b105 hκ N C _ _ _ _ _ _ _ _ _ _ hk25 _ h) ⟨rfl, ⟨rfl, ⟨rfl, ⟨rfl, ⟨rfl, ⟨rfl, ⟨rfl, ⟨rfl, ⟨rfl, ⟨rfl, trivial⟩⟩⟩⟩⟩⟩⟩⟩⟩⟩
def x_lostAt_b31 (N : Nat) (l1 : Int32) (l2 : Int32) (l3 : Int32) (l4 : Int32) (l8 : Int32) (l9 : Int32) (k25 : XS → Int32 → Int32 → Int32 → Int32 → Int32 → Option (Int32 × XS)) : Nat → XS → Int32 → Int32 → Int32 → Option (Int32 × XS)
  | 0, _, _, _, _ => none
  | n + 1, T, l5, l6, l7 =>
    (if (T.1 17) ≤ l7 then
    x_lostAt_b84 N l1 l2 l3 l4 l5 l6 l7 l8 l9 k25 T
    else
    chk 4000 l7 (
    (if l9 < (T.2.1 15 l7.toNatClampNeg) then
    x_lostAt_b84 N l1 l2 l3 l4 l5 l6 l7 l8 l9 k25 T
    else
    chk 4000 l7 (
    (if (T.2.1 14 l7.toNatClampNeg) = l1 then
    chk 4000 l7 (
    nm (T.2.1 15 l7.toNatClampNeg) fun x4 =>
    nm (l7 + 1) fun x5 =>
    x_lostAt_b31 N l1 l2 l3 l4 l8 l9 k25 n T x4 1 x5)
    else
    nm (l7 + 1) fun x6 =>
    x_lostAt_b31 N l1 l2 l3 l4 l8 l9 k25 n T l5 l6 x6)))))
theorem wx_lostAt_b31 {κ : jK} (hκ : jX κ) (N : Nat) {Γ : jG} (C : jC κ Γ cX0_lostAt 10 RX0 (some .int)) {G : Nat → Nat} (l1 : Int32) (l2 : Int32) (l3 : Int32) (l4 : Int32) (l8 : Int32) (l9 : Int32) (k25 : XS → Int32 → Int32 → Int32 → Int32 → Int32 → Option (Int32 × XS)) {v : Int32} {T' : XS} (hk25 : ∀ (T : XS) (l5 : Int32) (l6 : Int32) (l7 : Int32) (l8 : Int32) (l9 : Int32), k25 T l5 l6 l7 l8 l9 = some (v, T') → J κ Γ (263, 0, 0, (fun u w' => u = some (.int v) ∧ w' = wX κ G T')) 10 (wX κ G T) 0 0 25 [some (.ref (G 0)), some (.int l1), some (.int l2), some (.int l3), some (.int l4), some (.int l5), some (.int l6), some (.int l7), some (.int l8), some (.int l9)] []) : ∀ (n : Nat) (T : XS) (l5 : Int32) (l6 : Int32) (l7 : Int32), x_lostAt_b31 N l1 l2 l3 l4 l8 l9 k25 n T l5 l6 l7 = some (v, T') → J κ Γ (263, 0, 0, (fun u w' => u = some (.int v) ∧ w' = wX κ G T')) 10 (wX κ G T) 0 0 31 [some (.ref (G 0)), some (.int l1), some (.int l2), some (.int l3), some (.int l4), some (.int l5), some (.int l6), some (.int l7), some (.int l8), some (.int l9)] [] := by
  intro n
  induction n with
  | zero => intro _ _ _ _ h; cases h
  | succ n ih =>
    intro T l5 l6 l7 h
    rw [x_lostAt_b31] at h
    refine j_iload C dX0_lostAt_31 rfl ?_
    refine j_aload_n C dX0_lostAt_33 rfl rfl ?_
    refine jx_geti hκ C 17 (by decide) rfl q206 dX0_lostAt_34 ?_
    refine j_icmp_ge C dX0_lostAt_37 (tgt := 84) (by decide) (fun c => ?_) (fun c => ?_)
    · replace h := ip c h
      exact j_sub (wx_lostAt_b84 hκ N C _ _ _ _ _ _ _ _ _ _ hk25 _ h) ⟨rfl, ⟨rfl, ⟨rfl, ⟨rfl, ⟨rfl, ⟨rfl, ⟨rfl, ⟨rfl, ⟨rfl, ⟨rfl, trivial⟩⟩⟩⟩⟩⟩⟩⟩⟩⟩
    replace h := im c h
    refine j_aload_n C dX0_lostAt_40 rfl rfl ?_
    refine jx_geta hκ C 15 (by decide) rfl rfl q204 dX0_lostAt_41 ?_
    refine j_iload C dX0_lostAt_44 rfl ?_
    obtain ⟨b1, h⟩ := chk_some h
    refine jx_iald hκ C 15 rfl rfl b1 dX0_lostAt_46 ?_
    refine j_iload C dX0_lostAt_47 rfl ?_
    refine j_icmp_gt C dX0_lostAt_49 (tgt := 84) (by decide) (fun c => ?_) (fun c => ?_)
    · replace h := ip c h
      exact j_sub (wx_lostAt_b84 hκ N C _ _ _ _ _ _ _ _ _ _ hk25 _ h) ⟨rfl, ⟨rfl, ⟨rfl, ⟨rfl, ⟨rfl, ⟨rfl, ⟨rfl, ⟨rfl, ⟨rfl, ⟨rfl, trivial⟩⟩⟩⟩⟩⟩⟩⟩⟩⟩
    replace h := im c h
    refine j_aload_n C dX0_lostAt_52 rfl rfl ?_
    refine jx_geta hκ C 14 (by decide) rfl rfl q203 dX0_lostAt_53 ?_
    refine j_iload C dX0_lostAt_56 rfl ?_
    obtain ⟨b2, h⟩ := chk_some h
    refine jx_iald hκ C 14 rfl rfl b2 dX0_lostAt_58 ?_
    refine j_iload_n C dX0_lostAt_59 rfl rfl ?_
    refine j_icmp_eq C dX0_lostAt_60 (tgt := 66) (by decide) (fun c => ?_) (fun c => ?_)
    · replace h := ip c h
      refine j_aload_n C dX0_lostAt_66 rfl rfl ?_
      refine jx_geta hκ C 15 (by decide) rfl rfl q204 dX0_lostAt_67 ?_
      refine j_iload C dX0_lostAt_70 rfl ?_
      obtain ⟨b3, h⟩ := chk_some h
      refine jx_iald hκ C 15 rfl rfl b3 dX0_lostAt_72 ?_
      refine j_nmI h (fun x4 h => ?_)
      refine j_istore C dX0_lostAt_73 (by decide) rfl ?_
      refine j_iconst C (v := 1) dX0_lostAt_75 rfl ?_
      refine j_istore C dX0_lostAt_76 (by decide) rfl ?_
      refine j_iincN C h dX0_lostAt_78 rfl rfl (by decide) rfl (fun x5 h => ?_)
      refine j_goto C dX0_lostAt_81 (tgt := 31) (by decide) ?_
      exact j_sub (ih _ _ _ _ h) ⟨rfl, ⟨rfl, ⟨rfl, ⟨rfl, ⟨rfl, ⟨rfl, ⟨rfl, ⟨rfl, ⟨rfl, ⟨rfl, trivial⟩⟩⟩⟩⟩⟩⟩⟩⟩⟩
    replace h := im c h
    refine j_goto C dX0_lostAt_63 (tgt := 78) (by decide) ?_
    refine j_iincN C h dX0_lostAt_78 rfl rfl (by decide) rfl (fun x6 h => ?_)
    refine j_goto C dX0_lostAt_81 (tgt := 31) (by decide) ?_
    exact j_sub (ih _ _ _ _ h) ⟨rfl, ⟨rfl, ⟨rfl, ⟨rfl, ⟨rfl, ⟨rfl, ⟨rfl, ⟨rfl, ⟨rfl, ⟨rfl, trivial⟩⟩⟩⟩⟩⟩⟩⟩⟩⟩
def x_lostAt_b25 (N : Nat) (l1 : Int32) (l2 : Int32) (l3 : Int32) (l4 : Int32) : Nat → XS → Int32 → Int32 → Int32 → Int32 → Int32 → Option (Int32 × XS)
  | 0, _, _, _, _, _, _ => none
  | n + 1, T, l5, l6, l7, l8, l9 =>
    (if l3 < l9 then
    some (l8, T)
    else
    x_lostAt_b31 N l1 l2 l3 l4 l8 l9 (fun t y5 y6 y7 y8 y9 => x_lostAt_b25 N l1 l2 l3 l4 n t y5 y6 y7 y8 y9) N T l5 l6 l7)
theorem wx_lostAt_b25 {κ : jK} (hκ : jX κ) (N : Nat) {Γ : jG} (C : jC κ Γ cX0_lostAt 10 RX0 (some .int)) {G : Nat → Nat} (l1 : Int32) (l2 : Int32) (l3 : Int32) (l4 : Int32) {v : Int32} {T' : XS} : ∀ (n : Nat) (T : XS) (l5 : Int32) (l6 : Int32) (l7 : Int32) (l8 : Int32) (l9 : Int32), x_lostAt_b25 N l1 l2 l3 l4 n T l5 l6 l7 l8 l9 = some (v, T') → J κ Γ (263, 0, 0, (fun u w' => u = some (.int v) ∧ w' = wX κ G T')) 10 (wX κ G T) 0 0 25 [some (.ref (G 0)), some (.int l1), some (.int l2), some (.int l3), some (.int l4), some (.int l5), some (.int l6), some (.int l7), some (.int l8), some (.int l9)] [] := by
  intro n
  induction n with
  | zero => intro _ _ _ _ _ _ h; cases h
  | succ n ih =>
    intro T l5 l6 l7 l8 l9 h
    rw [x_lostAt_b25] at h
    refine j_iload C dX0_lostAt_25 rfl ?_
    refine j_iload_n C dX0_lostAt_27 rfl rfl ?_
    refine j_icmp_gt C dX0_lostAt_28 (tgt := 128) (by decide) (fun c => ?_) (fun c => ?_)
    · replace h := ip c h
      refine j_iload C dX0_lostAt_128 rfl ?_
      obtain ⟨rfl, rfl⟩ := sp2 h
      exact j_iret C dX0_lostAt_130 (Nat.le_of_ble_eq_true rfl) (Nat.le_of_ble_eq_true rfl) ⟨rfl, rfl⟩
    replace h := im c h
    exact j_sub (wx_lostAt_b31 hκ N C _ _ _ _ _ _ _ (fun _ _ _ _ _ _ h => ih _ _ _ _ _ _ h) N _ _ _ _ h) ⟨rfl, ⟨rfl, ⟨rfl, ⟨rfl, ⟨rfl, ⟨rfl, ⟨rfl, ⟨rfl, ⟨rfl, ⟨rfl, trivial⟩⟩⟩⟩⟩⟩⟩⟩⟩⟩
def x_lostAt (N : Nat) (T : XS) (p1 : Int32) (p2 : Int32) (p3 : Int32) : Option (Int32 × XS) :=
  nm (jmax 1 (T.1 5)) fun x1 =>
  x_lostAt_b25 N p1 p2 p3 x1 N T (-1) 0 0 0 0
theorem mt_x_lostAt {κ : jK} (hκ : jX κ) (N : Nat) (G : Nat → Nat) {T : XS} {p1 : Int32} {p2 : Int32} {p3 : Int32} {v : Int32} {T' : XS} (h : x_lostAt N T p1 p2 p3 = some (v, T')) : jM κ yX0_lostAt (ws_ yX0_lostAt cX0_lostAt 10 (some .int)) 263 0 0 [.ref (G 0), .int p1, .int p2, .int p3] (wX κ G T) (fun u w' => u = some (.int v) ∧ w' = wX κ G T') := by
  rw [x_lostAt] at h
  refine jM.of (by decide) rfl (Nat.le_of_ble_eq_true rfl) fun Γ C _ => ?_
  show J κ Γ (263, 0, 0, (fun u w' => u = some (.int v) ∧ w' = wX κ G T')) 10 (wX κ G T) 0 0 0 [some (.ref (G 0)), some (.int p1), some (.int p2), some (.int p3), none, none, none, none, none, none] []
  refine j_iconst C (v := 1) dX0_lostAt_0 rfl ?_
  refine j_aload_n C dX0_lostAt_1 rfl rfl ?_
  refine jx_geti hκ C 5 (by decide) rfl q192 dX0_lostAt_2 ?_
  refine j_mmax C dX0_lostAt_5 q902 q695 q129 q696 (Nat.le_of_ble_eq_true rfl) (Nat.le_of_ble_eq_true rfl) (Nat.le_of_ble_eq_true rfl) (Nat.le_of_ble_eq_true rfl) ?_
  refine j_nmI h (fun x1 h => ?_)
  refine j_istore C dX0_lostAt_8 (by decide) rfl ?_
  refine j_iconst C (v := (-1)) dX0_lostAt_10 rfl ?_
  refine j_istore C dX0_lostAt_11 (by decide) rfl ?_
  refine j_iconst C (v := 0) dX0_lostAt_13 rfl ?_
  refine j_istore C dX0_lostAt_14 (by decide) rfl ?_
  refine j_iconst C (v := 0) dX0_lostAt_16 rfl ?_
  refine j_istore C dX0_lostAt_17 (by decide) rfl ?_
  refine j_iconst C (v := 0) dX0_lostAt_19 rfl ?_
  refine j_istore C dX0_lostAt_20 (by decide) rfl ?_
  refine j_iconst C (v := 0) dX0_lostAt_22 rfl ?_
  refine j_istore C dX0_lostAt_23 (by decide) rfl ?_
  exact j_sub (wx_lostAt_b25 hκ N C _ _ _ _ N _ _ _ _ _ _ h) ⟨rfl, ⟨rfl, ⟨rfl, ⟨rfl, ⟨rfl, ⟨rfl, ⟨rfl, ⟨rfl, ⟨rfl, ⟨rfl, trivial⟩⟩⟩⟩⟩⟩⟩⟩⟩⟩
