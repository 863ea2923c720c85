set_option maxRecDepth 100000
set_option maxHeartbeats 10000000
theorem mo_X1_feed : MOk yX1_feed 5 := by decide +kernel
theorem mi_X1_feed : MI yX1_feed "LockstepRoom" cX1_feed 11 (some .int) 5 := ⟨q430, q431, q111, q432, rfl, mo_X1_feed⟩
theorem mo_X5_feed : MOk yX5_feed 5 := by decide +kernel
theorem mi_X5_feed : MI yX5_feed "LockstepRoomModel" cX5_feed 8 (some .int) 5 := ⟨q3090, q3091, q125, q3092, rfl, mo_X5_feed⟩
theorem iinc_6 (a : Int32) : a + Int32.ofInt (6) = a + (6 : Int32) := rfl
theorem mo_X1_load : MOk yX1_load 1 := by decide +kernel
theorem mo_X5_load : MOk yX5_load 1 := by decide +kernel
theorem mi_X5_load : MI yX5_load "LockstepRoomModel" cX5_load 4 (some .int) 1 := ⟨q3094, q3095, q125, q3096, rfl, mo_X5_load⟩
theorem mo_X1_errorPosition : MOk yX1_errorPosition 0 := by decide +kernel
theorem mi_X1_errorPosition : MI yX1_errorPosition "LockstepRoom" cX1_errorPosition 1 (some .int) 0 := ⟨q434, q435, q111, q436, rfl, mo_X1_errorPosition⟩
theorem mo_X5_errorPosition : MOk yX5_errorPosition 0 := by decide +kernel
theorem mi_X5_errorPosition : MI yX5_errorPosition "LockstepRoomModel" cX5_errorPosition 1 (some .int) 0 := ⟨q3235, q3236, q125, q3237, rfl, mo_X5_errorPosition⟩
theorem mo_X1_count : MOk yX1_count 1 := by decide +kernel
theorem mi_X1_count : MI yX1_count "LockstepRoom" cX1_count 2 (some .int) 1 := ⟨q1572, q1573, q111, q1574, rfl, mo_X1_count⟩
theorem mo_X5_count : MOk yX5_count 1 := by decide +kernel
theorem mi_X5_count : MI yX5_count "LockstepRoomModel" cX5_count 2 (some .int) 1 := ⟨q3239, q3240, q125, q3241, rfl, mo_X5_count⟩
theorem mo_X1_undoCount : MOk yX1_undoCount 0 := by decide +kernel
theorem mi_X1_undoCount : MI yX1_undoCount "LockstepRoom" cX1_undoCount 1 (some .int) 0 := ⟨q426, q427, q111, q428, rfl, mo_X1_undoCount⟩
theorem mo_X5_undoCount : MOk yX5_undoCount 0 := by decide +kernel
theorem mi_X5_undoCount : MI yX5_undoCount "LockstepRoomModel" cX5_undoCount 1 (some .int) 0 := ⟨q3243, q3244, q125, q3245, rfl, mo_X5_undoCount⟩
theorem mo_X1_memberNamed : MOk yX1_memberNamed 1 := by decide +kernel
theorem mi_X1_memberNamed : MI yX1_memberNamed "LockstepRoom" cX1_memberNamed 3 (some .int) 1 := ⟨q1582, q1583, q111, q1584, rfl, mo_X1_memberNamed⟩
theorem mo_X5_memberNamed : MOk yX5_memberNamed 1 := by decide +kernel
theorem mi_X5_memberNamed : MI yX5_memberNamed "LockstepRoomModel" cX5_memberNamed 2 (some .int) 1 := ⟨q3247, q3248, q125, q3249, rfl, mo_X5_memberNamed⟩
theorem mo_X0_memberNumber : MOk yX0_memberNumber 4 := by decide +kernel
theorem mo_X5_memberNumber : MOk yX5_memberNumber 2 := by decide +kernel
theorem mi_X5_memberNumber : MI yX5_memberNumber "LockstepRoomModel" cX5_memberNumber 3 (some .int) 2 := ⟨q3251, q3252, q125, q3253, rfl, mo_X5_memberNumber⟩
theorem mo_X5_thrown : MOk yX5_thrown 0 := by decide +kernel
theorem mi_X5_thrown : MI yX5_thrown "LockstepRoomModel" cX5_thrown 1 (some .int) 0 := ⟨q3086, q3087, q125, q3088, rfl, mo_X5_thrown⟩
theorem mo_X1_getSetting : MOk yX1_getSetting 1 := by decide +kernel
theorem mi_X1_getSetting : MI yX1_getSetting "LockstepRoom" cX1_getSetting 2 (some .int) 1 := ⟨q1591, q1592, q111, q1593, rfl, mo_X1_getSetting⟩
theorem mo_X5_getSetting : MOk yX5_getSetting 1 := by decide +kernel
theorem mi_X5_getSetting : MI yX5_getSetting "LockstepRoomModel" cX5_getSetting 2 (some .int) 1 := ⟨q3263, q3264, q125, q3265, rfl, mo_X5_getSetting⟩
theorem mo_X0_cellOf : MOk yX0_cellOf 4 := by decide +kernel
theorem mo_X5_cellOf : MOk yX5_cellOf 2 := by decide +kernel
theorem mi_X5_cellOf : MI yX5_cellOf "LockstepRoomModel" cX5_cellOf 3 (some .int) 2 := ⟨q3270, q3271, q125, q3272, rfl, mo_X5_cellOf⟩
theorem mo_X0_commandCount : MOk yX0_commandCount 3 := by decide +kernel
theorem mo_X5_commandCount : MOk yX5_commandCount 1 := by decide +kernel
theorem mi_X5_commandCount : MI yX5_commandCount "LockstepRoomModel" cX5_commandCount 2 (some .int) 1 := ⟨q3277, q3278, q125, q3279, rfl, mo_X5_commandCount⟩
theorem mo_X0_command : MOk yX0_command 5 := by decide +kernel
theorem mo_X5_command : MOk yX5_command 3 := by decide +kernel
theorem mi_X5_command : MI yX5_command "LockstepRoomModel" cX5_command 5 (some .int) 3 := ⟨q3285, q3286, q125, q3287, rfl, mo_X5_command⟩
theorem mo_X0_faultNumber : MOk yX0_faultNumber 4 := by decide +kernel
theorem mo_X5_faultNumber : MOk yX5_faultNumber 2 := by decide +kernel
theorem mi_X5_faultNumber : MI yX5_faultNumber "LockstepRoomModel" cX5_faultNumber 3 (some .int) 2 := ⟨q3289, q3290, q125, q3291, rfl, mo_X5_faultNumber⟩
theorem mo_X0_checksum : MOk yX0_checksum 4 := by decide +kernel
theorem mo_X5_checksum : MOk yX5_checksum 2 := by decide +kernel
theorem mi_X5_checksum : MI yX5_checksum "LockstepRoomModel" cX5_checksum 3 (some .int) 2 := ⟨q3297, q3298, q125, q3299, rfl, mo_X5_checksum⟩
theorem mo_X0_rootAt : MOk yX0_rootAt 4 := by decide +kernel
theorem mo_X5_rootAt : MOk yX5_rootAt 2 := by decide +kernel
theorem mi_X5_rootAt : MI yX5_rootAt "LockstepRoomModel" cX5_rootAt 3 (some .int) 2 := ⟨q3301, q3302, q125, q3303, rfl, mo_X5_rootAt⟩
theorem mo_X0_firstWrongTurn : MOk yX0_firstWrongTurn 4 := by decide +kernel
theorem mo_X5_firstWrongTurn : MOk yX5_firstWrongTurn 2 := by decide +kernel
theorem mi_X5_firstWrongTurn : MI yX5_firstWrongTurn "LockstepRoomModel" cX5_firstWrongTurn 3 (some .int) 2 := ⟨q3313, q3314, q125, q3315, rfl, mo_X5_firstWrongTurn⟩
theorem mo_X0_halvedTurn : MOk yX0_halvedTurn 4 := by decide +kernel
theorem mo_X5_halvedTurn : MOk yX5_halvedTurn 2 := by decide +kernel
theorem mi_X5_halvedTurn : MI yX5_halvedTurn "LockstepRoomModel" cX5_halvedTurn 3 (some .int) 2 := ⟨q3339, q3340, q125, q3341, rfl, mo_X5_halvedTurn⟩
theorem mo_X0_isHalvingRight : MOk yX0_isHalvingRight 4 := by decide +kernel
theorem mo_X5_isHalvingRight : MOk yX5_isHalvingRight 2 := by decide +kernel
theorem mi_X5_isHalvingRight : MI yX5_isHalvingRight "LockstepRoomModel" cX5_isHalvingRight 3 (some .boolean) 2 := ⟨q3347, q3348, q125, q3349, rfl, mo_X5_isHalvingRight⟩
theorem mo_X0_firstWrongCell : MOk yX0_firstWrongCell 4 := by decide +kernel
theorem mo_X5_firstWrongCell : MOk yX5_firstWrongCell 2 := by decide +kernel
theorem mi_X5_firstWrongCell : MI yX5_firstWrongCell "LockstepRoomModel" cX5_firstWrongCell 4 (some .int) 2 := ⟨q3351, q3352, q125, q3353, rfl, mo_X5_firstWrongCell⟩
theorem mo_X0_wrongCells : MOk yX0_wrongCells 4 := by decide +kernel
theorem mo_X5_wrongCells : MOk yX5_wrongCells 2 := by decide +kernel
theorem mi_X5_wrongCells : MI yX5_wrongCells "LockstepRoomModel" cX5_wrongCells 3 (some .int) 2 := ⟨q3367, q3368, q125, q3369, rfl, mo_X5_wrongCells⟩
theorem mo_X0_comparisons : MOk yX0_comparisons 4 := by decide +kernel
theorem mo_X5_comparisons : MOk yX5_comparisons 2 := by decide +kernel
theorem mi_X5_comparisons : MI yX5_comparisons "LockstepRoomModel" cX5_comparisons 3 (some .int) 2 := ⟨q3371, q3372, q125, q3373, rfl, mo_X5_comparisons⟩
theorem mo_X0_votes : MOk yX0_votes 4 := by decide +kernel
theorem mo_X5_votes : MOk yX5_votes 2 := by decide +kernel
theorem mi_X5_votes : MI yX5_votes "LockstepRoomModel" cX5_votes 3 (some .int) 2 := ⟨q3375, q3376, q125, q3377, rfl, mo_X5_votes⟩
theorem mo_X1_winner : MOk yX1_winner 1 := by decide +kernel
theorem mi_X1_winner : MI yX1_winner "LockstepRoom" cX1_winner 2 (some .int) 1 := ⟨q1598, q1599, q111, q1600, rfl, mo_X1_winner⟩
theorem mo_X5_winner : MOk yX5_winner 1 := by decide +kernel
theorem mi_X5_winner : MI yX5_winner "LockstepRoomModel" cX5_winner 2 (some .int) 1 := ⟨q3387, q3388, q125, q3389, rfl, mo_X5_winner⟩
theorem mo_X0_isWrong : MOk yX0_isWrong 3 := by decide +kernel
theorem mo_X5_isWrong : MOk yX5_isWrong 1 := by decide +kernel
theorem mi_X5_isWrong : MI yX5_isWrong "LockstepRoomModel" cX5_isWrong 2 (some .boolean) 1 := ⟨q3395, q3396, q125, q3397, rfl, mo_X5_isWrong⟩
theorem mo_X1_wrongMembers : MOk yX1_wrongMembers 0 := by decide +kernel
theorem mi_X1_wrongMembers : MI yX1_wrongMembers "LockstepRoom" cX1_wrongMembers 3 (some .int) 0 := ⟨q1952, q1953, q111, q1954, rfl, mo_X1_wrongMembers⟩
theorem mo_X5_wrongMembers : MOk yX5_wrongMembers 0 := by decide +kernel
theorem mi_X5_wrongMembers : MI yX5_wrongMembers "LockstepRoomModel" cX5_wrongMembers 3 (some .int) 0 := ⟨q3403, q3404, q125, q3405, rfl, mo_X5_wrongMembers⟩
theorem mo_X0_donorFor : MOk yX0_donorFor 3 := by decide +kernel
theorem mo_X5_donorFor : MOk yX5_donorFor 1 := by decide +kernel
theorem mi_X5_donorFor : MI yX5_donorFor "LockstepRoomModel" cX5_donorFor 2 (some .int) 1 := ⟨q3407, q3408, q125, q3409, rfl, mo_X5_donorFor⟩
theorem mo_X0_whyNot : MOk yX0_whyNot 3 := by decide +kernel
theorem mo_X5_whyNot : MOk yX5_whyNot 1 := by decide +kernel
theorem mi_X5_whyNot : MI yX5_whyNot "LockstepRoomModel" cX5_whyNot 2 (some .int) 1 := ⟨q3415, q3416, q125, q3417, rfl, mo_X5_whyNot⟩
theorem mo_X5_reached : MOk yX5_reached 1 := by decide +kernel
theorem mi_X5_reached : MI yX5_reached "LockstepRoomModel" cX5_reached 2 (some .int) 1 := ⟨q3423, q3424, q125, q3425, rfl, mo_X5_reached⟩
theorem mo_X1_reached : MOk yX1_reached 1 := by decide +kernel
theorem mi_X1_reached : MI yX1_reached "LockstepRoom" cX1_reached 2 (some .int) 1 := ⟨q1961, q1962, q111, q1963, rfl, mo_X1_reached⟩
theorem mo_X0_mayRun : MOk yX0_mayRun 3 := by decide +kernel
theorem mo_X5_mayRun : MOk yX5_mayRun 1 := by decide +kernel
theorem mi_X5_mayRun : MI yX5_mayRun "LockstepRoomModel" cX5_mayRun 2 (some .int) 1 := ⟨q3431, q3432, q125, q3433, rfl, mo_X5_mayRun⟩
theorem mo_X1_meanTurns : MOk yX1_meanTurns 0 := by decide +kernel
theorem mi_X1_meanTurns : MI yX1_meanTurns "LockstepRoom" cX1_meanTurns 3 (some .double) 0 := ⟨q1974, q1975, q111, q1976, rfl, mo_X1_meanTurns⟩
theorem mo_X5_meanTurns : MOk yX5_meanTurns 0 := by decide +kernel
theorem mi_X5_meanTurns : MI yX5_meanTurns "LockstepRoomModel" cX5_meanTurns 4 (some .double) 0 := ⟨q3439, q3440, q125, q3441, rfl, mo_X5_meanTurns⟩
theorem mo_X0_truth : MOk yX0_truth 4 := by decide +kernel
theorem mo_X5_truth : MOk yX5_truth 2 := by decide +kernel
theorem mi_X5_truth : MI yX5_truth "LockstepRoomModel" cX5_truth 3 (some .int) 2 := ⟨q3443, q3444, q125, q3445, rfl, mo_X5_truth⟩
theorem mo_X1_trueMembers : MOk yX1_trueMembers 0 := by decide +kernel
theorem mi_X1_trueMembers : MI yX1_trueMembers "LockstepRoom" cX1_trueMembers 6 (some .int) 0 := ⟨q1982, q1983, q111, q1984, rfl, mo_X1_trueMembers⟩
theorem mo_X5_trueMembers : MOk yX5_trueMembers 0 := by decide +kernel
theorem mi_X5_trueMembers : MI yX5_trueMembers "LockstepRoomModel" cX5_trueMembers 5 (some .int) 0 := ⟨q3463, q3464, q125, q3465, rfl, mo_X5_trueMembers⟩
theorem mo_X0_foreseen : MOk yX0_foreseen 4 := by decide +kernel
theorem mo_X5_foreseen : MOk yX5_foreseen 2 := by decide +kernel
theorem mi_X5_foreseen : MI yX5_foreseen "LockstepRoomModel" cX5_foreseen 4 (some .int) 2 := ⟨q3467, q3468, q125, q3469, rfl, mo_X5_foreseen⟩
theorem mo_X0_lastWrite : MOk yX0_lastWrite 4 := by decide +kernel
theorem mo_X5_lastWrite : MOk yX5_lastWrite 2 := by decide +kernel
theorem mi_X5_lastWrite : MI yX5_lastWrite "LockstepRoomModel" cX5_lastWrite 4 (some .int) 2 := ⟨q3475, q3476, q125, q3477, rfl, mo_X5_lastWrite⟩
theorem mo_X1_give : MOk yX1_give 4 := by decide +kernel
theorem mi_X1_give : MI yX1_give "LockstepRoom" cX1_give 5 (some .int) 4 := ⟨q1999, q2000, q111, q2001, rfl, mo_X1_give⟩
theorem mo_X5_give : MOk yX5_give 4 := by decide +kernel
theorem mi_X5_give : MI yX5_give "LockstepRoomModel" cX5_give 5 (some .int) 4 := ⟨q3487, q3488, q125, q3489, rfl, mo_X5_give⟩
theorem mo_X1_seal : MOk yX1_seal 0 := by decide +kernel
theorem mi_X1_seal : MI yX1_seal "LockstepRoom" cX1_seal 1 (some .int) 0 := ⟨q2439, q2440, q111, q2441, rfl, mo_X1_seal⟩
theorem mo_X5_seal : MOk yX5_seal 0 := by decide +kernel
theorem mi_X5_seal : MI yX5_seal "LockstepRoomModel" cX5_seal 1 (some .int) 0 := ⟨q3498, q3499, q125, q3500, rfl, mo_X5_seal⟩
theorem mo_X1_run : MOk yX1_run 2 := by decide +kernel
theorem mi_X1_run : MI yX1_run "LockstepRoom" cX1_run 4 (some .int) 2 := ⟨q2444, q2445, q111, q2446, rfl, mo_X1_run⟩
theorem mo_X5_run : MOk yX5_run 2 := by decide +kernel
theorem mi_X5_run : MI yX5_run "LockstepRoomModel" cX5_run 3 (some .int) 2 := ⟨q3502, q3503, q125, q3504, rfl, mo_X5_run⟩
theorem mo_X1_tick : MOk yX1_tick 0 := by decide +kernel
theorem mi_X1_tick : MI yX1_tick "LockstepRoom" cX1_tick 5 (some .int) 0 := ⟨q2472, q2473, q111, q2474, rfl, mo_X1_tick⟩
theorem mo_X5_tick : MOk yX5_tick 0 := by decide +kernel
theorem mi_X5_tick : MI yX5_tick "LockstepRoomModel" cX5_tick 4 (some .int) 0 := ⟨q3518, q3519, q125, q3520, rfl, mo_X5_tick⟩
theorem mo_X1_fault : MOk yX1_fault 4 := by decide +kernel
theorem mi_X1_fault : MI yX1_fault "LockstepRoom" cX1_fault 5 (some .int) 4 := ⟨q2476, q2477, q111, q2478, rfl, mo_X1_fault⟩
theorem mo_X5_fault_2 : MOk yX5_fault_2 4 := by decide +kernel
theorem mi_X5_fault_2 : MI yX5_fault_2 "LockstepRoomModel" cX5_fault_2 5 (some .int) 4 := ⟨q3522, q3523, q125, q3524, rfl, mo_X5_fault_2⟩
theorem mo_X1_heal : MOk yX1_heal 1 := by decide +kernel
theorem mi_X1_heal : MI yX1_heal "LockstepRoom" cX1_heal 2 (some .int) 1 := ⟨q2485, q2486, q111, q2487, rfl, mo_X1_heal⟩
theorem mo_X5_heal : MOk yX5_heal 1 := by decide +kernel
theorem mi_X5_heal : MI yX5_heal "LockstepRoomModel" cX5_heal 2 (some .int) 1 := ⟨q3526, q3527, q125, q3528, rfl, mo_X5_heal⟩
theorem mo_X1_healAll : MOk yX1_healAll 0 := by decide +kernel
theorem mi_X1_healAll : MI yX1_healAll "LockstepRoom" cX1_healAll 4 (some .int) 0 := ⟨q2549, q2550, q111, q2551, rfl, mo_X1_healAll⟩
theorem mo_X5_healAll : MOk yX5_healAll 0 := by decide +kernel
theorem mi_X5_healAll : MI yX5_healAll "LockstepRoomModel" cX5_healAll 4 (some .int) 0 := ⟨q3537, q3538, q125, q3539, rfl, mo_X5_healAll⟩
theorem mo_X1_join : MOk yX1_join 1 := by decide +kernel
theorem mi_X1_join : MI yX1_join "LockstepRoom" cX1_join 3 (some .int) 1 := ⟨q2559, q2560, q111, q2561, rfl, mo_X1_join⟩
theorem mo_X5_join : MOk yX5_join 1 := by decide +kernel
theorem mi_X5_join : MI yX5_join "LockstepRoomModel" cX5_join 6 (some .int) 1 := ⟨q3541, q3542, q125, q3543, rfl, mo_X5_join⟩
theorem mo_X1_leave : MOk yX1_leave 1 := by decide +kernel
theorem mi_X1_leave : MI yX1_leave "LockstepRoom" cX1_leave 2 (some .int) 1 := ⟨q2569, q2570, q111, q2571, rfl, mo_X1_leave⟩
theorem mo_X5_leave : MOk yX5_leave 1 := by decide +kernel
theorem mi_X5_leave : MI yX5_leave "LockstepRoomModel" cX5_leave 4 (some .int) 1 := ⟨q3545, q3546, q125, q3547, rfl, mo_X5_leave⟩
theorem mo_X1_setSetting : MOk yX1_setSetting 2 := by decide +kernel
theorem mi_X1_setSetting : MI yX1_setSetting "LockstepRoom" cX1_setSetting 4 (some .int) 2 := ⟨q2577, q2578, q111, q2579, rfl, mo_X1_setSetting⟩
theorem mo_X5_setSetting : MOk yX5_setSetting 2 := by decide +kernel
theorem mi_X5_setSetting : MI yX5_setSetting "LockstepRoomModel" cX5_setSetting 4 (some .int) 2 := ⟨q3549, q3550, q125, q3551, rfl, mo_X5_setSetting⟩
theorem mo_X1_undo : MOk yX1_undo 0 := by decide +kernel
theorem mi_X1_undo : MI yX1_undo "LockstepRoom" cX1_undo 1 (some .int) 0 := ⟨q397, q398, q111, q399, rfl, mo_X1_undo⟩
theorem mo_X5_undo : MOk yX5_undo 0 := by decide +kernel
theorem mi_X5_undo : MI yX5_undo "LockstepRoomModel" cX5_undo 2 (some .int) 0 := ⟨q3483, q3484, q125, q3485, rfl, mo_X5_undo⟩
theorem mo_X0_write : MOk yX0_write 3 := by decide +kernel
theorem mo_X5_write : MOk yX5_write 1 := by decide +kernel
theorem mi_X5_write : MI yX5_write "LockstepRoomModel" cX5_write 4 (some .int) 1 := ⟨q3553, q3554, q125, q3555, rfl, mo_X5_write⟩
theorem mo_X1_outputAt : MOk yX1_outputAt 1 := by decide +kernel
theorem mi_X1_outputAt : MI yX1_outputAt "LockstepRoom" cX1_outputAt 2 (some .int) 1 := ⟨q2582, q2583, q111, q2584, rfl, mo_X1_outputAt⟩
theorem mo_X5_outputAt : MOk yX5_outputAt 1 := by decide +kernel
theorem mi_X5_outputAt : MI yX5_outputAt "LockstepRoomModel" cX5_outputAt 2 (some .int) 1 := ⟨q3565, q3566, q125, q3567, rfl, mo_X5_outputAt⟩
theorem bp_63 : (Int8.ofInt (63)).toInt32 = (63 : Int32) := by decide
theorem sw_out_0_to_45 {a : Int32} (h0 : ¬ a = 0) (h1 : ¬ a = 1) (h2 : ¬ a = 2) (h3 : ¬ a = 3) (h4 : ¬ a = 4) (h5 : ¬ a = 5) (h6 : ¬ a = 6) (h7 : ¬ a = 7) (h8 : ¬ a = 8) (h9 : ¬ a = 9) (h10 : ¬ a = 10) (h11 : ¬ a = 11) (h12 : ¬ a = 12) (h13 : ¬ a = 13) (h14 : ¬ a = 14) (h15 : ¬ a = 15) (h16 : ¬ a = 16) (h17 : ¬ a = 17) (h18 : ¬ a = 18) (h19 : ¬ a = 19) (h20 : ¬ a = 20) (h21 : ¬ a = 21) (h22 : ¬ a = 22) (h23 : ¬ a = 23) (h24 : ¬ a = 24) (h25 : ¬ a = 25) (h26 : ¬ a = 26) (h27 : ¬ a = 27) (h28 : ¬ a = 28) (h29 : ¬ a = 29) (h30 : ¬ a = 30) (h31 : ¬ a = 31) (h32 : ¬ a = 32) (h33 : ¬ a = 33) (h34 : ¬ a = 34) (h35 : ¬ a = 35) (h36 : ¬ a = 36) (h37 : ¬ a = 37) (h38 : ¬ a = 38) (h39 : ¬ a = 39) (h40 : ¬ a = 40) (h41 : ¬ a = 41) (h42 : ¬ a = 42) (h43 : ¬ a = 43) (h44 : ¬ a = 44) (h45 : ¬ a = 45) : a.toInt < 0 ∨ 45 < a.toInt := by
  have g0 : a.toInt ≠ 0 := sw_ne h0
  have g1 : a.toInt ≠ 1 := sw_ne h1
  have g2 : a.toInt ≠ 2 := sw_ne h2
  have g3 : a.toInt ≠ 3 := sw_ne h3
  have g4 : a.toInt ≠ 4 := sw_ne h4
  have g5 : a.toInt ≠ 5 := sw_ne h5
  have g6 : a.toInt ≠ 6 := sw_ne h6
  have g7 : a.toInt ≠ 7 := sw_ne h7
  have g8 : a.toInt ≠ 8 := sw_ne h8
  have g9 : a.toInt ≠ 9 := sw_ne h9
  have g10 : a.toInt ≠ 10 := sw_ne h10
  have g11 : a.toInt ≠ 11 := sw_ne h11
  have g12 : a.toInt ≠ 12 := sw_ne h12
  have g13 : a.toInt ≠ 13 := sw_ne h13
  have g14 : a.toInt ≠ 14 := sw_ne h14
  have g15 : a.toInt ≠ 15 := sw_ne h15
  have g16 : a.toInt ≠ 16 := sw_ne h16
  have g17 : a.toInt ≠ 17 := sw_ne h17
  have g18 : a.toInt ≠ 18 := sw_ne h18
  have g19 : a.toInt ≠ 19 := sw_ne h19
  have g20 : a.toInt ≠ 20 := sw_ne h20
  have g21 : a.toInt ≠ 21 := sw_ne h21
  have g22 : a.toInt ≠ 22 := sw_ne h22
  have g23 : a.toInt ≠ 23 := sw_ne h23
  have g24 : a.toInt ≠ 24 := sw_ne h24
  have g25 : a.toInt ≠ 25 := sw_ne h25
  have g26 : a.toInt ≠ 26 := sw_ne h26
  have g27 : a.toInt ≠ 27 := sw_ne h27
  have g28 : a.toInt ≠ 28 := sw_ne h28
  have g29 : a.toInt ≠ 29 := sw_ne h29
  have g30 : a.toInt ≠ 30 := sw_ne h30
  have g31 : a.toInt ≠ 31 := sw_ne h31
  have g32 : a.toInt ≠ 32 := sw_ne h32
  have g33 : a.toInt ≠ 33 := sw_ne h33
  have g34 : a.toInt ≠ 34 := sw_ne h34
  have g35 : a.toInt ≠ 35 := sw_ne h35
  have g36 : a.toInt ≠ 36 := sw_ne h36
  have g37 : a.toInt ≠ 37 := sw_ne h37
  have g38 : a.toInt ≠ 38 := sw_ne h38
  have g39 : a.toInt ≠ 39 := sw_ne h39
  have g40 : a.toInt ≠ 40 := sw_ne h40
  have g41 : a.toInt ≠ 41 := sw_ne h41
  have g42 : a.toInt ≠ 42 := sw_ne h42
  have g43 : a.toInt ≠ 43 := sw_ne h43
  have g44 : a.toInt ≠ 44 := sw_ne h44
  have g45 : a.toInt ≠ 45 := sw_ne h45
  omega
theorem df_X1 : ∀ j, j < 6 → defaultValue (tyX1 j) = vp_V [va_rf none, va_rf none, va_rf none, .int 0, .int 0, va_rf none] j := fun j hj => by rcases (show j = 0 ∨ j = 1 ∨ j = 2 ∨ j = 3 ∨ j = 4 ∨ j = 5 by omega) with rfl | rfl | rfl | rfl | rfl | rfl <;> rfl
theorem mo_X1_init : MOk yX1_init 0 := by decide +kernel
theorem mc_X1_init : MC yX1_init cX1_init 1 0 := ⟨q179, q111, q180, rfl, mo_X1_init⟩
theorem df_X5 : ∀ j, j < 27 → defaultValue (tyX5 j) = vp_V [.int 0, va_rf none, .int 0, va_rf none, va_rf none, va_rf none, va_rf none, va_rf none, .int 0, va_rf none, va_rf none, va_rf none, .int 0, .int 0, .int 0, .int 0, .int 0, .int 0, .int 0, .int 0, .int 0, .int 0, .int 0, .int 0, .int 0, va_rf none, .int 0] j := fun j hj => by rcases (show j = 0 ∨ j = 1 ∨ j = 2 ∨ j = 3 ∨ j = 4 ∨ j = 5 ∨ j = 6 ∨ j = 7 ∨ j = 8 ∨ j = 9 ∨ j = 10 ∨ j = 11 ∨ j = 12 ∨ j = 13 ∨ j = 14 ∨ j = 15 ∨ j = 16 ∨ j = 17 ∨ j = 18 ∨ j = 19 ∨ j = 20 ∨ j = 21 ∨ j = 22 ∨ j = 23 ∨ j = 24 ∨ j = 25 ∨ j = 26 by omega) with rfl | rfl | rfl | rfl | rfl | rfl | rfl | rfl | rfl | rfl | rfl | rfl | rfl | rfl | rfl | rfl | rfl | rfl | rfl | rfl | rfl | rfl | rfl | rfl | rfl | rfl | rfl <;> rfl
theorem mo_X5_init : MOk yX5_init 0 := by decide +kernel
theorem mc_X5_init : MC yX5_init cX5_init 1 0 := ⟨q2996, q125, q2997, rfl, mo_X5_init⟩
abbrev rmL_law : Room := room_1
theorem s_L_law_j240 {x : Cx} (F : Fx x cL_law "LockstepRoomLaw" 9 (some .boolean) rmL_law) {Q : Int32 → hH → Prop} (hL : lawX x Q) {K23 : Option Nat → Option Nat → Option Nat → Option Nat → Int32 → hH → Prop} {K311 : hH → Prop} {cb kb ce ke : Nat} (hM : cb + 9000 ≤ ce) (hM2 : ce ≤ 603072) (hS : kb + 100000 ≤ ke) (hS2 : ke ≤ 7178346) (l0 : Option Nat) (l1 : Option Nat) (l2 : Option Nat) (l3 : Option Nat) (l4 : Int32) (h : hH) (hk : f_L_law_j240 x.S.E Q K23 K311 l0 l1 l2 l3 l4 h) (hK23 : ∀ (l0 : Option Nat) (l1 : Option Nat) (l2 : Option Nat) (l3 : Option Nat) (l4 : Int32) (h : hH), K23 l0 l1 l2 l3 l4 h → G x (lw_Z x.below x.args x.s) 23 [(0, aR l0), (1, aR l1), (2, aR l2), (3, aR l3), (4, aI l4)] [] h (cb + 9000) (kb + 100000)) (hK311 : ∀ (h : hH), K311 h → G x (lw_Z x.below x.args x.s) 311 [] [] h ce ke) : G x (lw_Z x.below x.args x.s) 240 [(0, aR l0), (1, aR l1), (2, aR l2), (3, aR l3), (4, aI l4)] [] h (cb + 0) (kb + 0) := by
  unfold f_L_law_j240 at hk
  exact g_aload_n F dL_law_240 rfl 1 rfl <|
g_aload_n F dL_law_241 rfl 0 rfl <|
g_iload F dL_law_242 4 rfl <|
g_iconst F dL_law_244 ic_1 <|
g_iadd F dL_law_245 <|
g_ialdo F dL_law_246 hk fun x1 hk =>
g_aload_n F dL_law_247 rfl 0 rfl <|
g_iload F dL_law_248 4 rfl <|
g_iconst F dL_law_250 ic_2 <|
g_iadd F dL_law_251 <|
g_ialdo F dL_law_252 hk fun x2 hk =>
g_aload_n F dL_law_253 rfl 0 rfl <|
g_iload F dL_law_254 4 rfl <|
g_iconst F dL_law_256 ic_3 <|
g_iadd F dL_law_257 <|
g_ialdo F dL_law_258 hk fun x3 hk =>
g_aload_n F dL_law_259 rfl 0 rfl <|
g_iload F dL_law_260 4 rfl <|
g_iconst F dL_law_262 ic_4 <|
g_iadd F dL_law_263 <|
g_ialdo F dL_law_264 hk fun x4 hk =>
g_aload_n F dL_law_265 rfl 0 rfl <|
g_iload F dL_law_266 4 rfl <|
g_iconst F dL_law_268 ic_5 <|
g_iadd F dL_law_269 <|
g_ialdo F dL_law_270 hk fun x5 hk =>
g_calli (g_V F dL_law_271 q429 mi_X1_feed ct_X1 (rm' := rmX1_feed) ⟨Nat.le_of_ble_eq_true rfl, Nat.le_of_ble_eq_true rfl⟩ ⟨show cb + 0 + 1 ≤ 603072 by omega, show kb + 0 + 5 ≤ 7178346 by omega⟩ (As := [aI x1, aI x2, aI x3, aI x4, aI x5]) (rest := []) rfl rfl (Nat.le_of_ble_eq_true rfl) hk (fun a8 hk => m_X1_feed F.ok a8 x1 x2 x3 x4 x5 h _ hk)) fun x7 h6 hk =>
g_aload_n F dL_law_274 rfl 2 rfl <|
g_aload_n F dL_law_275 rfl 0 rfl <|
g_iload F dL_law_276 4 rfl <|
g_iconst F dL_law_278 ic_1 <|
g_iadd F dL_law_279 <|
g_ialdo F dL_law_280 hk fun x9 hk =>
g_aload_n F dL_law_281 rfl 0 rfl <|
g_iload F dL_law_282 4 rfl <|
g_iconst F dL_law_284 ic_2 <|
g_iadd F dL_law_285 <|
g_ialdo F dL_law_286 hk fun x10 hk =>
g_aload_n F dL_law_287 rfl 0 rfl <|
g_iload F dL_law_288 4 rfl <|
g_iconst F dL_law_290 ic_3 <|
g_iadd F dL_law_291 <|
g_ialdo F dL_law_292 hk fun x11 hk =>
g_aload_n F dL_law_293 rfl 0 rfl <|
g_iload F dL_law_294 4 rfl <|
g_iconst F dL_law_296 ic_4 <|
g_iadd F dL_law_297 <|
g_ialdo F dL_law_298 hk fun x12 hk =>
g_aload_n F dL_law_299 rfl 0 rfl <|
g_iload F dL_law_300 4 rfl <|
g_iconst F dL_law_302 ic_5 <|
g_iadd F dL_law_303 <|
g_ialdo F dL_law_304 hk fun x13 hk =>
g_calli0 (g_V F dL_law_305 q3089 mi_X5_feed ct_X5 (rm' := rmX5_feed) ⟨Nat.le_of_ble_eq_true rfl, Nat.le_of_ble_eq_true rfl⟩ ⟨show cb + 0 + 1 + 0 ≤ 603072 by omega, show kb + 0 + 5 + 0 ≤ 7178346 by omega⟩ (As := [aI x9, aI x10, aI x11, aI x12, aI x13]) (rest := [aI x7]) rfl rfl (Nat.le_of_ble_eq_true rfl) hk (fun a16 hk => m_X5_feed F.ok a16 x9 x10 x11 x12 x13 h6 _ hk)) ⟨rfl, rfl⟩ fun x15 h14 hk =>
g_icmp_eq F dL_law_308 (tgt := 2370) rfl (fun hc => have hk := hk.1 hc
g_iinc (v := (l4 + (6:Int32))) F dL_law_2370 (j := 4) rfl (iinc_6 l4) (Nat.le_of_ble_eq_true rfl) rfl <|
g_goto F dL_law_2373 (tgt := 23) rfl <|
G.fewer [1, 2, 3, 4, 0] rfl <| G.widen (show cb + 0 + 1 ≤ cb + 9000 by omega) (show kb + 0 + 5 ≤ kb + 100000 by omega) <| hK23 l0 l1 l2 l3 (l4 + (6:Int32)) h14 hk) (fun hc => have hk := hk.2 hc
G.fewer [] rfl <| G.widen (show cb + 0 + 1 ≤ ce by omega) (show kb + 0 + 5 ≤ ke by omega) <| hK311 h14 hk)
theorem s_L_law_j313 {x : Cx} (F : Fx x cL_law "LockstepRoomLaw" 9 (some .boolean) rmL_law) {Q : Int32 → hH → Prop} (hL : lawX x Q) {K23 : Option Nat → Option Nat → Option Nat → Option Nat → Int32 → hH → Prop} {K336 : hH → Prop} {cb kb ce ke : Nat} (hM : cb + 9000 ≤ ce) (hM2 : ce ≤ 603072) (hS : kb + 100000 ≤ ke) (hS2 : ke ≤ 7178346) (l0 : Option Nat) (l1 : Option Nat) (l2 : Option Nat) (l3 : Option Nat) (l4 : Int32) (h : hH) (hk : f_L_law_j313 x.S.E Q K23 K336 l0 l1 l2 l3 l4 h) (hK23 : ∀ (l0 : Option Nat) (l1 : Option Nat) (l2 : Option Nat) (l3 : Option Nat) (l4 : Int32) (h : hH), K23 l0 l1 l2 l3 l4 h → G x (lw_Z x.below x.args x.s) 23 [(0, aR l0), (1, aR l1), (2, aR l2), (3, aR l3), (4, aI l4)] [] h (cb + 9000) (kb + 100000)) (hK336 : ∀ (h : hH), K336 h → G x (lw_Z x.below x.args x.s) 336 [] [] h ce ke) : G x (lw_Z x.below x.args x.s) 313 [(0, aR l0), (1, aR l1), (2, aR l2), (3, aR l3), (4, aI l4)] [] h (cb + 0) (kb + 0) := by
  unfold f_L_law_j313 at hk
  exact g_aload_n F dL_law_313 rfl 1 rfl <|
g_aload_n F dL_law_314 rfl 0 rfl <|
g_iload F dL_law_315 4 rfl <|
g_iconst F dL_law_317 ic_1 <|
g_iadd F dL_law_318 <|
g_ialdo F dL_law_319 hk fun x17 hk =>
g_calli (g_VW F dL_law_320 q437 q438 q439 q111 q440 rfl mo_X1_load ct_X1 (rm' := (rmX1_load 9000 100000)) ⟨Nat.le_of_ble_eq_true rfl, Nat.le_of_ble_eq_true rfl⟩ ⟨show cb + 0 + 9000 ≤ 603072 by omega, show kb + 0 + 100000 ≤ 7178346 by omega⟩ (As := [aI x17]) (rest := []) rfl rfl (Nat.le_of_ble_eq_true rfl) hk (fun a20 hk => m_X1_load F.ok 9000 100000 a20 x17 h _ hk)) fun x19 h18 hk =>
g_aload_n F dL_law_323 rfl 2 rfl <|
g_aload_n F dL_law_324 rfl 0 rfl <|
g_iload F dL_law_325 4 rfl <|
g_iconst F dL_law_327 ic_1 <|
g_iadd F dL_law_328 <|
g_ialdo F dL_law_329 hk fun x21 hk =>
g_calli0 (g_V F dL_law_330 q3093 mi_X5_load ct_X5 (rm' := rmX5_load) ⟨Nat.le_of_ble_eq_true rfl, Nat.le_of_ble_eq_true rfl⟩ ⟨show cb + 0 + 9000 + 0 ≤ 603072 by omega, show kb + 0 + 100000 + 0 ≤ 7178346 by omega⟩ (As := [aI x21]) (rest := [aI x19]) rfl rfl (Nat.le_of_ble_eq_true rfl) hk (fun a24 hk => m_X5_load F.ok a24 x21 h18 _ hk)) ⟨rfl, rfl⟩ fun x23 h22 hk =>
g_icmp_eq F dL_law_333 (tgt := 2370) rfl (fun hc => have hk := hk.1 hc
g_iinc (v := (l4 + (6:Int32))) F dL_law_2370 (j := 4) rfl (iinc_6 l4) (Nat.le_of_ble_eq_true rfl) rfl <|
g_goto F dL_law_2373 (tgt := 23) rfl <|
G.fewer [1, 2, 3, 4, 0] rfl <| G.widen (show cb + 0 + 9000 ≤ cb + 9000 by omega) (show kb + 0 + 100000 ≤ kb + 100000 by omega) <| hK23 l0 l1 l2 l3 (l4 + (6:Int32)) h22 hk) (fun hc => have hk := hk.2 hc
G.fewer [] rfl <| G.widen (show cb + 0 + 9000 ≤ ce by omega) (show kb + 0 + 100000 ≤ ke by omega) <| hK336 h22 hk)
theorem s_L_law_j338 {x : Cx} (F : Fx x cL_law "LockstepRoomLaw" 9 (some .boolean) rmL_law) {Q : Int32 → hH → Prop} (hL : lawX x Q) {K23 : Option Nat → Option Nat → Option Nat → Option Nat → Int32 → hH → Prop} {K349 : hH → Prop} {cb kb ce ke : Nat} (hM : cb + 9000 ≤ ce) (hM2 : ce ≤ 603072) (hS : kb + 100000 ≤ ke) (hS2 : ke ≤ 7178346) (l0 : Option Nat) (l1 : Option Nat) (l2 : Option Nat) (l3 : Option Nat) (l4 : Int32) (h : hH) (hk : f_L_law_j338 x.S.E Q K23 K349 l0 l1 l2 l3 l4 h) (hK23 : ∀ (l0 : Option Nat) (l1 : Option Nat) (l2 : Option Nat) (l3 : Option Nat) (l4 : Int32) (h : hH), K23 l0 l1 l2 l3 l4 h → G x (lw_Z x.below x.args x.s) 23 [(0, aR l0), (1, aR l1), (2, aR l2), (3, aR l3), (4, aI l4)] [] h (cb + 9000) (kb + 100000)) (hK349 : ∀ (h : hH), K349 h → G x (lw_Z x.below x.args x.s) 349 [] [] h ce ke) : G x (lw_Z x.below x.args x.s) 338 [(0, aR l0), (1, aR l1), (2, aR l2), (3, aR l3), (4, aI l4)] [] h (cb + 0) (kb + 0) := by
  unfold f_L_law_j338 at hk
  exact g_aload_n F dL_law_338 rfl 1 rfl <|
g_calli0 (g_V F dL_law_339 q433 mi_X1_errorPosition ct_X1 (rm' := rmX1_errorPosition) ⟨Nat.le_of_ble_eq_true rfl, Nat.le_of_ble_eq_true rfl⟩ ⟨show cb + 0 + 0 ≤ 603072 by omega, show kb + 0 + 0 ≤ 7178346 by omega⟩ (As := []) (rest := []) rfl rfl (Nat.le_of_ble_eq_true rfl) hk (fun a27 hk => m_X1_errorPosition F.ok a27 h _ hk)) ⟨rfl, rfl⟩ fun x26 h25 hk =>
g_aload_n F dL_law_342 rfl 2 rfl <|
g_calli0 (g_V F dL_law_343 q3234 mi_X5_errorPosition ct_X5 (rm' := rmX5_errorPosition) ⟨Nat.le_of_ble_eq_true rfl, Nat.le_of_ble_eq_true rfl⟩ ⟨show cb + 0 + 0 ≤ 603072 by omega, show kb + 0 + 0 ≤ 7178346 by omega⟩ (As := []) (rest := [aI x26]) rfl rfl (Nat.le_of_ble_eq_true rfl) hk (fun a30 hk => m_X5_errorPosition F.ok a30 h25 _ hk)) ⟨rfl, rfl⟩ fun x29 h28 hk =>
g_icmp_eq F dL_law_346 (tgt := 2370) rfl (fun hc => have hk := hk.1 hc
g_iinc (v := (l4 + (6:Int32))) F dL_law_2370 (j := 4) rfl (iinc_6 l4) (Nat.le_of_ble_eq_true rfl) rfl <|
g_goto F dL_law_2373 (tgt := 23) rfl <|
G.fewer [1, 2, 3, 4, 0] rfl <| G.widen (show cb + 0 ≤ cb + 9000 by omega) (show kb + 0 ≤ kb + 100000 by omega) <| hK23 l0 l1 l2 l3 (l4 + (6:Int32)) h28 hk) (fun hc => have hk := hk.2 hc
G.fewer [] rfl <| G.widen (show cb + 0 ≤ ce by omega) (show kb + 0 ≤ ke by omega) <| hK349 h28 hk)
theorem s_L_law_j351 {x : Cx} (F : Fx x cL_law "LockstepRoomLaw" 9 (some .boolean) rmL_law) {Q : Int32 → hH → Prop} (hL : lawX x Q) {K23 : Option Nat → Option Nat → Option Nat → Option Nat → Int32 → hH → Prop} {K374 : hH → Prop} {cb kb ce ke : Nat} (hM : cb + 9000 ≤ ce) (hM2 : ce ≤ 603072) (hS : kb + 100000 ≤ ke) (hS2 : ke ≤ 7178346) (l0 : Option Nat) (l1 : Option Nat) (l2 : Option Nat) (l3 : Option Nat) (l4 : Int32) (h : hH) (hk : f_L_law_j351 x.S.E Q K23 K374 l0 l1 l2 l3 l4 h) (hK23 : ∀ (l0 : Option Nat) (l1 : Option Nat) (l2 : Option Nat) (l3 : Option Nat) (l4 : Int32) (h : hH), K23 l0 l1 l2 l3 l4 h → G x (lw_Z x.below x.args x.s) 23 [(0, aR l0), (1, aR l1), (2, aR l2), (3, aR l3), (4, aI l4)] [] h (cb + 9000) (kb + 100000)) (hK374 : ∀ (h : hH), K374 h → G x (lw_Z x.below x.args x.s) 374 [] [] h ce ke) : G x (lw_Z x.below x.args x.s) 351 [(0, aR l0), (1, aR l1), (2, aR l2), (3, aR l3), (4, aI l4)] [] h (cb + 0) (kb + 0) := by
  unfold f_L_law_j351 at hk
  exact g_aload_n F dL_law_351 rfl 1 rfl <|
g_aload_n F dL_law_352 rfl 0 rfl <|
g_iload F dL_law_353 4 rfl <|
g_iconst F dL_law_355 ic_1 <|
g_iadd F dL_law_356 <|
g_ialdo F dL_law_357 hk fun x31 hk =>
g_calli0 (g_V F dL_law_358 q1571 mi_X1_count ct_X1 (rm' := rmX1_count) ⟨Nat.le_of_ble_eq_true rfl, Nat.le_of_ble_eq_true rfl⟩ ⟨show cb + 0 + 0 ≤ 603072 by omega, show kb + 0 + 0 ≤ 7178346 by omega⟩ (As := [aI x31]) (rest := []) rfl rfl (Nat.le_of_ble_eq_true rfl) hk (fun a34 hk => m_X1_count F.ok a34 x31 h _ hk)) ⟨rfl, rfl⟩ fun x33 h32 hk =>
g_aload_n F dL_law_361 rfl 2 rfl <|
g_aload_n F dL_law_362 rfl 0 rfl <|
g_iload F dL_law_363 4 rfl <|
g_iconst F dL_law_365 ic_1 <|
g_iadd F dL_law_366 <|
g_ialdo F dL_law_367 hk fun x35 hk =>
g_calli0 (g_V F dL_law_368 q3238 mi_X5_count ct_X5 (rm' := rmX5_count) ⟨Nat.le_of_ble_eq_true rfl, Nat.le_of_ble_eq_true rfl⟩ ⟨show cb + 0 + 0 ≤ 603072 by omega, show kb + 0 + 0 ≤ 7178346 by omega⟩ (As := [aI x35]) (rest := [aI x33]) rfl rfl (Nat.le_of_ble_eq_true rfl) hk (fun a38 hk => m_X5_count F.ok a38 x35 h32 _ hk)) ⟨rfl, rfl⟩ fun x37 h36 hk =>
g_icmp_eq F dL_law_371 (tgt := 2370) rfl (fun hc => have hk := hk.1 hc
g_iinc (v := (l4 + (6:Int32))) F dL_law_2370 (j := 4) rfl (iinc_6 l4) (Nat.le_of_ble_eq_true rfl) rfl <|
g_goto F dL_law_2373 (tgt := 23) rfl <|
G.fewer [1, 2, 3, 4, 0] rfl <| G.widen (show cb + 0 ≤ cb + 9000 by omega) (show kb + 0 ≤ kb + 100000 by omega) <| hK23 l0 l1 l2 l3 (l4 + (6:Int32)) h36 hk) (fun hc => have hk := hk.2 hc
G.fewer [] rfl <| G.widen (show cb + 0 ≤ ce by omega) (show kb + 0 ≤ ke by omega) <| hK374 h36 hk)
theorem s_L_law_j376 {x : Cx} (F : Fx x cL_law "LockstepRoomLaw" 9 (some .boolean) rmL_law) {Q : Int32 → hH → Prop} (hL : lawX x Q) {K23 : Option Nat → Option Nat → Option Nat → Option Nat → Int32 → hH → Prop} {K387 : hH → Prop} {cb kb ce ke : Nat} (hM : cb + 9000 ≤ ce) (hM2 : ce ≤ 603072) (hS : kb + 100000 ≤ ke) (hS2 : ke ≤ 7178346) (l0 : Option Nat) (l1 : Option Nat) (l2 : Option Nat) (l3 : Option Nat) (l4 : Int32) (h : hH) (hk : f_L_law_j376 x.S.E Q K23 K387 l0 l1 l2 l3 l4 h) (hK23 : ∀ (l0 : Option Nat) (l1 : Option Nat) (l2 : Option Nat) (l3 : Option Nat) (l4 : Int32) (h : hH), K23 l0 l1 l2 l3 l4 h → G x (lw_Z x.below x.args x.s) 23 [(0, aR l0), (1, aR l1), (2, aR l2), (3, aR l3), (4, aI l4)] [] h (cb + 9000) (kb + 100000)) (hK387 : ∀ (h : hH), K387 h → G x (lw_Z x.below x.args x.s) 387 [] [] h ce ke) : G x (lw_Z x.below x.args x.s) 376 [(0, aR l0), (1, aR l1), (2, aR l2), (3, aR l3), (4, aI l4)] [] h (cb + 0) (kb + 0) := by
  unfold f_L_law_j376 at hk
  exact g_aload_n F dL_law_376 rfl 1 rfl <|
g_calli0 (g_V F dL_law_377 q425 mi_X1_undoCount ct_X1 (rm' := rmX1_undoCount) ⟨Nat.le_of_ble_eq_true rfl, Nat.le_of_ble_eq_true rfl⟩ ⟨show cb + 0 + 0 ≤ 603072 by omega, show kb + 0 + 0 ≤ 7178346 by omega⟩ (As := []) (rest := []) rfl rfl (Nat.le_of_ble_eq_true rfl) hk (fun a41 hk => m_X1_undoCount F.ok a41 h _ hk)) ⟨rfl, rfl⟩ fun x40 h39 hk =>
g_aload_n F dL_law_380 rfl 2 rfl <|
g_calli0 (g_V F dL_law_381 q3242 mi_X5_undoCount ct_X5 (rm' := rmX5_undoCount) ⟨Nat.le_of_ble_eq_true rfl, Nat.le_of_ble_eq_true rfl⟩ ⟨show cb + 0 + 0 ≤ 603072 by omega, show kb + 0 + 0 ≤ 7178346 by omega⟩ (As := []) (rest := [aI x40]) rfl rfl (Nat.le_of_ble_eq_true rfl) hk (fun a44 hk => m_X5_undoCount F.ok a44 h39 _ hk)) ⟨rfl, rfl⟩ fun x43 h42 hk =>
g_icmp_eq F dL_law_384 (tgt := 2370) rfl (fun hc => have hk := hk.1 hc
g_iinc (v := (l4 + (6:Int32))) F dL_law_2370 (j := 4) rfl (iinc_6 l4) (Nat.le_of_ble_eq_true rfl) rfl <|
g_goto F dL_law_2373 (tgt := 23) rfl <|
G.fewer [1, 2, 3, 4, 0] rfl <| G.widen (show cb + 0 ≤ cb + 9000 by omega) (show kb + 0 ≤ kb + 100000 by omega) <| hK23 l0 l1 l2 l3 (l4 + (6:Int32)) h42 hk) (fun hc => have hk := hk.2 hc
G.fewer [] rfl <| G.widen (show cb + 0 ≤ ce by omega) (show kb + 0 ≤ ke by omega) <| hK387 h42 hk)
theorem s_L_law_j389 {x : Cx} (F : Fx x cL_law "LockstepRoomLaw" 9 (some .boolean) rmL_law) {Q : Int32 → hH → Prop} (hL : lawX x Q) {K23 : Option Nat → Option Nat → Option Nat → Option Nat → Int32 → hH → Prop} {K412 : hH → Prop} {cb kb ce ke : Nat} (hM : cb + 9000 ≤ ce) (hM2 : ce ≤ 603072) (hS : kb + 100000 ≤ ke) (hS2 : ke ≤ 7178346) (l0 : Option Nat) (l1 : Option Nat) (l2 : Option Nat) (l3 : Option Nat) (l4 : Int32) (h : hH) (hk : f_L_law_j389 x.S.E Q K23 K412 l0 l1 l2 l3 l4 h) (hK23 : ∀ (l0 : Option Nat) (l1 : Option Nat) (l2 : Option Nat) (l3 : Option Nat) (l4 : Int32) (h : hH), K23 l0 l1 l2 l3 l4 h → G x (lw_Z x.below x.args x.s) 23 [(0, aR l0), (1, aR l1), (2, aR l2), (3, aR l3), (4, aI l4)] [] h (cb + 9000) (kb + 100000)) (hK412 : ∀ (h : hH), K412 h → G x (lw_Z x.below x.args x.s) 412 [] [] h ce ke) : G x (lw_Z x.below x.args x.s) 389 [(0, aR l0), (1, aR l1), (2, aR l2), (3, aR l3), (4, aI l4)] [] h (cb + 0) (kb + 0) := by
  unfold f_L_law_j389 at hk
  exact g_aload_n F dL_law_389 rfl 1 rfl <|
g_aload_n F dL_law_390 rfl 0 rfl <|
g_iload F dL_law_391 4 rfl <|
g_iconst F dL_law_393 ic_1 <|
g_iadd F dL_law_394 <|
g_ialdo F dL_law_395 hk fun x45 hk =>
g_calli0 (g_V F dL_law_396 q1581 mi_X1_memberNamed ct_X1 (rm' := rmX1_memberNamed) ⟨Nat.le_of_ble_eq_true rfl, Nat.le_of_ble_eq_true rfl⟩ ⟨show cb + 0 + 0 ≤ 603072 by omega, show kb + 0 + 0 ≤ 7178346 by omega⟩ (As := [aI x45]) (rest := []) rfl rfl (Nat.le_of_ble_eq_true rfl) hk (fun a48 hk => m_X1_memberNamed F.ok a48 x45 h _ hk)) ⟨rfl, rfl⟩ fun x47 h46 hk =>
g_aload_n F dL_law_399 rfl 2 rfl <|
g_aload_n F dL_law_400 rfl 0 rfl <|
g_iload F dL_law_401 4 rfl <|
g_iconst F dL_law_403 ic_1 <|
g_iadd F dL_law_404 <|
g_ialdo F dL_law_405 hk fun x49 hk =>
g_calli0 (g_V F dL_law_406 q3246 mi_X5_memberNamed ct_X5 (rm' := rmX5_memberNamed) ⟨Nat.le_of_ble_eq_true rfl, Nat.le_of_ble_eq_true rfl⟩ ⟨show cb + 0 + 0 ≤ 603072 by omega, show kb + 0 + 0 ≤ 7178346 by omega⟩ (As := [aI x49]) (rest := [aI x47]) rfl rfl (Nat.le_of_ble_eq_true rfl) hk (fun a52 hk => m_X5_memberNamed F.ok a52 x49 h46 _ hk)) ⟨rfl, rfl⟩ fun x51 h50 hk =>
g_icmp_eq F dL_law_409 (tgt := 2370) rfl (fun hc => have hk := hk.1 hc
g_iinc (v := (l4 + (6:Int32))) F dL_law_2370 (j := 4) rfl (iinc_6 l4) (Nat.le_of_ble_eq_true rfl) rfl <|
g_goto F dL_law_2373 (tgt := 23) rfl <|
G.fewer [1, 2, 3, 4, 0] rfl <| G.widen (show cb + 0 ≤ cb + 9000 by omega) (show kb + 0 ≤ kb + 100000 by omega) <| hK23 l0 l1 l2 l3 (l4 + (6:Int32)) h50 hk) (fun hc => have hk := hk.2 hc
G.fewer [] rfl <| G.widen (show cb + 0 ≤ ce by omega) (show kb + 0 ≤ ke by omega) <| hK412 h50 hk)
theorem s_L_law_j479 {x : Cx} (F : Fx x cL_law "LockstepRoomLaw" 9 (some .boolean) rmL_law) {Q : Int32 → hH → Prop} (hL : lawX x Q) {K23 : Option Nat → Option Nat → Option Nat → Option Nat → Int32 → hH → Prop} {cb kb ce ke : Nat} (hM : cb + 9000 ≤ ce) (hM2 : ce ≤ 603072) (hS : kb + 100000 ≤ ke) (hS2 : ke ≤ 7178346) (l0 : Option Nat) (l1 : Option Nat) (l2 : Option Nat) (l3 : Option Nat) (l4 : Int32) (h : hH) (hk : f_L_law_j479 x.S.E Q K23 l0 l1 l2 l3 l4 h) (hK23 : ∀ (l0 : Option Nat) (l1 : Option Nat) (l2 : Option Nat) (l3 : Option Nat) (l4 : Int32) (h : hH), K23 l0 l1 l2 l3 l4 h → G x (lw_Z x.below x.args x.s) 23 [(0, aR l0), (1, aR l1), (2, aR l2), (3, aR l3), (4, aI l4)] [] h (cb + 9000) (kb + 100000)) : G x (lw_Z x.below x.args x.s) 479 [(0, aR l0), (1, aR l1), (2, aR l2), (3, aR l3), (4, aI l4)] [] h (cb + 1) (kb + 6) := by
  unfold f_L_law_j479 at hk
  exact g_goto F dL_law_479 (tgt := 2370) rfl <|
g_iinc (v := (l4 + (6:Int32))) F dL_law_2370 (j := 4) rfl (iinc_6 l4) (Nat.le_of_ble_eq_true rfl) rfl <|
g_goto F dL_law_2373 (tgt := 23) rfl <|
G.fewer [1, 2, 3, 4, 0] rfl <| G.widen (show cb + 1 ≤ cb + 9000 by omega) (show kb + 6 ≤ kb + 100000 by omega) <| hK23 l0 l1 l2 l3 (l4 + (6:Int32)) h hk
theorem s_L_law_j414 {x : Cx} (F : Fx x cL_law "LockstepRoomLaw" 9 (some .boolean) rmL_law) {Q : Int32 → hH → Prop} (hL : lawX x Q) {K23 : Option Nat → Option Nat → Option Nat → Option Nat → Int32 → hH → Prop} {K460 : hH → Prop} {K477 : hH → Prop} {cb kb ce ke : Nat} (hM : cb + 9000 ≤ ce) (hM2 : ce ≤ 603072) (hS : kb + 100000 ≤ ke) (hS2 : ke ≤ 7178346) (l0 : Option Nat) (l1 : Option Nat) (l2 : Option Nat) (l3 : Option Nat) (l4 : Int32) (h : hH) (hk : f_L_law_j414 x.S.E Q K23 K460 K477 l0 l1 l2 l3 l4 h) (hK23 : ∀ (l0 : Option Nat) (l1 : Option Nat) (l2 : Option Nat) (l3 : Option Nat) (l4 : Int32) (h : hH), K23 l0 l1 l2 l3 l4 h → G x (lw_Z x.below x.args x.s) 23 [(0, aR l0), (1, aR l1), (2, aR l2), (3, aR l3), (4, aI l4)] [] h (cb + 9000) (kb + 100000)) (hK460 : ∀ (h : hH), K460 h → G x (lw_Z x.below x.args x.s) 460 [] [] h ce ke) (hK477 : ∀ (h : hH), K477 h → G x (lw_Z x.below x.args x.s) 477 [] [] h ce ke) : G x (lw_Z x.below x.args x.s) 414 [(0, aR l0), (1, aR l1), (2, aR l2), (3, aR l3), (4, aI l4)] [] h (cb + 0) (kb + 0) := by
  unfold f_L_law_j414 at hk
  exact g_aload_n F dL_law_414 rfl 1 rfl <|
g_aload_n F dL_law_415 rfl 0 rfl <|
g_iload F dL_law_416 4 rfl <|
g_iconst F dL_law_418 ic_1 <|
g_iadd F dL_law_419 <|
g_ialdo F dL_law_420 hk fun x53 hk =>
g_aload_n F dL_law_421 rfl 0 rfl <|
g_iload F dL_law_422 4 rfl <|
g_iconst F dL_law_424 ic_2 <|
g_iadd F dL_law_425 <|
g_ialdo F dL_law_426 hk fun x54 hk =>
g_aload_n F dL_law_427 rfl 3 rfl <|
g_calli (g_SW F dL_law_428 q2596 q2597 q110 q2598 mo_X0_memberNumber (rm' := rmX0_memberNumber) ⟨Nat.le_of_ble_eq_true rfl, Nat.le_of_ble_eq_true rfl⟩ ⟨show cb + 0 + 1 ≤ 603072 by omega, show kb + 0 + 6 ≤ 7178346 by omega⟩ (As := [aR l1, aI x53, aI x54, aR l3]) (rest := []) rfl rfl (Nat.le_of_ble_eq_true rfl) (m_X0_memberNumber F.ok l1 x53 x54 l3 h _ hk)) fun x56 h55 hk =>
g_istore F dL_law_431 (Nat.le_of_ble_eq_true rfl) rfl <|
g_aload_n F dL_law_433 rfl 3 rfl <|
g_aload_n F dL_law_434 rfl 1 rfl <|
g_iload F dL_law_435 5 rfl <|
g_iconst F dL_law_437 ic_1 <|
g_iadd F dL_law_438 <|
g_ialdo F dL_law_439 hk fun x57 hk =>
g_aload_n F dL_law_440 rfl 1 rfl <|
g_iload F dL_law_441 5 rfl <|
g_iconst F dL_law_443 ic_2 <|
g_iadd F dL_law_444 <|
g_ialdo F dL_law_445 hk fun x58 hk =>
g_calli0 (g_V F dL_law_446 q3250 mi_X5_memberNumber ct_X5 (rm' := rmX5_memberNumber) ⟨Nat.le_of_ble_eq_true rfl, Nat.le_of_ble_eq_true rfl⟩ ⟨show cb + 0 + 1 + 0 ≤ 603072 by omega, show kb + 0 + 6 + 0 ≤ 7178346 by omega⟩ (As := [aI x57, aI x58]) (rest := []) rfl rfl (Nat.le_of_ble_eq_true rfl) hk (fun a61 hk => m_X5_memberNumber F.ok a61 x57 x58 h55 _ hk)) ⟨rfl, rfl⟩ fun x60 h59 hk =>
g_istore F dL_law_449 (Nat.le_of_ble_eq_true rfl) rfl <|
g_aload_n F dL_law_451 rfl 4 rfl <|
g_calli0 (g_V F dL_law_452 q3085 mi_X5_thrown ct_X5 (rm' := rmX5_thrown) ⟨Nat.le_of_ble_eq_true rfl, Nat.le_of_ble_eq_true rfl⟩ ⟨show cb + 0 + 1 + 0 ≤ 603072 by omega, show kb + 0 + 6 + 0 ≤ 7178346 by omega⟩ (As := []) (rest := []) rfl rfl (Nat.le_of_ble_eq_true rfl) hk (fun a64 hk => m_X5_thrown F.ok a64 h59 _ hk)) ⟨rfl, rfl⟩ fun x63 h62 hk =>
g_iload F dL_law_455 1 rfl <|
g_icmp_eq F dL_law_457 (tgt := 462) rfl (fun hc => have hk := hk.1 hc
g_iload F dL_law_462 1 rfl <|
g_if_ne F dL_law_464 (tgt := 479) rfl (fun hc => have hk := hk.2 hc
G.fewer [2, 3, 4, 5, 6] rfl <| G.widen (show cb + 0 + 1 ≤ cb + 1 by omega) (show kb + 0 + 6 ≤ kb + 6 by omega) <| s_L_law_j479 F hL hM hM2 hS hS2 l0 l1 l2 l3 l4 h62 hk hK23) (fun hc => have hk := hk.1 hc
g_aload_n F dL_law_467 rfl 5 rfl <|
g_iconst F dL_law_468 ic_0 <|
g_lald F dL_law_469 hk fun x65 hk =>
g_iload F dL_law_470 0 rfl <|
g_i2l F dL_law_472 <|
g_lcmp F dL_law_473 <|
g_if_eq F dL_law_474 (tgt := 479) rfl (fun hc => have hk := hk.1 hc
G.fewer [2, 3, 4, 5, 6] rfl <| G.widen (show cb + 0 + 1 ≤ cb + 1 by omega) (show kb + 0 + 6 ≤ kb + 6 by omega) <| s_L_law_j479 F hL hM hM2 hS hS2 l0 l1 l2 l3 l4 h62 hk hK23) (fun hc => have hk := hk.2 hc
G.fewer [] rfl <| G.widen (show cb + 0 + 1 ≤ ce by omega) (show kb + 0 + 6 ≤ ke by omega) <| hK477 h62 hk))) (fun hc => have hk := hk.2 hc
G.fewer [] rfl <| G.widen (show cb + 0 + 1 ≤ ce by omega) (show kb + 0 + 6 ≤ ke by omega) <| hK460 h62 hk)
theorem s_L_law_j482 {x : Cx} (F : Fx x cL_law "LockstepRoomLaw" 9 (some .boolean) rmL_law) {Q : Int32 → hH → Prop} (hL : lawX x Q) {K23 : Option Nat → Option Nat → Option Nat → Option Nat → Int32 → hH → Prop} {K505 : hH → Prop} {cb kb ce ke : Nat} (hM : cb + 9000 ≤ ce) (hM2 : ce ≤ 603072) (hS : kb + 100000 ≤ ke) (hS2 : ke ≤ 7178346) (l0 : Option Nat) (l1 : Option Nat) (l2 : Option Nat) (l3 : Option Nat) (l4 : Int32) (h : hH) (hk : f_L_law_j482 x.S.E Q K23 K505 l0 l1 l2 l3 l4 h) (hK23 : ∀ (l0 : Option Nat) (l1 : Option Nat) (l2 : Option Nat) (l3 : Option Nat) (l4 : Int32) (h : hH), K23 l0 l1 l2 l3 l4 h → G x (lw_Z x.below x.args x.s) 23 [(0, aR l0), (1, aR l1), (2, aR l2), (3, aR l3), (4, aI l4)] [] h (cb + 9000) (kb + 100000)) (hK505 : ∀ (h : hH), K505 h → G x (lw_Z x.below x.args x.s) 505 [] [] h ce ke) : G x (lw_Z x.below x.args x.s) 482 [(0, aR l0), (1, aR l1), (2, aR l2), (3, aR l3), (4, aI l4)] [] h (cb + 0) (kb + 0) := by
  unfold f_L_law_j482 at hk
  exact g_aload_n F dL_law_482 rfl 1 rfl <|
g_aload_n F dL_law_483 rfl 0 rfl <|
g_iload F dL_law_484 4 rfl <|
g_iconst F dL_law_486 ic_1 <|
g_iadd F dL_law_487 <|
g_ialdo F dL_law_488 hk fun x66 hk =>
g_calli0 (g_V F dL_law_489 q1590 mi_X1_getSetting ct_X1 (rm' := rmX1_getSetting) ⟨Nat.le_of_ble_eq_true rfl, Nat.le_of_ble_eq_true rfl⟩ ⟨show cb + 0 + 0 ≤ 603072 by omega, show kb + 0 + 0 ≤ 7178346 by omega⟩ (As := [aI x66]) (rest := []) rfl rfl (Nat.le_of_ble_eq_true rfl) hk (fun a69 hk => m_X1_getSetting F.ok a69 x66 h _ hk)) ⟨rfl, rfl⟩ fun x68 h67 hk =>
g_aload_n F dL_law_492 rfl 2 rfl <|
g_aload_n F dL_law_493 rfl 0 rfl <|
g_iload F dL_law_494 4 rfl <|
g_iconst F dL_law_496 ic_1 <|
g_iadd F dL_law_497 <|
g_ialdo F dL_law_498 hk fun x70 hk =>
g_calli0 (g_V F dL_law_499 q3262 mi_X5_getSetting ct_X5 (rm' := rmX5_getSetting) ⟨Nat.le_of_ble_eq_true rfl, Nat.le_of_ble_eq_true rfl⟩ ⟨show cb + 0 + 0 ≤ 603072 by omega, show kb + 0 + 0 ≤ 7178346 by omega⟩ (As := [aI x70]) (rest := [aI x68]) rfl rfl (Nat.le_of_ble_eq_true rfl) hk (fun a73 hk => m_X5_getSetting F.ok a73 x70 h67 _ hk)) ⟨rfl, rfl⟩ fun x72 h71 hk =>
g_icmp_eq F dL_law_502 (tgt := 2370) rfl (fun hc => have hk := hk.1 hc
g_iinc (v := (l4 + (6:Int32))) F dL_law_2370 (j := 4) rfl (iinc_6 l4) (Nat.le_of_ble_eq_true rfl) rfl <|
g_goto F dL_law_2373 (tgt := 23) rfl <|
G.fewer [1, 2, 3, 4, 0] rfl <| G.widen (show cb + 0 ≤ cb + 9000 by omega) (show kb + 0 ≤ kb + 100000 by omega) <| hK23 l0 l1 l2 l3 (l4 + (6:Int32)) h71 hk) (fun hc => have hk := hk.2 hc
G.fewer [] rfl <| G.widen (show cb + 0 ≤ ce by omega) (show kb + 0 ≤ ke by omega) <| hK505 h71 hk)
theorem s_L_law_j572 {x : Cx} (F : Fx x cL_law "LockstepRoomLaw" 9 (some .boolean) rmL_law) {Q : Int32 → hH → Prop} (hL : lawX x Q) {K23 : Option Nat → Option Nat → Option Nat → Option Nat → Int32 → hH → Prop} {cb kb ce ke : Nat} (hM : cb + 9000 ≤ ce) (hM2 : ce ≤ 603072) (hS : kb + 100000 ≤ ke) (hS2 : ke ≤ 7178346) (l0 : Option Nat) (l1 : Option Nat) (l2 : Option Nat) (l3 : Option Nat) (l4 : Int32) (h : hH) (hk : f_L_law_j572 x.S.E Q K23 l0 l1 l2 l3 l4 h) (hK23 : ∀ (l0 : Option Nat) (l1 : Option Nat) (l2 : Option Nat) (l3 : Option Nat) (l4 : Int32) (h : hH), K23 l0 l1 l2 l3 l4 h → G x (lw_Z x.below x.args x.s) 23 [(0, aR l0), (1, aR l1), (2, aR l2), (3, aR l3), (4, aI l4)] [] h (cb + 9000) (kb + 100000)) : G x (lw_Z x.below x.args x.s) 572 [(0, aR l0), (1, aR l1), (2, aR l2), (3, aR l3), (4, aI l4)] [] h (cb + 2) (kb + 12) := by
  unfold f_L_law_j572 at hk
  exact g_goto F dL_law_572 (tgt := 2370) rfl <|
g_iinc (v := (l4 + (6:Int32))) F dL_law_2370 (j := 4) rfl (iinc_6 l4) (Nat.le_of_ble_eq_true rfl) rfl <|
g_goto F dL_law_2373 (tgt := 23) rfl <|
G.fewer [1, 2, 3, 4, 0] rfl <| G.widen (show cb + 2 ≤ cb + 9000 by omega) (show kb + 12 ≤ kb + 100000 by omega) <| hK23 l0 l1 l2 l3 (l4 + (6:Int32)) h hk
theorem s_L_law_j507 {x : Cx} (F : Fx x cL_law "LockstepRoomLaw" 9 (some .boolean) rmL_law) {Q : Int32 → hH → Prop} (hL : lawX x Q) {K23 : Option Nat → Option Nat → Option Nat → Option Nat → Int32 → hH → Prop} {K553 : hH → Prop} {K570 : hH → Prop} {cb kb ce ke : Nat} (hM : cb + 9000 ≤ ce) (hM2 : ce ≤ 603072) (hS : kb + 100000 ≤ ke) (hS2 : ke ≤ 7178346) (l0 : Option Nat) (l1 : Option Nat) (l2 : Option Nat) (l3 : Option Nat) (l4 : Int32) (h : hH) (hk : f_L_law_j507 x.S.E Q K23 K553 K570 l0 l1 l2 l3 l4 h) (hK23 : ∀ (l0 : Option Nat) (l1 : Option Nat) (l2 : Option Nat) (l3 : Option Nat) (l4 : Int32) (h : hH), K23 l0 l1 l2 l3 l4 h → G x (lw_Z x.below x.args x.s) 23 [(0, aR l0), (1, aR l1), (2, aR l2), (3, aR l3), (4, aI l4)] [] h (cb + 9000) (kb + 100000)) (hK553 : ∀ (h : hH), K553 h → G x (lw_Z x.below x.args x.s) 553 [] [] h ce ke) (hK570 : ∀ (h : hH), K570 h → G x (lw_Z x.below x.args x.s) 570 [] [] h ce ke) : G x (lw_Z x.below x.args x.s) 507 [(0, aR l0), (1, aR l1), (2, aR l2), (3, aR l3), (4, aI l4)] [] h (cb + 0) (kb + 0) := by
  unfold f_L_law_j507 at hk
  exact g_aload_n F dL_law_507 rfl 1 rfl <|
g_aload_n F dL_law_508 rfl 0 rfl <|
g_iload F dL_law_509 4 rfl <|
g_iconst F dL_law_511 ic_1 <|
g_iadd F dL_law_512 <|
g_ialdo F dL_law_513 hk fun x74 hk =>
g_aload_n F dL_law_514 rfl 0 rfl <|
g_iload F dL_law_515 4 rfl <|
g_iconst F dL_law_517 ic_2 <|
g_iadd F dL_law_518 <|
g_ialdo F dL_law_519 hk fun x75 hk =>
g_aload_n F dL_law_520 rfl 3 rfl <|
g_calli (g_SW F dL_law_521 q2652 q2653 q110 q2654 mo_X0_cellOf (rm' := rmX0_cellOf) ⟨Nat.le_of_ble_eq_true rfl, Nat.le_of_ble_eq_true rfl⟩ ⟨show cb + 0 + 2 ≤ 603072 by omega, show kb + 0 + 12 ≤ 7178346 by omega⟩ (As := [aR l1, aI x74, aI x75, aR l3]) (rest := []) rfl rfl (Nat.le_of_ble_eq_true rfl) (m_X0_cellOf F.ok l1 x74 x75 l3 h _ hk)) fun x77 h76 hk =>
g_istore F dL_law_524 (Nat.le_of_ble_eq_true rfl) rfl <|
g_aload_n F dL_law_526 rfl 3 rfl <|
g_aload_n F dL_law_527 rfl 1 rfl <|
g_iload F dL_law_528 5 rfl <|
g_iconst F dL_law_530 ic_1 <|
g_iadd F dL_law_531 <|
g_ialdo F dL_law_532 hk fun x78 hk =>
g_aload_n F dL_law_533 rfl 1 rfl <|
g_iload F dL_law_534 5 rfl <|
g_iconst F dL_law_536 ic_2 <|
g_iadd F dL_law_537 <|
g_ialdo F dL_law_538 hk fun x79 hk =>
g_calli0 (g_V F dL_law_539 q3269 mi_X5_cellOf ct_X5 (rm' := rmX5_cellOf) ⟨Nat.le_of_ble_eq_true rfl, Nat.le_of_ble_eq_true rfl⟩ ⟨show cb + 0 + 2 + 0 ≤ 603072 by omega, show kb + 0 + 12 + 0 ≤ 7178346 by omega⟩ (As := [aI x78, aI x79]) (rest := []) rfl rfl (Nat.le_of_ble_eq_true rfl) hk (fun a82 hk => m_X5_cellOf F.ok a82 x78 x79 h76 _ hk)) ⟨rfl, rfl⟩ fun x81 h80 hk =>
g_istore F dL_law_542 (Nat.le_of_ble_eq_true rfl) rfl <|
g_aload_n F dL_law_544 rfl 4 rfl <|
g_calli0 (g_V F dL_law_545 q3085 mi_X5_thrown ct_X5 (rm' := rmX5_thrown) ⟨Nat.le_of_ble_eq_true rfl, Nat.le_of_ble_eq_true rfl⟩ ⟨show cb + 0 + 2 + 0 ≤ 603072 by omega, show kb + 0 + 12 + 0 ≤ 7178346 by omega⟩ (As := []) (rest := []) rfl rfl (Nat.le_of_ble_eq_true rfl) hk (fun a85 hk => m_X5_thrown F.ok a85 h80 _ hk)) ⟨rfl, rfl⟩ fun x84 h83 hk =>
g_iload F dL_law_548 1 rfl <|
g_icmp_eq F dL_law_550 (tgt := 555) rfl (fun hc => have hk := hk.1 hc
g_iload F dL_law_555 1 rfl <|
g_if_ne F dL_law_557 (tgt := 572) rfl (fun hc => have hk := hk.2 hc
G.fewer [2, 3, 4, 5, 6] rfl <| G.widen (show cb + 0 + 2 ≤ cb + 2 by omega) (show kb + 0 + 12 ≤ kb + 12 by omega) <| s_L_law_j572 F hL hM hM2 hS hS2 l0 l1 l2 l3 l4 h83 hk hK23) (fun hc => have hk := hk.1 hc
g_aload_n F dL_law_560 rfl 5 rfl <|
g_iconst F dL_law_561 ic_0 <|
g_lald F dL_law_562 hk fun x86 hk =>
g_iload F dL_law_563 0 rfl <|
g_i2l F dL_law_565 <|
g_lcmp F dL_law_566 <|
g_if_eq F dL_law_567 (tgt := 572) rfl (fun hc => have hk := hk.1 hc
G.fewer [2, 3, 4, 5, 6] rfl <| G.widen (show cb + 0 + 2 ≤ cb + 2 by omega) (show kb + 0 + 12 ≤ kb + 12 by omega) <| s_L_law_j572 F hL hM hM2 hS hS2 l0 l1 l2 l3 l4 h83 hk hK23) (fun hc => have hk := hk.2 hc
G.fewer [] rfl <| G.widen (show cb + 0 + 2 ≤ ce by omega) (show kb + 0 + 12 ≤ ke by omega) <| hK570 h83 hk))) (fun hc => have hk := hk.2 hc
G.fewer [] rfl <| G.widen (show cb + 0 + 2 ≤ ce by omega) (show kb + 0 + 12 ≤ ke by omega) <| hK553 h83 hk)
theorem s_L_law_j628 {x : Cx} (F : Fx x cL_law "LockstepRoomLaw" 9 (some .boolean) rmL_law) {Q : Int32 → hH → Prop} (hL : lawX x Q) {K23 : Option Nat → Option Nat → Option Nat → Option Nat → Int32 → hH → Prop} {cb kb ce ke : Nat} (hM : cb + 9000 ≤ ce) (hM2 : ce ≤ 603072) (hS : kb + 100000 ≤ ke) (hS2 : ke ≤ 7178346) (l0 : Option Nat) (l1 : Option Nat) (l2 : Option Nat) (l3 : Option Nat) (l4 : Int32) (h : hH) (hk : f_L_law_j628 x.S.E Q K23 l0 l1 l2 l3 l4 h) (hK23 : ∀ (l0 : Option Nat) (l1 : Option Nat) (l2 : Option Nat) (l3 : Option Nat) (l4 : Int32) (h : hH), K23 l0 l1 l2 l3 l4 h → G x (lw_Z x.below x.args x.s) 23 [(0, aR l0), (1, aR l1), (2, aR l2), (3, aR l3), (4, aI l4)] [] h (cb + 9000) (kb + 100000)) : G x (lw_Z x.below x.args x.s) 628 [(0, aR l0), (1, aR l1), (2, aR l2), (3, aR l3), (4, aI l4)] [] h (cb + 1) (kb + 6) := by
  unfold f_L_law_j628 at hk
  exact g_goto F dL_law_628 (tgt := 2370) rfl <|
g_iinc (v := (l4 + (6:Int32))) F dL_law_2370 (j := 4) rfl (iinc_6 l4) (Nat.le_of_ble_eq_true rfl) rfl <|
g_goto F dL_law_2373 (tgt := 23) rfl <|
G.fewer [1, 2, 3, 4, 0] rfl <| G.widen (show cb + 1 ≤ cb + 9000 by omega) (show kb + 6 ≤ kb + 100000 by omega) <| hK23 l0 l1 l2 l3 (l4 + (6:Int32)) h hk
theorem s_L_law_j575 {x : Cx} (F : Fx x cL_law "LockstepRoomLaw" 9 (some .boolean) rmL_law) {Q : Int32 → hH → Prop} (hL : lawX x Q) {K23 : Option Nat → Option Nat → Option Nat → Option Nat → Int32 → hH → Prop} {K609 : hH → Prop} {K626 : hH → Prop} {cb kb ce ke : Nat} (hM : cb + 9000 ≤ ce) (hM2 : ce ≤ 603072) (hS : kb + 100000 ≤ ke) (hS2 : ke ≤ 7178346) (l0 : Option Nat) (l1 : Option Nat) (l2 : Option Nat) (l3 : Option Nat) (l4 : Int32) (h : hH) (hk : f_L_law_j575 x.S.E Q K23 K609 K626 l0 l1 l2 l3 l4 h) (hK23 : ∀ (l0 : Option Nat) (l1 : Option Nat) (l2 : Option Nat) (l3 : Option Nat) (l4 : Int32) (h : hH), K23 l0 l1 l2 l3 l4 h → G x (lw_Z x.below x.args x.s) 23 [(0, aR l0), (1, aR l1), (2, aR l2), (3, aR l3), (4, aI l4)] [] h (cb + 9000) (kb + 100000)) (hK609 : ∀ (h : hH), K609 h → G x (lw_Z x.below x.args x.s) 609 [] [] h ce ke) (hK626 : ∀ (h : hH), K626 h → G x (lw_Z x.below x.args x.s) 626 [] [] h ce ke) : G x (lw_Z x.below x.args x.s) 575 [(0, aR l0), (1, aR l1), (2, aR l2), (3, aR l3), (4, aI l4)] [] h (cb + 0) (kb + 0) := by
  unfold f_L_law_j575 at hk
  exact g_aload_n F dL_law_575 rfl 1 rfl <|
g_aload_n F dL_law_576 rfl 0 rfl <|
g_iload F dL_law_577 4 rfl <|
g_iconst F dL_law_579 ic_1 <|
g_iadd F dL_law_580 <|
g_ialdo F dL_law_581 hk fun x87 hk =>
g_aload_n F dL_law_582 rfl 3 rfl <|
g_calli (g_SW F dL_law_583 q2659 q2660 q110 q2661 mo_X0_commandCount (rm' := rmX0_commandCount) ⟨Nat.le_of_ble_eq_true rfl, Nat.le_of_ble_eq_true rfl⟩ ⟨show cb + 0 + 1 ≤ 603072 by omega, show kb + 0 + 6 ≤ 7178346 by omega⟩ (As := [aR l1, aI x87, aR l3]) (rest := []) rfl rfl (Nat.le_of_ble_eq_true rfl) (m_X0_commandCount F.ok l1 x87 l3 h _ hk)) fun x89 h88 hk =>
g_istore F dL_law_586 (Nat.le_of_ble_eq_true rfl) rfl <|
g_aload_n F dL_law_588 rfl 3 rfl <|
g_aload_n F dL_law_589 rfl 1 rfl <|
g_iload F dL_law_590 5 rfl <|
g_iconst F dL_law_592 ic_1 <|
g_iadd F dL_law_593 <|
g_ialdo F dL_law_594 hk fun x90 hk =>
g_calli0 (g_V F dL_law_595 q3276 mi_X5_commandCount ct_X5 (rm' := rmX5_commandCount) ⟨Nat.le_of_ble_eq_true rfl, Nat.le_of_ble_eq_true rfl⟩ ⟨show cb + 0 + 1 + 0 ≤ 603072 by omega, show kb + 0 + 6 + 0 ≤ 7178346 by omega⟩ (As := [aI x90]) (rest := []) rfl rfl (Nat.le_of_ble_eq_true rfl) hk (fun a93 hk => m_X5_commandCount F.ok a93 x90 h88 _ hk)) ⟨rfl, rfl⟩ fun x92 h91 hk =>
g_istore F dL_law_598 (Nat.le_of_ble_eq_true rfl) rfl <|
g_aload_n F dL_law_600 rfl 4 rfl <|
g_calli0 (g_V F dL_law_601 q3085 mi_X5_thrown ct_X5 (rm' := rmX5_thrown) ⟨Nat.le_of_ble_eq_true rfl, Nat.le_of_ble_eq_true rfl⟩ ⟨show cb + 0 + 1 + 0 ≤ 603072 by omega, show kb + 0 + 6 + 0 ≤ 7178346 by omega⟩ (As := []) (rest := []) rfl rfl (Nat.le_of_ble_eq_true rfl) hk (fun a96 hk => m_X5_thrown F.ok a96 h91 _ hk)) ⟨rfl, rfl⟩ fun x95 h94 hk =>
g_iload F dL_law_604 1 rfl <|
g_icmp_eq F dL_law_606 (tgt := 611) rfl (fun hc => have hk := hk.1 hc
g_iload F dL_law_611 1 rfl <|
g_if_ne F dL_law_613 (tgt := 628) rfl (fun hc => have hk := hk.2 hc
G.fewer [2, 3, 4, 5, 6] rfl <| G.widen (show cb + 0 + 1 ≤ cb + 1 by omega) (show kb + 0 + 6 ≤ kb + 6 by omega) <| s_L_law_j628 F hL hM hM2 hS hS2 l0 l1 l2 l3 l4 h94 hk hK23) (fun hc => have hk := hk.1 hc
g_aload_n F dL_law_616 rfl 5 rfl <|
g_iconst F dL_law_617 ic_0 <|
g_lald F dL_law_618 hk fun x97 hk =>
g_iload F dL_law_619 0 rfl <|
g_i2l F dL_law_621 <|
g_lcmp F dL_law_622 <|
g_if_eq F dL_law_623 (tgt := 628) rfl (fun hc => have hk := hk.1 hc
G.fewer [2, 3, 4, 5, 6] rfl <| G.widen (show cb + 0 + 1 ≤ cb + 1 by omega) (show kb + 0 + 6 ≤ kb + 6 by omega) <| s_L_law_j628 F hL hM hM2 hS hS2 l0 l1 l2 l3 l4 h94 hk hK23) (fun hc => have hk := hk.2 hc
G.fewer [] rfl <| G.widen (show cb + 0 + 1 ≤ ce by omega) (show kb + 0 + 6 ≤ ke by omega) <| hK626 h94 hk))) (fun hc => have hk := hk.2 hc
G.fewer [] rfl <| G.widen (show cb + 0 + 1 ≤ ce by omega) (show kb + 0 + 6 ≤ ke by omega) <| hK609 h94 hk)
theorem s_L_law_j708 {x : Cx} (F : Fx x cL_law "LockstepRoomLaw" 9 (some .boolean) rmL_law) {Q : Int32 → hH → Prop} (hL : lawX x Q) {K23 : Option Nat → Option Nat → Option Nat → Option Nat → Int32 → hH → Prop} {cb kb ce ke : Nat} (hM : cb + 9000 ≤ ce) (hM2 : ce ≤ 603072) (hS : kb + 100000 ≤ ke) (hS2 : ke ≤ 7178346) (l0 : Option Nat) (l1 : Option Nat) (l2 : Option Nat) (l3 : Option Nat) (l4 : Int32) (h : hH) (hk : f_L_law_j708 x.S.E Q K23 l0 l1 l2 l3 l4 h) (hK23 : ∀ (l0 : Option Nat) (l1 : Option Nat) (l2 : Option Nat) (l3 : Option Nat) (l4 : Int32) (h : hH), K23 l0 l1 l2 l3 l4 h → G x (lw_Z x.below x.args x.s) 23 [(0, aR l0), (1, aR l1), (2, aR l2), (3, aR l3), (4, aI l4)] [] h (cb + 9000) (kb + 100000)) : G x (lw_Z x.below x.args x.s) 708 [(0, aR l0), (1, aR l1), (2, aR l2), (3, aR l3), (4, aI l4)] [] h (cb + 1) (kb + 6) := by
  unfold f_L_law_j708 at hk
  exact g_goto F dL_law_708 (tgt := 2370) rfl <|
g_iinc (v := (l4 + (6:Int32))) F dL_law_2370 (j := 4) rfl (iinc_6 l4) (Nat.le_of_ble_eq_true rfl) rfl <|
g_goto F dL_law_2373 (tgt := 23) rfl <|
G.fewer [1, 2, 3, 4, 0] rfl <| G.widen (show cb + 1 ≤ cb + 9000 by omega) (show kb + 6 ≤ kb + 100000 by omega) <| hK23 l0 l1 l2 l3 (l4 + (6:Int32)) h hk
theorem s_L_law_j631 {x : Cx} (F : Fx x cL_law "LockstepRoomLaw" 9 (some .boolean) rmL_law) {Q : Int32 → hH → Prop} (hL : lawX x Q) {K23 : Option Nat → Option Nat → Option Nat → Option Nat → Int32 → hH → Prop} {K689 : hH → Prop} {K706 : hH → Prop} {cb kb ce ke : Nat} (hM : cb + 9000 ≤ ce) (hM2 : ce ≤ 603072) (hS : kb + 100000 ≤ ke) (hS2 : ke ≤ 7178346) (l0 : Option Nat) (l1 : Option Nat) (l2 : Option Nat) (l3 : Option Nat) (l4 : Int32) (h : hH) (hk : f_L_law_j631 x.S.E Q K23 K689 K706 l0 l1 l2 l3 l4 h) (hK23 : ∀ (l0 : Option Nat) (l1 : Option Nat) (l2 : Option Nat) (l3 : Option Nat) (l4 : Int32) (h : hH), K23 l0 l1 l2 l3 l4 h → G x (lw_Z x.below x.args x.s) 23 [(0, aR l0), (1, aR l1), (2, aR l2), (3, aR l3), (4, aI l4)] [] h (cb + 9000) (kb + 100000)) (hK689 : ∀ (h : hH), K689 h → G x (lw_Z x.below x.args x.s) 689 [] [] h ce ke) (hK706 : ∀ (h : hH), K706 h → G x (lw_Z x.below x.args x.s) 706 [] [] h ce ke) : G x (lw_Z x.below x.args x.s) 631 [(0, aR l0), (1, aR l1), (2, aR l2), (3, aR l3), (4, aI l4)] [] h (cb + 0) (kb + 0) := by
  unfold f_L_law_j631 at hk
  exact g_aload_n F dL_law_631 rfl 1 rfl <|
g_aload_n F dL_law_632 rfl 0 rfl <|
g_iload F dL_law_633 4 rfl <|
g_iconst F dL_law_635 ic_1 <|
g_iadd F dL_law_636 <|
g_ialdo F dL_law_637 hk fun x98 hk =>
g_aload_n F dL_law_638 rfl 0 rfl <|
g_iload F dL_law_639 4 rfl <|
g_iconst F dL_law_641 ic_2 <|
g_iadd F dL_law_642 <|
g_ialdo F dL_law_643 hk fun x99 hk =>
g_aload_n F dL_law_644 rfl 0 rfl <|
g_iload F dL_law_645 4 rfl <|
g_iconst F dL_law_647 ic_3 <|
g_iadd F dL_law_648 <|
g_ialdo F dL_law_649 hk fun x100 hk =>
g_aload_n F dL_law_650 rfl 3 rfl <|
g_calli (g_SW F dL_law_651 q2672 q2673 q110 q2674 mo_X0_command (rm' := rmX0_command) ⟨Nat.le_of_ble_eq_true rfl, Nat.le_of_ble_eq_true rfl⟩ ⟨show cb + 0 + 1 ≤ 603072 by omega, show kb + 0 + 6 ≤ 7178346 by omega⟩ (As := [aR l1, aI x98, aI x99, aI x100, aR l3]) (rest := []) rfl rfl (Nat.le_of_ble_eq_true rfl) (m_X0_command F.ok l1 x98 x99 x100 l3 h _ hk)) fun x102 h101 hk =>
g_istore F dL_law_654 (Nat.le_of_ble_eq_true rfl) rfl <|
g_aload_n F dL_law_656 rfl 3 rfl <|
g_aload_n F dL_law_657 rfl 1 rfl <|
g_iload F dL_law_658 5 rfl <|
g_iconst F dL_law_660 ic_1 <|
g_iadd F dL_law_661 <|
g_ialdo F dL_law_662 hk fun x103 hk =>
g_aload_n F dL_law_663 rfl 1 rfl <|
g_iload F dL_law_664 5 rfl <|
g_iconst F dL_law_666 ic_2 <|
g_iadd F dL_law_667 <|
g_ialdo F dL_law_668 hk fun x104 hk =>
g_aload_n F dL_law_669 rfl 1 rfl <|
g_iload F dL_law_670 5 rfl <|
g_iconst F dL_law_672 ic_3 <|
g_iadd F dL_law_673 <|
g_ialdo F dL_law_674 hk fun x105 hk =>
g_calli0 (g_V F dL_law_675 q3284 mi_X5_command ct_X5 (rm' := rmX5_command) ⟨Nat.le_of_ble_eq_true rfl, Nat.le_of_ble_eq_true rfl⟩ ⟨show cb + 0 + 1 + 0 ≤ 603072 by omega, show kb + 0 + 6 + 0 ≤ 7178346 by omega⟩ (As := [aI x103, aI x104, aI x105]) (rest := []) rfl rfl (Nat.le_of_ble_eq_true rfl) hk (fun a108 hk => m_X5_command F.ok a108 x103 x104 x105 h101 _ hk)) ⟨rfl, rfl⟩ fun x107 h106 hk =>
g_istore F dL_law_678 (Nat.le_of_ble_eq_true rfl) rfl <|
g_aload_n F dL_law_680 rfl 4 rfl <|
g_calli0 (g_V F dL_law_681 q3085 mi_X5_thrown ct_X5 (rm' := rmX5_thrown) ⟨Nat.le_of_ble_eq_true rfl, Nat.le_of_ble_eq_true rfl⟩ ⟨show cb + 0 + 1 + 0 ≤ 603072 by omega, show kb + 0 + 6 + 0 ≤ 7178346 by omega⟩ (As := []) (rest := []) rfl rfl (Nat.le_of_ble_eq_true rfl) hk (fun a111 hk => m_X5_thrown F.ok a111 h106 _ hk)) ⟨rfl, rfl⟩ fun x110 h109 hk =>
g_iload F dL_law_684 1 rfl <|
g_icmp_eq F dL_law_686 (tgt := 691) rfl (fun hc => have hk := hk.1 hc
g_iload F dL_law_691 1 rfl <|
g_if_ne F dL_law_693 (tgt := 708) rfl (fun hc => have hk := hk.2 hc
G.fewer [2, 3, 4, 5, 6] rfl <| G.widen (show cb + 0 + 1 ≤ cb + 1 by omega) (show kb + 0 + 6 ≤ kb + 6 by omega) <| s_L_law_j708 F hL hM hM2 hS hS2 l0 l1 l2 l3 l4 h109 hk hK23) (fun hc => have hk := hk.1 hc
g_aload_n F dL_law_696 rfl 5 rfl <|
g_iconst F dL_law_697 ic_0 <|
g_lald F dL_law_698 hk fun x112 hk =>
g_iload F dL_law_699 0 rfl <|
g_i2l F dL_law_701 <|
g_lcmp F dL_law_702 <|
g_if_eq F dL_law_703 (tgt := 708) rfl (fun hc => have hk := hk.1 hc
G.fewer [2, 3, 4, 5, 6] rfl <| G.widen (show cb + 0 + 1 ≤ cb + 1 by omega) (show kb + 0 + 6 ≤ kb + 6 by omega) <| s_L_law_j708 F hL hM hM2 hS hS2 l0 l1 l2 l3 l4 h109 hk hK23) (fun hc => have hk := hk.2 hc
G.fewer [] rfl <| G.widen (show cb + 0 + 1 ≤ ce by omega) (show kb + 0 + 6 ≤ ke by omega) <| hK706 h109 hk))) (fun hc => have hk := hk.2 hc
G.fewer [] rfl <| G.widen (show cb + 0 + 1 ≤ ce by omega) (show kb + 0 + 6 ≤ ke by omega) <| hK689 h109 hk)
theorem s_L_law_j776 {x : Cx} (F : Fx x cL_law "LockstepRoomLaw" 9 (some .boolean) rmL_law) {Q : Int32 → hH → Prop} (hL : lawX x Q) {K23 : Option Nat → Option Nat → Option Nat → Option Nat → Int32 → hH → Prop} {cb kb ce ke : Nat} (hM : cb + 9000 ≤ ce) (hM2 : ce ≤ 603072) (hS : kb + 100000 ≤ ke) (hS2 : ke ≤ 7178346) (l0 : Option Nat) (l1 : Option Nat) (l2 : Option Nat) (l3 : Option Nat) (l4 : Int32) (h : hH) (hk : f_L_law_j776 x.S.E Q K23 l0 l1 l2 l3 l4 h) (hK23 : ∀ (l0 : Option Nat) (l1 : Option Nat) (l2 : Option Nat) (l3 : Option Nat) (l4 : Int32) (h : hH), K23 l0 l1 l2 l3 l4 h → G x (lw_Z x.below x.args x.s) 23 [(0, aR l0), (1, aR l1), (2, aR l2), (3, aR l3), (4, aI l4)] [] h (cb + 9000) (kb + 100000)) : G x (lw_Z x.below x.args x.s) 776 [(0, aR l0), (1, aR l1), (2, aR l2), (3, aR l3), (4, aI l4)] [] h (cb + 1) (kb + 6) := by
  unfold f_L_law_j776 at hk
  exact g_goto F dL_law_776 (tgt := 2370) rfl <|
g_iinc (v := (l4 + (6:Int32))) F dL_law_2370 (j := 4) rfl (iinc_6 l4) (Nat.le_of_ble_eq_true rfl) rfl <|
g_goto F dL_law_2373 (tgt := 23) rfl <|
G.fewer [1, 2, 3, 4, 0] rfl <| G.widen (show cb + 1 ≤ cb + 9000 by omega) (show kb + 6 ≤ kb + 100000 by omega) <| hK23 l0 l1 l2 l3 (l4 + (6:Int32)) h hk
theorem s_L_law_j711 {x : Cx} (F : Fx x cL_law "LockstepRoomLaw" 9 (some .boolean) rmL_law) {Q : Int32 → hH → Prop} (hL : lawX x Q) {K23 : Option Nat → Option Nat → Option Nat → Option Nat → Int32 → hH → Prop} {K757 : hH → Prop} {K774 : hH → Prop} {cb kb ce ke : Nat} (hM : cb + 9000 ≤ ce) (hM2 : ce ≤ 603072) (hS : kb + 100000 ≤ ke) (hS2 : ke ≤ 7178346) (l0 : Option Nat) (l1 : Option Nat) (l2 : Option Nat) (l3 : Option Nat) (l4 : Int32) (h : hH) (hk : f_L_law_j711 x.S.E Q K23 K757 K774 l0 l1 l2 l3 l4 h) (hK23 : ∀ (l0 : Option Nat) (l1 : Option Nat) (l2 : Option Nat) (l3 : Option Nat) (l4 : Int32) (h : hH), K23 l0 l1 l2 l3 l4 h → G x (lw_Z x.below x.args x.s) 23 [(0, aR l0), (1, aR l1), (2, aR l2), (3, aR l3), (4, aI l4)] [] h (cb + 9000) (kb + 100000)) (hK757 : ∀ (h : hH), K757 h → G x (lw_Z x.below x.args x.s) 757 [] [] h ce ke) (hK774 : ∀ (h : hH), K774 h → G x (lw_Z x.below x.args x.s) 774 [] [] h ce ke) : G x (lw_Z x.below x.args x.s) 711 [(0, aR l0), (1, aR l1), (2, aR l2), (3, aR l3), (4, aI l4)] [] h (cb + 0) (kb + 0) := by
  unfold f_L_law_j711 at hk
  exact g_aload_n F dL_law_711 rfl 1 rfl <|
g_aload_n F dL_law_712 rfl 0 rfl <|
g_iload F dL_law_713 4 rfl <|
g_iconst F dL_law_715 ic_1 <|
g_iadd F dL_law_716 <|
g_ialdo F dL_law_717 hk fun x113 hk =>
g_aload_n F dL_law_718 rfl 0 rfl <|
g_iload F dL_law_719 4 rfl <|
g_iconst F dL_law_721 ic_2 <|
g_iadd F dL_law_722 <|
g_ialdo F dL_law_723 hk fun x114 hk =>
g_aload_n F dL_law_724 rfl 3 rfl <|
g_calli (g_SW F dL_law_725 q2679 q2680 q110 q2681 mo_X0_faultNumber (rm' := rmX0_faultNumber) ⟨Nat.le_of_ble_eq_true rfl, Nat.le_of_ble_eq_true rfl⟩ ⟨show cb + 0 + 1 ≤ 603072 by omega, show kb + 0 + 6 ≤ 7178346 by omega⟩ (As := [aR l1, aI x113, aI x114, aR l3]) (rest := []) rfl rfl (Nat.le_of_ble_eq_true rfl) (m_X0_faultNumber F.ok l1 x113 x114 l3 h _ hk)) fun x116 h115 hk =>
g_istore F dL_law_728 (Nat.le_of_ble_eq_true rfl) rfl <|
g_aload_n F dL_law_730 rfl 3 rfl <|
g_aload_n F dL_law_731 rfl 1 rfl <|
g_iload F dL_law_732 5 rfl <|
g_iconst F dL_law_734 ic_1 <|
g_iadd F dL_law_735 <|
g_ialdo F dL_law_736 hk fun x117 hk =>
g_aload_n F dL_law_737 rfl 1 rfl <|
g_iload F dL_law_738 5 rfl <|
g_iconst F dL_law_740 ic_2 <|
g_iadd F dL_law_741 <|
g_ialdo F dL_law_742 hk fun x118 hk =>
g_calli0 (g_V F dL_law_743 q3288 mi_X5_faultNumber ct_X5 (rm' := rmX5_faultNumber) ⟨Nat.le_of_ble_eq_true rfl, Nat.le_of_ble_eq_true rfl⟩ ⟨show cb + 0 + 1 + 0 ≤ 603072 by omega, show kb + 0 + 6 + 0 ≤ 7178346 by omega⟩ (As := [aI x117, aI x118]) (rest := []) rfl rfl (Nat.le_of_ble_eq_true rfl) hk (fun a121 hk => m_X5_faultNumber F.ok a121 x117 x118 h115 _ hk)) ⟨rfl, rfl⟩ fun x120 h119 hk =>
g_istore F dL_law_746 (Nat.le_of_ble_eq_true rfl) rfl <|
g_aload_n F dL_law_748 rfl 4 rfl <|
g_calli0 (g_V F dL_law_749 q3085 mi_X5_thrown ct_X5 (rm' := rmX5_thrown) ⟨Nat.le_of_ble_eq_true rfl, Nat.le_of_ble_eq_true rfl⟩ ⟨show cb + 0 + 1 + 0 ≤ 603072 by omega, show kb + 0 + 6 + 0 ≤ 7178346 by omega⟩ (As := []) (rest := []) rfl rfl (Nat.le_of_ble_eq_true rfl) hk (fun a124 hk => m_X5_thrown F.ok a124 h119 _ hk)) ⟨rfl, rfl⟩ fun x123 h122 hk =>
g_iload F dL_law_752 1 rfl <|
g_icmp_eq F dL_law_754 (tgt := 759) rfl (fun hc => have hk := hk.1 hc
g_iload F dL_law_759 1 rfl <|
g_if_ne F dL_law_761 (tgt := 776) rfl (fun hc => have hk := hk.2 hc
G.fewer [2, 3, 4, 5, 6] rfl <| G.widen (show cb + 0 + 1 ≤ cb + 1 by omega) (show kb + 0 + 6 ≤ kb + 6 by omega) <| s_L_law_j776 F hL hM hM2 hS hS2 l0 l1 l2 l3 l4 h122 hk hK23) (fun hc => have hk := hk.1 hc
g_aload_n F dL_law_764 rfl 5 rfl <|
g_iconst F dL_law_765 ic_0 <|
g_lald F dL_law_766 hk fun x125 hk =>
g_iload F dL_law_767 0 rfl <|
g_i2l F dL_law_769 <|
g_lcmp F dL_law_770 <|
g_if_eq F dL_law_771 (tgt := 776) rfl (fun hc => have hk := hk.1 hc
G.fewer [2, 3, 4, 5, 6] rfl <| G.widen (show cb + 0 + 1 ≤ cb + 1 by omega) (show kb + 0 + 6 ≤ kb + 6 by omega) <| s_L_law_j776 F hL hM hM2 hS hS2 l0 l1 l2 l3 l4 h122 hk hK23) (fun hc => have hk := hk.2 hc
G.fewer [] rfl <| G.widen (show cb + 0 + 1 ≤ ce by omega) (show kb + 0 + 6 ≤ ke by omega) <| hK774 h122 hk))) (fun hc => have hk := hk.2 hc
G.fewer [] rfl <| G.widen (show cb + 0 + 1 ≤ ce by omega) (show kb + 0 + 6 ≤ ke by omega) <| hK757 h122 hk)
theorem s_L_law_j844 {x : Cx} (F : Fx x cL_law "LockstepRoomLaw" 9 (some .boolean) rmL_law) {Q : Int32 → hH → Prop} (hL : lawX x Q) {K23 : Option Nat → Option Nat → Option Nat → Option Nat → Int32 → hH → Prop} {cb kb ce ke : Nat} (hM : cb + 9000 ≤ ce) (hM2 : ce ≤ 603072) (hS : kb + 100000 ≤ ke) (hS2 : ke ≤ 7178346) (l0 : Option Nat) (l1 : Option Nat) (l2 : Option Nat) (l3 : Option Nat) (l4 : Int32) (h : hH) (hk : f_L_law_j844 x.S.E Q K23 l0 l1 l2 l3 l4 h) (hK23 : ∀ (l0 : Option Nat) (l1 : Option Nat) (l2 : Option Nat) (l3 : Option Nat) (l4 : Int32) (h : hH), K23 l0 l1 l2 l3 l4 h → G x (lw_Z x.below x.args x.s) 23 [(0, aR l0), (1, aR l1), (2, aR l2), (3, aR l3), (4, aI l4)] [] h (cb + 9000) (kb + 100000)) : G x (lw_Z x.below x.args x.s) 844 [(0, aR l0), (1, aR l1), (2, aR l2), (3, aR l3), (4, aI l4)] [] h (cb + 3) (kb + 39) := by
  unfold f_L_law_j844 at hk
  exact g_goto F dL_law_844 (tgt := 2370) rfl <|
g_iinc (v := (l4 + (6:Int32))) F dL_law_2370 (j := 4) rfl (iinc_6 l4) (Nat.le_of_ble_eq_true rfl) rfl <|
g_goto F dL_law_2373 (tgt := 23) rfl <|
G.fewer [1, 2, 3, 4, 0] rfl <| G.widen (show cb + 3 ≤ cb + 9000 by omega) (show kb + 39 ≤ kb + 100000 by omega) <| hK23 l0 l1 l2 l3 (l4 + (6:Int32)) h hk
theorem s_L_law_j779 {x : Cx} (F : Fx x cL_law "LockstepRoomLaw" 9 (some .boolean) rmL_law) {Q : Int32 → hH → Prop} (hL : lawX x Q) {K23 : Option Nat → Option Nat → Option Nat → Option Nat → Int32 → hH → Prop} {K825 : hH → Prop} {K842 : hH → Prop} {cb kb ce ke : Nat} (hM : cb + 9000 ≤ ce) (hM2 : ce ≤ 603072) (hS : kb + 100000 ≤ ke) (hS2 : ke ≤ 7178346) (l0 : Option Nat) (l1 : Option Nat) (l2 : Option Nat) (l3 : Option Nat) (l4 : Int32) (h : hH) (hk : f_L_law_j779 x.S.E Q K23 K825 K842 l0 l1 l2 l3 l4 h) (hK23 : ∀ (l0 : Option Nat) (l1 : Option Nat) (l2 : Option Nat) (l3 : Option Nat) (l4 : Int32) (h : hH), K23 l0 l1 l2 l3 l4 h → G x (lw_Z x.below x.args x.s) 23 [(0, aR l0), (1, aR l1), (2, aR l2), (3, aR l3), (4, aI l4)] [] h (cb + 9000) (kb + 100000)) (hK825 : ∀ (h : hH), K825 h → G x (lw_Z x.below x.args x.s) 825 [] [] h ce ke) (hK842 : ∀ (h : hH), K842 h → G x (lw_Z x.below x.args x.s) 842 [] [] h ce ke) : G x (lw_Z x.below x.args x.s) 779 [(0, aR l0), (1, aR l1), (2, aR l2), (3, aR l3), (4, aI l4)] [] h (cb + 0) (kb + 0) := by
  unfold f_L_law_j779 at hk
  exact g_aload_n F dL_law_779 rfl 1 rfl <|
g_aload_n F dL_law_780 rfl 0 rfl <|
g_iload F dL_law_781 4 rfl <|
g_iconst F dL_law_783 ic_1 <|
g_iadd F dL_law_784 <|
g_ialdo F dL_law_785 hk fun x126 hk =>
g_aload_n F dL_law_786 rfl 0 rfl <|
g_iload F dL_law_787 4 rfl <|
g_iconst F dL_law_789 ic_2 <|
g_iadd F dL_law_790 <|
g_ialdo F dL_law_791 hk fun x127 hk =>
g_aload_n F dL_law_792 rfl 3 rfl <|
g_calli (g_SW F dL_law_793 q2686 q2687 q110 q2688 mo_X0_checksum (rm' := rmX0_checksum) ⟨Nat.le_of_ble_eq_true rfl, Nat.le_of_ble_eq_true rfl⟩ ⟨show cb + 0 + 3 ≤ 603072 by omega, show kb + 0 + 39 ≤ 7178346 by omega⟩ (As := [aR l1, aI x126, aI x127, aR l3]) (rest := []) rfl rfl (Nat.le_of_ble_eq_true rfl) (m_X0_checksum F.ok l1 x126 x127 l3 h _ hk)) fun x129 h128 hk =>
g_istore F dL_law_796 (Nat.le_of_ble_eq_true rfl) rfl <|
g_aload_n F dL_law_798 rfl 3 rfl <|
g_aload_n F dL_law_799 rfl 1 rfl <|
g_iload F dL_law_800 5 rfl <|
g_iconst F dL_law_802 ic_1 <|
g_iadd F dL_law_803 <|
g_ialdo F dL_law_804 hk fun x130 hk =>
g_aload_n F dL_law_805 rfl 1 rfl <|
g_iload F dL_law_806 5 rfl <|
g_iconst F dL_law_808 ic_2 <|
g_iadd F dL_law_809 <|
g_ialdo F dL_law_810 hk fun x131 hk =>
g_calli0 (g_V F dL_law_811 q3296 mi_X5_checksum ct_X5 (rm' := rmX5_checksum) ⟨Nat.le_of_ble_eq_true rfl, Nat.le_of_ble_eq_true rfl⟩ ⟨show cb + 0 + 3 + 0 ≤ 603072 by omega, show kb + 0 + 39 + 0 ≤ 7178346 by omega⟩ (As := [aI x130, aI x131]) (rest := []) rfl rfl (Nat.le_of_ble_eq_true rfl) hk (fun a134 hk => m_X5_checksum F.ok a134 x130 x131 h128 _ hk)) ⟨rfl, rfl⟩ fun x133 h132 hk =>
g_istore F dL_law_814 (Nat.le_of_ble_eq_true rfl) rfl <|
g_aload_n F dL_law_816 rfl 4 rfl <|
g_calli0 (g_V F dL_law_817 q3085 mi_X5_thrown ct_X5 (rm' := rmX5_thrown) ⟨Nat.le_of_ble_eq_true rfl, Nat.le_of_ble_eq_true rfl⟩ ⟨show cb + 0 + 3 + 0 ≤ 603072 by omega, show kb + 0 + 39 + 0 ≤ 7178346 by omega⟩ (As := []) (rest := []) rfl rfl (Nat.le_of_ble_eq_true rfl) hk (fun a137 hk => m_X5_thrown F.ok a137 h132 _ hk)) ⟨rfl, rfl⟩ fun x136 h135 hk =>
g_iload F dL_law_820 1 rfl <|
g_icmp_eq F dL_law_822 (tgt := 827) rfl (fun hc => have hk := hk.1 hc
g_iload F dL_law_827 1 rfl <|
g_if_ne F dL_law_829 (tgt := 844) rfl (fun hc => have hk := hk.2 hc
G.fewer [2, 3, 4, 5, 6] rfl <| G.widen (show cb + 0 + 3 ≤ cb + 3 by omega) (show kb + 0 + 39 ≤ kb + 39 by omega) <| s_L_law_j844 F hL hM hM2 hS hS2 l0 l1 l2 l3 l4 h135 hk hK23) (fun hc => have hk := hk.1 hc
g_aload_n F dL_law_832 rfl 5 rfl <|
g_iconst F dL_law_833 ic_0 <|
g_lald F dL_law_834 hk fun x138 hk =>
g_iload F dL_law_835 0 rfl <|
g_i2l F dL_law_837 <|
g_lcmp F dL_law_838 <|
g_if_eq F dL_law_839 (tgt := 844) rfl (fun hc => have hk := hk.1 hc
G.fewer [2, 3, 4, 5, 6] rfl <| G.widen (show cb + 0 + 3 ≤ cb + 3 by omega) (show kb + 0 + 39 ≤ kb + 39 by omega) <| s_L_law_j844 F hL hM hM2 hS hS2 l0 l1 l2 l3 l4 h135 hk hK23) (fun hc => have hk := hk.2 hc
G.fewer [] rfl <| G.widen (show cb + 0 + 3 ≤ ce by omega) (show kb + 0 + 39 ≤ ke by omega) <| hK842 h135 hk))) (fun hc => have hk := hk.2 hc
G.fewer [] rfl <| G.widen (show cb + 0 + 3 ≤ ce by omega) (show kb + 0 + 39 ≤ ke by omega) <| hK825 h135 hk)
theorem s_L_law_j912 {x : Cx} (F : Fx x cL_law "LockstepRoomLaw" 9 (some .boolean) rmL_law) {Q : Int32 → hH → Prop} (hL : lawX x Q) {K23 : Option Nat → Option Nat → Option Nat → Option Nat → Int32 → hH → Prop} {cb kb ce ke : Nat} (hM : cb + 9000 ≤ ce) (hM2 : ce ≤ 603072) (hS : kb + 100000 ≤ ke) (hS2 : ke ≤ 7178346) (l0 : Option Nat) (l1 : Option Nat) (l2 : Option Nat) (l3 : Option Nat) (l4 : Int32) (h : hH) (hk : f_L_law_j912 x.S.E Q K23 l0 l1 l2 l3 l4 h) (hK23 : ∀ (l0 : Option Nat) (l1 : Option Nat) (l2 : Option Nat) (l3 : Option Nat) (l4 : Int32) (h : hH), K23 l0 l1 l2 l3 l4 h → G x (lw_Z x.below x.args x.s) 23 [(0, aR l0), (1, aR l1), (2, aR l2), (3, aR l3), (4, aI l4)] [] h (cb + 9000) (kb + 100000)) : G x (lw_Z x.below x.args x.s) 912 [(0, aR l0), (1, aR l1), (2, aR l2), (3, aR l3), (4, aI l4)] [] h (cb + 2) (kb + 7) := by
  unfold f_L_law_j912 at hk
  exact g_goto F dL_law_912 (tgt := 2370) rfl <|
g_iinc (v := (l4 + (6:Int32))) F dL_law_2370 (j := 4) rfl (iinc_6 l4) (Nat.le_of_ble_eq_true rfl) rfl <|
g_goto F dL_law_2373 (tgt := 23) rfl <|
G.fewer [1, 2, 3, 4, 0] rfl <| G.widen (show cb + 2 ≤ cb + 9000 by omega) (show kb + 7 ≤ kb + 100000 by omega) <| hK23 l0 l1 l2 l3 (l4 + (6:Int32)) h hk
theorem s_L_law_j847 {x : Cx} (F : Fx x cL_law "LockstepRoomLaw" 9 (some .boolean) rmL_law) {Q : Int32 → hH → Prop} (hL : lawX x Q) {K23 : Option Nat → Option Nat → Option Nat → Option Nat → Int32 → hH → Prop} {K893 : hH → Prop} {K910 : hH → Prop} {cb kb ce ke : Nat} (hM : cb + 9000 ≤ ce) (hM2 : ce ≤ 603072) (hS : kb + 100000 ≤ ke) (hS2 : ke ≤ 7178346) (l0 : Option Nat) (l1 : Option Nat) (l2 : Option Nat) (l3 : Option Nat) (l4 : Int32) (h : hH) (hk : f_L_law_j847 x.S.E Q K23 K893 K910 l0 l1 l2 l3 l4 h) (hK23 : ∀ (l0 : Option Nat) (l1 : Option Nat) (l2 : Option Nat) (l3 : Option Nat) (l4 : Int32) (h : hH), K23 l0 l1 l2 l3 l4 h → G x (lw_Z x.below x.args x.s) 23 [(0, aR l0), (1, aR l1), (2, aR l2), (3, aR l3), (4, aI l4)] [] h (cb + 9000) (kb + 100000)) (hK893 : ∀ (h : hH), K893 h → G x (lw_Z x.below x.args x.s) 893 [] [] h ce ke) (hK910 : ∀ (h : hH), K910 h → G x (lw_Z x.below x.args x.s) 910 [] [] h ce ke) : G x (lw_Z x.below x.args x.s) 847 [(0, aR l0), (1, aR l1), (2, aR l2), (3, aR l3), (4, aI l4)] [] h (cb + 0) (kb + 0) := by
  unfold f_L_law_j847 at hk
  exact g_aload_n F dL_law_847 rfl 1 rfl <|
g_aload_n F dL_law_848 rfl 0 rfl <|
g_iload F dL_law_849 4 rfl <|
g_iconst F dL_law_851 ic_1 <|
g_iadd F dL_law_852 <|
g_ialdo F dL_law_853 hk fun x139 hk =>
g_aload_n F dL_law_854 rfl 0 rfl <|
g_iload F dL_law_855 4 rfl <|
g_iconst F dL_law_857 ic_2 <|
g_iadd F dL_law_858 <|
g_ialdo F dL_law_859 hk fun x140 hk =>
g_aload_n F dL_law_860 rfl 3 rfl <|
g_calli (g_SW F dL_law_861 q2695 q2696 q110 q2697 mo_X0_rootAt (rm' := rmX0_rootAt) ⟨Nat.le_of_ble_eq_true rfl, Nat.le_of_ble_eq_true rfl⟩ ⟨show cb + 0 + 2 ≤ 603072 by omega, show kb + 0 + 7 ≤ 7178346 by omega⟩ (As := [aR l1, aI x139, aI x140, aR l3]) (rest := []) rfl rfl (Nat.le_of_ble_eq_true rfl) (m_X0_rootAt F.ok l1 x139 x140 l3 h _ hk)) fun x142 h141 hk =>
g_istore F dL_law_864 (Nat.le_of_ble_eq_true rfl) rfl <|
g_aload_n F dL_law_866 rfl 3 rfl <|
g_aload_n F dL_law_867 rfl 1 rfl <|
g_iload F dL_law_868 5 rfl <|
g_iconst F dL_law_870 ic_1 <|
g_iadd F dL_law_871 <|
g_ialdo F dL_law_872 hk fun x143 hk =>
g_aload_n F dL_law_873 rfl 1 rfl <|
g_iload F dL_law_874 5 rfl <|
g_iconst F dL_law_876 ic_2 <|
g_iadd F dL_law_877 <|
g_ialdo F dL_law_878 hk fun x144 hk =>
g_calli0 (g_V F dL_law_879 q3300 mi_X5_rootAt ct_X5 (rm' := rmX5_rootAt) ⟨Nat.le_of_ble_eq_true rfl, Nat.le_of_ble_eq_true rfl⟩ ⟨show cb + 0 + 2 + 0 ≤ 603072 by omega, show kb + 0 + 7 + 0 ≤ 7178346 by omega⟩ (As := [aI x143, aI x144]) (rest := []) rfl rfl (Nat.le_of_ble_eq_true rfl) hk (fun a147 hk => m_X5_rootAt F.ok a147 x143 x144 h141 _ hk)) ⟨rfl, rfl⟩ fun x146 h145 hk =>
g_istore F dL_law_882 (Nat.le_of_ble_eq_true rfl) rfl <|
g_aload_n F dL_law_884 rfl 4 rfl <|
g_calli0 (g_V F dL_law_885 q3085 mi_X5_thrown ct_X5 (rm' := rmX5_thrown) ⟨Nat.le_of_ble_eq_true rfl, Nat.le_of_ble_eq_true rfl⟩ ⟨show cb + 0 + 2 + 0 ≤ 603072 by omega, show kb + 0 + 7 + 0 ≤ 7178346 by omega⟩ (As := []) (rest := []) rfl rfl (Nat.le_of_ble_eq_true rfl) hk (fun a150 hk => m_X5_thrown F.ok a150 h145 _ hk)) ⟨rfl, rfl⟩ fun x149 h148 hk =>
g_iload F dL_law_888 1 rfl <|
g_icmp_eq F dL_law_890 (tgt := 895) rfl (fun hc => have hk := hk.1 hc
g_iload F dL_law_895 1 rfl <|
g_if_ne F dL_law_897 (tgt := 912) rfl (fun hc => have hk := hk.2 hc
G.fewer [2, 3, 4, 5, 6] rfl <| G.widen (show cb + 0 + 2 ≤ cb + 2 by omega) (show kb + 0 + 7 ≤ kb + 7 by omega) <| s_L_law_j912 F hL hM hM2 hS hS2 l0 l1 l2 l3 l4 h148 hk hK23) (fun hc => have hk := hk.1 hc
g_aload_n F dL_law_900 rfl 5 rfl <|
g_iconst F dL_law_901 ic_0 <|
g_lald F dL_law_902 hk fun x151 hk =>
g_iload F dL_law_903 0 rfl <|
g_i2l F dL_law_905 <|
g_lcmp F dL_law_906 <|
g_if_eq F dL_law_907 (tgt := 912) rfl (fun hc => have hk := hk.1 hc
G.fewer [2, 3, 4, 5, 6] rfl <| G.widen (show cb + 0 + 2 ≤ cb + 2 by omega) (show kb + 0 + 7 ≤ kb + 7 by omega) <| s_L_law_j912 F hL hM hM2 hS hS2 l0 l1 l2 l3 l4 h148 hk hK23) (fun hc => have hk := hk.2 hc
G.fewer [] rfl <| G.widen (show cb + 0 + 2 ≤ ce by omega) (show kb + 0 + 7 ≤ ke by omega) <| hK910 h148 hk))) (fun hc => have hk := hk.2 hc
G.fewer [] rfl <| G.widen (show cb + 0 + 2 ≤ ce by omega) (show kb + 0 + 7 ≤ ke by omega) <| hK893 h148 hk)
theorem s_L_law_j980 {x : Cx} (F : Fx x cL_law "LockstepRoomLaw" 9 (some .boolean) rmL_law) {Q : Int32 → hH → Prop} (hL : lawX x Q) {K23 : Option Nat → Option Nat → Option Nat → Option Nat → Int32 → hH → Prop} {cb kb ce ke : Nat} (hM : cb + 9000 ≤ ce) (hM2 : ce ≤ 603072) (hS : kb + 100000 ≤ ke) (hS2 : ke ≤ 7178346) (l0 : Option Nat) (l1 : Option Nat) (l2 : Option Nat) (l3 : Option Nat) (l4 : Int32) (h : hH) (hk : f_L_law_j980 x.S.E Q K23 l0 l1 l2 l3 l4 h) (hK23 : ∀ (l0 : Option Nat) (l1 : Option Nat) (l2 : Option Nat) (l3 : Option Nat) (l4 : Int32) (h : hH), K23 l0 l1 l2 l3 l4 h → G x (lw_Z x.below x.args x.s) 23 [(0, aR l0), (1, aR l1), (2, aR l2), (3, aR l3), (4, aI l4)] [] h (cb + 9000) (kb + 100000)) : G x (lw_Z x.below x.args x.s) 980 [(0, aR l0), (1, aR l1), (2, aR l2), (3, aR l3), (4, aI l4)] [] h (cb + 87) (kb + 101) := by
  unfold f_L_law_j980 at hk
  exact g_goto F dL_law_980 (tgt := 2370) rfl <|
g_iinc (v := (l4 + (6:Int32))) F dL_law_2370 (j := 4) rfl (iinc_6 l4) (Nat.le_of_ble_eq_true rfl) rfl <|
g_goto F dL_law_2373 (tgt := 23) rfl <|
G.fewer [1, 2, 3, 4, 0] rfl <| G.widen (show cb + 87 ≤ cb + 9000 by omega) (show kb + 101 ≤ kb + 100000 by omega) <| hK23 l0 l1 l2 l3 (l4 + (6:Int32)) h hk
theorem s_L_law_j915 {x : Cx} (F : Fx x cL_law "LockstepRoomLaw" 9 (some .boolean) rmL_law) {Q : Int32 → hH → Prop} (hL : lawX x Q) {K23 : Option Nat → Option Nat → Option Nat → Option Nat → Int32 → hH → Prop} {K961 : hH → Prop} {K978 : hH → Prop} {cb kb ce ke : Nat} (hM : cb + 9000 ≤ ce) (hM2 : ce ≤ 603072) (hS : kb + 100000 ≤ ke) (hS2 : ke ≤ 7178346) (l0 : Option Nat) (l1 : Option Nat) (l2 : Option Nat) (l3 : Option Nat) (l4 : Int32) (h : hH) (hk : f_L_law_j915 x.S.E Q K23 K961 K978 l0 l1 l2 l3 l4 h) (hK23 : ∀ (l0 : Option Nat) (l1 : Option Nat) (l2 : Option Nat) (l3 : Option Nat) (l4 : Int32) (h : hH), K23 l0 l1 l2 l3 l4 h → G x (lw_Z x.below x.args x.s) 23 [(0, aR l0), (1, aR l1), (2, aR l2), (3, aR l3), (4, aI l4)] [] h (cb + 9000) (kb + 100000)) (hK961 : ∀ (h : hH), K961 h → G x (lw_Z x.below x.args x.s) 961 [] [] h ce ke) (hK978 : ∀ (h : hH), K978 h → G x (lw_Z x.below x.args x.s) 978 [] [] h ce ke) : G x (lw_Z x.below x.args x.s) 915 [(0, aR l0), (1, aR l1), (2, aR l2), (3, aR l3), (4, aI l4)] [] h (cb + 0) (kb + 0) := by
  unfold f_L_law_j915 at hk
  exact g_aload_n F dL_law_915 rfl 1 rfl <|
g_aload_n F dL_law_916 rfl 0 rfl <|
g_iload F dL_law_917 4 rfl <|
g_iconst F dL_law_919 ic_1 <|
g_iadd F dL_law_920 <|
g_ialdo F dL_law_921 hk fun x152 hk =>
g_aload_n F dL_law_922 rfl 0 rfl <|
g_iload F dL_law_923 4 rfl <|
g_iconst F dL_law_925 ic_2 <|
g_iadd F dL_law_926 <|
g_ialdo F dL_law_927 hk fun x153 hk =>
g_aload_n F dL_law_928 rfl 3 rfl <|
g_calli (g_SW F dL_law_929 q2703 q2704 q110 q2705 mo_X0_firstWrongTurn (rm' := rmX0_firstWrongTurn) ⟨Nat.le_of_ble_eq_true rfl, Nat.le_of_ble_eq_true rfl⟩ ⟨show cb + 0 + 87 ≤ 603072 by omega, show kb + 0 + 101 ≤ 7178346 by omega⟩ (As := [aR l1, aI x152, aI x153, aR l3]) (rest := []) rfl rfl (Nat.le_of_ble_eq_true rfl) (m_X0_firstWrongTurn F.ok l1 x152 x153 l3 h _ hk)) fun x155 h154 hk =>
g_istore F dL_law_932 (Nat.le_of_ble_eq_true rfl) rfl <|
g_aload_n F dL_law_934 rfl 3 rfl <|
g_aload_n F dL_law_935 rfl 1 rfl <|
g_iload F dL_law_936 5 rfl <|
g_iconst F dL_law_938 ic_1 <|
g_iadd F dL_law_939 <|
g_ialdo F dL_law_940 hk fun x156 hk =>
g_aload_n F dL_law_941 rfl 1 rfl <|
g_iload F dL_law_942 5 rfl <|
g_iconst F dL_law_944 ic_2 <|
g_iadd F dL_law_945 <|
g_ialdo F dL_law_946 hk fun x157 hk =>
g_calli0 (g_V F dL_law_947 q3312 mi_X5_firstWrongTurn ct_X5 (rm' := rmX5_firstWrongTurn) ⟨Nat.le_of_ble_eq_true rfl, Nat.le_of_ble_eq_true rfl⟩ ⟨show cb + 0 + 87 + 0 ≤ 603072 by omega, show kb + 0 + 101 + 0 ≤ 7178346 by omega⟩ (As := [aI x156, aI x157]) (rest := []) rfl rfl (Nat.le_of_ble_eq_true rfl) hk (fun a160 hk => m_X5_firstWrongTurn F.ok a160 x156 x157 h154 _ hk)) ⟨rfl, rfl⟩ fun x159 h158 hk =>
g_istore F dL_law_950 (Nat.le_of_ble_eq_true rfl) rfl <|
g_aload_n F dL_law_952 rfl 4 rfl <|
g_calli0 (g_V F dL_law_953 q3085 mi_X5_thrown ct_X5 (rm' := rmX5_thrown) ⟨Nat.le_of_ble_eq_true rfl, Nat.le_of_ble_eq_true rfl⟩ ⟨show cb + 0 + 87 + 0 ≤ 603072 by omega, show kb + 0 + 101 + 0 ≤ 7178346 by omega⟩ (As := []) (rest := []) rfl rfl (Nat.le_of_ble_eq_true rfl) hk (fun a163 hk => m_X5_thrown F.ok a163 h158 _ hk)) ⟨rfl, rfl⟩ fun x162 h161 hk =>
g_iload F dL_law_956 1 rfl <|
g_icmp_eq F dL_law_958 (tgt := 963) rfl (fun hc => have hk := hk.1 hc
g_iload F dL_law_963 1 rfl <|
g_if_ne F dL_law_965 (tgt := 980) rfl (fun hc => have hk := hk.2 hc
G.fewer [2, 3, 4, 5, 6] rfl <| G.widen (show cb + 0 + 87 ≤ cb + 87 by omega) (show kb + 0 + 101 ≤ kb + 101 by omega) <| s_L_law_j980 F hL hM hM2 hS hS2 l0 l1 l2 l3 l4 h161 hk hK23) (fun hc => have hk := hk.1 hc
g_aload_n F dL_law_968 rfl 5 rfl <|
g_iconst F dL_law_969 ic_0 <|
g_lald F dL_law_970 hk fun x164 hk =>
g_iload F dL_law_971 0 rfl <|
g_i2l F dL_law_973 <|
g_lcmp F dL_law_974 <|
g_if_eq F dL_law_975 (tgt := 980) rfl (fun hc => have hk := hk.1 hc
G.fewer [2, 3, 4, 5, 6] rfl <| G.widen (show cb + 0 + 87 ≤ cb + 87 by omega) (show kb + 0 + 101 ≤ kb + 101 by omega) <| s_L_law_j980 F hL hM hM2 hS hS2 l0 l1 l2 l3 l4 h161 hk hK23) (fun hc => have hk := hk.2 hc
G.fewer [] rfl <| G.widen (show cb + 0 + 87 ≤ ce by omega) (show kb + 0 + 101 ≤ ke by omega) <| hK978 h161 hk))) (fun hc => have hk := hk.2 hc
G.fewer [] rfl <| G.widen (show cb + 0 + 87 ≤ ce by omega) (show kb + 0 + 101 ≤ ke by omega) <| hK961 h161 hk)
theorem s_L_law_j1048 {x : Cx} (F : Fx x cL_law "LockstepRoomLaw" 9 (some .boolean) rmL_law) {Q : Int32 → hH → Prop} (hL : lawX x Q) {K23 : Option Nat → Option Nat → Option Nat → Option Nat → Int32 → hH → Prop} {cb kb ce ke : Nat} (hM : cb + 9000 ≤ ce) (hM2 : ce ≤ 603072) (hS : kb + 100000 ≤ ke) (hS2 : ke ≤ 7178346) (l0 : Option Nat) (l1 : Option Nat) (l2 : Option Nat) (l3 : Option Nat) (l4 : Int32) (h : hH) (hk : f_L_law_j1048 x.S.E Q K23 l0 l1 l2 l3 l4 h) (hK23 : ∀ (l0 : Option Nat) (l1 : Option Nat) (l2 : Option Nat) (l3 : Option Nat) (l4 : Int32) (h : hH), K23 l0 l1 l2 l3 l4 h → G x (lw_Z x.below x.args x.s) 23 [(0, aR l0), (1, aR l1), (2, aR l2), (3, aR l3), (4, aI l4)] [] h (cb + 9000) (kb + 100000)) : G x (lw_Z x.below x.args x.s) 1048 [(0, aR l0), (1, aR l1), (2, aR l2), (3, aR l3), (4, aI l4)] [] h (cb + 21) (kb + 35) := by
  unfold f_L_law_j1048 at hk
  exact g_goto F dL_law_1048 (tgt := 2370) rfl <|
g_iinc (v := (l4 + (6:Int32))) F dL_law_2370 (j := 4) rfl (iinc_6 l4) (Nat.le_of_ble_eq_true rfl) rfl <|
g_goto F dL_law_2373 (tgt := 23) rfl <|
G.fewer [1, 2, 3, 4, 0] rfl <| G.widen (show cb + 21 ≤ cb + 9000 by omega) (show kb + 35 ≤ kb + 100000 by omega) <| hK23 l0 l1 l2 l3 (l4 + (6:Int32)) h hk
theorem s_L_law_j983 {x : Cx} (F : Fx x cL_law "LockstepRoomLaw" 9 (some .boolean) rmL_law) {Q : Int32 → hH → Prop} (hL : lawX x Q) {K23 : Option Nat → Option Nat → Option Nat → Option Nat → Int32 → hH → Prop} {K1029 : hH → Prop} {K1046 : hH → Prop} {cb kb ce ke : Nat} (hM : cb + 9000 ≤ ce) (hM2 : ce ≤ 603072) (hS : kb + 100000 ≤ ke) (hS2 : ke ≤ 7178346) (l0 : Option Nat) (l1 : Option Nat) (l2 : Option Nat) (l3 : Option Nat) (l4 : Int32) (h : hH) (hk : f_L_law_j983 x.S.E Q K23 K1029 K1046 l0 l1 l2 l3 l4 h) (hK23 : ∀ (l0 : Option Nat) (l1 : Option Nat) (l2 : Option Nat) (l3 : Option Nat) (l4 : Int32) (h : hH), K23 l0 l1 l2 l3 l4 h → G x (lw_Z x.below x.args x.s) 23 [(0, aR l0), (1, aR l1), (2, aR l2), (3, aR l3), (4, aI l4)] [] h (cb + 9000) (kb + 100000)) (hK1029 : ∀ (h : hH), K1029 h → G x (lw_Z x.below x.args x.s) 1029 [] [] h ce ke) (hK1046 : ∀ (h : hH), K1046 h → G x (lw_Z x.below x.args x.s) 1046 [] [] h ce ke) : G x (lw_Z x.below x.args x.s) 983 [(0, aR l0), (1, aR l1), (2, aR l2), (3, aR l3), (4, aI l4)] [] h (cb + 0) (kb + 0) := by
  unfold f_L_law_j983 at hk
  exact g_aload_n F dL_law_983 rfl 1 rfl <|
g_aload_n F dL_law_984 rfl 0 rfl <|
g_iload F dL_law_985 4 rfl <|
g_iconst F dL_law_987 ic_1 <|
g_iadd F dL_law_988 <|
g_ialdo F dL_law_989 hk fun x165 hk =>
g_aload_n F dL_law_990 rfl 0 rfl <|
g_iload F dL_law_991 4 rfl <|
g_iconst F dL_law_993 ic_2 <|
g_iadd F dL_law_994 <|
g_ialdo F dL_law_995 hk fun x166 hk =>
g_aload_n F dL_law_996 rfl 3 rfl <|
g_calli (g_SW F dL_law_997 q2756 q2757 q110 q2758 mo_X0_halvedTurn (rm' := rmX0_halvedTurn) ⟨Nat.le_of_ble_eq_true rfl, Nat.le_of_ble_eq_true rfl⟩ ⟨show cb + 0 + 21 ≤ 603072 by omega, show kb + 0 + 35 ≤ 7178346 by omega⟩ (As := [aR l1, aI x165, aI x166, aR l3]) (rest := []) rfl rfl (Nat.le_of_ble_eq_true rfl) (m_X0_halvedTurn F.ok l1 x165 x166 l3 h _ hk)) fun x168 h167 hk =>
g_istore F dL_law_1000 (Nat.le_of_ble_eq_true rfl) rfl <|
g_aload_n F dL_law_1002 rfl 3 rfl <|
g_aload_n F dL_law_1003 rfl 1 rfl <|
g_iload F dL_law_1004 5 rfl <|
g_iconst F dL_law_1006 ic_1 <|
g_iadd F dL_law_1007 <|
g_ialdo F dL_law_1008 hk fun x169 hk =>
g_aload_n F dL_law_1009 rfl 1 rfl <|
g_iload F dL_law_1010 5 rfl <|
g_iconst F dL_law_1012 ic_2 <|
g_iadd F dL_law_1013 <|
g_ialdo F dL_law_1014 hk fun x170 hk =>
g_calli0 (g_V F dL_law_1015 q3338 mi_X5_halvedTurn ct_X5 (rm' := rmX5_halvedTurn) ⟨Nat.le_of_ble_eq_true rfl, Nat.le_of_ble_eq_true rfl⟩ ⟨show cb + 0 + 21 + 0 ≤ 603072 by omega, show kb + 0 + 35 + 0 ≤ 7178346 by omega⟩ (As := [aI x169, aI x170]) (rest := []) rfl rfl (Nat.le_of_ble_eq_true rfl) hk (fun a173 hk => m_X5_halvedTurn F.ok a173 x169 x170 h167 _ hk)) ⟨rfl, rfl⟩ fun x172 h171 hk =>
g_istore F dL_law_1018 (Nat.le_of_ble_eq_true rfl) rfl <|
g_aload_n F dL_law_1020 rfl 4 rfl <|
g_calli0 (g_V F dL_law_1021 q3085 mi_X5_thrown ct_X5 (rm' := rmX5_thrown) ⟨Nat.le_of_ble_eq_true rfl, Nat.le_of_ble_eq_true rfl⟩ ⟨show cb + 0 + 21 + 0 ≤ 603072 by omega, show kb + 0 + 35 + 0 ≤ 7178346 by omega⟩ (As := []) (rest := []) rfl rfl (Nat.le_of_ble_eq_true rfl) hk (fun a176 hk => m_X5_thrown F.ok a176 h171 _ hk)) ⟨rfl, rfl⟩ fun x175 h174 hk =>
g_iload F dL_law_1024 1 rfl <|
g_icmp_eq F dL_law_1026 (tgt := 1031) rfl (fun hc => have hk := hk.1 hc
g_iload F dL_law_1031 1 rfl <|
g_if_ne F dL_law_1033 (tgt := 1048) rfl (fun hc => have hk := hk.2 hc
G.fewer [2, 3, 4, 5, 6] rfl <| G.widen (show cb + 0 + 21 ≤ cb + 21 by omega) (show kb + 0 + 35 ≤ kb + 35 by omega) <| s_L_law_j1048 F hL hM hM2 hS hS2 l0 l1 l2 l3 l4 h174 hk hK23) (fun hc => have hk := hk.1 hc
g_aload_n F dL_law_1036 rfl 5 rfl <|
g_iconst F dL_law_1037 ic_0 <|
g_lald F dL_law_1038 hk fun x177 hk =>
g_iload F dL_law_1039 0 rfl <|
g_i2l F dL_law_1041 <|
g_lcmp F dL_law_1042 <|
g_if_eq F dL_law_1043 (tgt := 1048) rfl (fun hc => have hk := hk.1 hc
G.fewer [2, 3, 4, 5, 6] rfl <| G.widen (show cb + 0 + 21 ≤ cb + 21 by omega) (show kb + 0 + 35 ≤ kb + 35 by omega) <| s_L_law_j1048 F hL hM hM2 hS hS2 l0 l1 l2 l3 l4 h174 hk hK23) (fun hc => have hk := hk.2 hc
G.fewer [] rfl <| G.widen (show cb + 0 + 21 ≤ ce by omega) (show kb + 0 + 35 ≤ ke by omega) <| hK1046 h174 hk))) (fun hc => have hk := hk.2 hc
G.fewer [] rfl <| G.widen (show cb + 0 + 21 ≤ ce by omega) (show kb + 0 + 35 ≤ ke by omega) <| hK1029 h174 hk)
theorem s_L_law_j1123 {x : Cx} (F : Fx x cL_law "LockstepRoomLaw" 9 (some .boolean) rmL_law) {Q : Int32 → hH → Prop} (hL : lawX x Q) {K23 : Option Nat → Option Nat → Option Nat → Option Nat → Int32 → hH → Prop} {cb kb ce ke : Nat} (hM : cb + 9000 ≤ ce) (hM2 : ce ≤ 603072) (hS : kb + 100000 ≤ ke) (hS2 : ke ≤ 7178346) (l0 : Option Nat) (l1 : Option Nat) (l2 : Option Nat) (l3 : Option Nat) (l4 : Int32) (h : hH) (hk : f_L_law_j1123 x.S.E Q K23 l0 l1 l2 l3 l4 h) (hK23 : ∀ (l0 : Option Nat) (l1 : Option Nat) (l2 : Option Nat) (l3 : Option Nat) (l4 : Int32) (h : hH), K23 l0 l1 l2 l3 l4 h → G x (lw_Z x.below x.args x.s) 23 [(0, aR l0), (1, aR l1), (2, aR l2), (3, aR l3), (4, aI l4)] [] h (cb + 9000) (kb + 100000)) : G x (lw_Z x.below x.args x.s) 1123 [(0, aR l0), (1, aR l1), (2, aR l2), (3, aR l3), (4, aI l4)] [] h (cb + 108) (kb + 136) := by
  unfold f_L_law_j1123 at hk
  exact g_goto F dL_law_1123 (tgt := 2370) rfl <|
g_iinc (v := (l4 + (6:Int32))) F dL_law_2370 (j := 4) rfl (iinc_6 l4) (Nat.le_of_ble_eq_true rfl) rfl <|
g_goto F dL_law_2373 (tgt := 23) rfl <|
G.fewer [1, 2, 3, 4, 0] rfl <| G.widen (show cb + 108 ≤ cb + 9000 by omega) (show kb + 136 ≤ kb + 100000 by omega) <| hK23 l0 l1 l2 l3 (l4 + (6:Int32)) h hk
theorem s_L_law_j1117 {x : Cx} (F : Fx x cL_law "LockstepRoomLaw" 9 (some .boolean) rmL_law) {Q : Int32 → hH → Prop} (hL : lawX x Q) {K23 : Option Nat → Option Nat → Option Nat → Option Nat → Int32 → hH → Prop} {K1121 : hH → Prop} {cb kb ce ke : Nat} (hM : cb + 9000 ≤ ce) (hM2 : ce ≤ 603072) (hS : kb + 100000 ≤ ke) (hS2 : ke ≤ 7178346) (s0 : Int64) (s1 : Int64) (l0 : Option Nat) (l1 : Option Nat) (l2 : Option Nat) (l3 : Option Nat) (l4 : Int32) (h : hH) (hk : f_L_law_j1117 x.S.E Q K23 K1121 s0 s1 l0 l1 l2 l3 l4 h) (hK23 : ∀ (l0 : Option Nat) (l1 : Option Nat) (l2 : Option Nat) (l3 : Option Nat) (l4 : Int32) (h : hH), K23 l0 l1 l2 l3 l4 h → G x (lw_Z x.below x.args x.s) 23 [(0, aR l0), (1, aR l1), (2, aR l2), (3, aR l3), (4, aI l4)] [] h (cb + 9000) (kb + 100000)) (hK1121 : ∀ (h : hH), K1121 h → G x (lw_Z x.below x.args x.s) 1121 [] [] h ce ke) : G x (lw_Z x.below x.args x.s) 1117 [(0, aR l0), (1, aR l1), (2, aR l2), (3, aR l3), (4, aI l4)] [aL s1, aL s0] h (cb + 108) (kb + 136) := by
  unfold f_L_law_j1117 at hk
  exact g_lcmp F dL_law_1117 <|
g_if_eq F dL_law_1118 (tgt := 1123) rfl (fun hc => have hk := hk.1 hc
s_L_law_j1123 F hL hM hM2 hS hS2 l0 l1 l2 l3 l4 h hk hK23) (fun hc => have hk := hk.2 hc
G.fewer [] rfl <| G.widen (show cb + 108 ≤ ce by omega) (show kb + 136 ≤ ke by omega) <| hK1121 h hk)
theorem s_L_law_j1051 {x : Cx} (F : Fx x cL_law "LockstepRoomLaw" 9 (some .boolean) rmL_law) {Q : Int32 → hH → Prop} (hL : lawX x Q) {K23 : Option Nat → Option Nat → Option Nat → Option Nat → Int32 → hH → Prop} {K1097 : hH → Prop} {K1121 : hH → Prop} {cb kb ce ke : Nat} (hM : cb + 9000 ≤ ce) (hM2 : ce ≤ 603072) (hS : kb + 100000 ≤ ke) (hS2 : ke ≤ 7178346) (l0 : Option Nat) (l1 : Option Nat) (l2 : Option Nat) (l3 : Option Nat) (l4 : Int32) (h : hH) (hk : f_L_law_j1051 x.S.E Q K23 K1097 K1121 l0 l1 l2 l3 l4 h) (hK23 : ∀ (l0 : Option Nat) (l1 : Option Nat) (l2 : Option Nat) (l3 : Option Nat) (l4 : Int32) (h : hH), K23 l0 l1 l2 l3 l4 h → G x (lw_Z x.below x.args x.s) 23 [(0, aR l0), (1, aR l1), (2, aR l2), (3, aR l3), (4, aI l4)] [] h (cb + 9000) (kb + 100000)) (hK1097 : ∀ (h : hH), K1097 h → G x (lw_Z x.below x.args x.s) 1097 [] [] h ce ke) (hK1121 : ∀ (h : hH), K1121 h → G x (lw_Z x.below x.args x.s) 1121 [] [] h ce ke) : G x (lw_Z x.below x.args x.s) 1051 [(0, aR l0), (1, aR l1), (2, aR l2), (3, aR l3), (4, aI l4)] [] h (cb + 0) (kb + 0) := by
  unfold f_L_law_j1051 at hk
  exact g_aload_n F dL_law_1051 rfl 1 rfl <|
g_aload_n F dL_law_1052 rfl 0 rfl <|
g_iload F dL_law_1053 4 rfl <|
g_iconst F dL_law_1055 ic_1 <|
g_iadd F dL_law_1056 <|
g_ialdo F dL_law_1057 hk fun x178 hk =>
g_aload_n F dL_law_1058 rfl 0 rfl <|
g_iload F dL_law_1059 4 rfl <|
g_iconst F dL_law_1061 ic_2 <|
g_iadd F dL_law_1062 <|
g_ialdo F dL_law_1063 hk fun x179 hk =>
g_aload_n F dL_law_1064 rfl 3 rfl <|
g_calli (g_SW F dL_law_1065 q2767 q2768 q110 q2769 mo_X0_isHalvingRight (rm' := rmX0_isHalvingRight) ⟨Nat.le_of_ble_eq_true rfl, Nat.le_of_ble_eq_true rfl⟩ ⟨show cb + 0 + 108 ≤ 603072 by omega, show kb + 0 + 136 ≤ 7178346 by omega⟩ (As := [aR l1, aI x178, aI x179, aR l3]) (rest := []) rfl rfl (Nat.le_of_ble_eq_true rfl) (m_X0_isHalvingRight F.ok l1 x178 x179 l3 h _ hk)) fun x181 h180 hk =>
g_istore F dL_law_1068 (Nat.le_of_ble_eq_true rfl) rfl <|
g_aload_n F dL_law_1070 rfl 3 rfl <|
g_aload_n F dL_law_1071 rfl 1 rfl <|
g_iload F dL_law_1072 5 rfl <|
g_iconst F dL_law_1074 ic_1 <|
g_iadd F dL_law_1075 <|
g_ialdo F dL_law_1076 hk fun x182 hk =>
g_aload_n F dL_law_1077 rfl 1 rfl <|
g_iload F dL_law_1078 5 rfl <|
g_iconst F dL_law_1080 ic_2 <|
g_iadd F dL_law_1081 <|
g_ialdo F dL_law_1082 hk fun x183 hk =>
g_calli0 (g_V F dL_law_1083 q3346 mi_X5_isHalvingRight ct_X5 (rm' := rmX5_isHalvingRight) ⟨Nat.le_of_ble_eq_true rfl, Nat.le_of_ble_eq_true rfl⟩ ⟨show cb + 0 + 108 + 0 ≤ 603072 by omega, show kb + 0 + 136 + 0 ≤ 7178346 by omega⟩ (As := [aI x182, aI x183]) (rest := []) rfl rfl (Nat.le_of_ble_eq_true rfl) hk (fun a186 hk => m_X5_isHalvingRight F.ok a186 x182 x183 h180 _ hk)) ⟨rfl, rfl⟩ fun x185 h184 hk =>
g_istore F dL_law_1086 (Nat.le_of_ble_eq_true rfl) rfl <|
g_aload_n F dL_law_1088 rfl 4 rfl <|
g_calli0 (g_V F dL_law_1089 q3085 mi_X5_thrown ct_X5 (rm' := rmX5_thrown) ⟨Nat.le_of_ble_eq_true rfl, Nat.le_of_ble_eq_true rfl⟩ ⟨show cb + 0 + 108 + 0 ≤ 603072 by omega, show kb + 0 + 136 + 0 ≤ 7178346 by omega⟩ (As := []) (rest := []) rfl rfl (Nat.le_of_ble_eq_true rfl) hk (fun a189 hk => m_X5_thrown F.ok a189 h184 _ hk)) ⟨rfl, rfl⟩ fun x188 h187 hk =>
g_iload F dL_law_1092 1 rfl <|
g_icmp_eq F dL_law_1094 (tgt := 1099) rfl (fun hc => have hk := hk.1 hc
g_iload F dL_law_1099 1 rfl <|
g_if_ne F dL_law_1101 (tgt := 1123) rfl (fun hc => have hk := hk.2 hc
G.fewer [2, 3, 4, 5, 6] rfl <| G.widen (show cb + 0 + 108 ≤ cb + 108 by omega) (show kb + 0 + 136 ≤ kb + 136 by omega) <| s_L_law_j1123 F hL hM hM2 hS hS2 l0 l1 l2 l3 l4 h187 hk hK23) (fun hc => have hk := hk.1 hc
g_aload_n F dL_law_1104 rfl 5 rfl <|
g_iconst F dL_law_1105 ic_0 <|
g_lald F dL_law_1106 hk fun x190 hk =>
g_iload F dL_law_1107 0 rfl <|
g_if_eq F dL_law_1109 (tgt := 1116) rfl (fun hc => have hk := hk.1 hc
g_lconst F dL_law_1116 rfl <|
G.fewer [2, 3, 4, 5, 6] rfl <| G.widen (show cb + 0 + 108 ≤ cb + 108 by omega) (show kb + 0 + 136 ≤ kb + 136 by omega) <| s_L_law_j1117 F hL hM hM2 hS hS2 x190 (0:Int64) l0 l1 l2 l3 l4 h187 hk hK23 hK1121) (fun hc => have hk := hk.2 hc
g_lconst F dL_law_1112 rfl <|
g_goto F dL_law_1113 (tgt := 1117) rfl <|
G.fewer [2, 3, 4, 5, 6] rfl <| G.widen (show cb + 0 + 108 ≤ cb + 108 by omega) (show kb + 0 + 136 ≤ kb + 136 by omega) <| s_L_law_j1117 F hL hM hM2 hS hS2 x190 (1:Int64) l0 l1 l2 l3 l4 h187 hk hK23 hK1121))) (fun hc => have hk := hk.2 hc
G.fewer [] rfl <| G.widen (show cb + 0 + 108 ≤ ce by omega) (show kb + 0 + 136 ≤ ke by omega) <| hK1097 h187 hk)
theorem s_L_law_j1191 {x : Cx} (F : Fx x cL_law "LockstepRoomLaw" 9 (some .boolean) rmL_law) {Q : Int32 → hH → Prop} (hL : lawX x Q) {K23 : Option Nat → Option Nat → Option Nat → Option Nat → Int32 → hH → Prop} {cb kb ce ke : Nat} (hM : cb + 9000 ≤ ce) (hM2 : ce ≤ 603072) (hS : kb + 100000 ≤ ke) (hS2 : ke ≤ 7178346) (l0 : Option Nat) (l1 : Option Nat) (l2 : Option Nat) (l3 : Option Nat) (l4 : Int32) (h : hH) (hk : f_L_law_j1191 x.S.E Q K23 l0 l1 l2 l3 l4 h) (hK23 : ∀ (l0 : Option Nat) (l1 : Option Nat) (l2 : Option Nat) (l3 : Option Nat) (l4 : Int32) (h : hH), K23 l0 l1 l2 l3 l4 h → G x (lw_Z x.below x.args x.s) 23 [(0, aR l0), (1, aR l1), (2, aR l2), (3, aR l3), (4, aI l4)] [] h (cb + 9000) (kb + 100000)) : G x (lw_Z x.below x.args x.s) 1191 [(0, aR l0), (1, aR l1), (2, aR l2), (3, aR l3), (4, aI l4)] [] h (cb + 10) (kb + 104) := by
  unfold f_L_law_j1191 at hk
  exact g_goto F dL_law_1191 (tgt := 2370) rfl <|
g_iinc (v := (l4 + (6:Int32))) F dL_law_2370 (j := 4) rfl (iinc_6 l4) (Nat.le_of_ble_eq_true rfl) rfl <|
g_goto F dL_law_2373 (tgt := 23) rfl <|
G.fewer [1, 2, 3, 4, 0] rfl <| G.widen (show cb + 10 ≤ cb + 9000 by omega) (show kb + 104 ≤ kb + 100000 by omega) <| hK23 l0 l1 l2 l3 (l4 + (6:Int32)) h hk
theorem s_L_law_j1126 {x : Cx} (F : Fx x cL_law "LockstepRoomLaw" 9 (some .boolean) rmL_law) {Q : Int32 → hH → Prop} (hL : lawX x Q) {K23 : Option Nat → Option Nat → Option Nat → Option Nat → Int32 → hH → Prop} {K1172 : hH → Prop} {K1189 : hH → Prop} {cb kb ce ke : Nat} (hM : cb + 9000 ≤ ce) (hM2 : ce ≤ 603072) (hS : kb + 100000 ≤ ke) (hS2 : ke ≤ 7178346) (l0 : Option Nat) (l1 : Option Nat) (l2 : Option Nat) (l3 : Option Nat) (l4 : Int32) (h : hH) (hk : f_L_law_j1126 x.S.E Q K23 K1172 K1189 l0 l1 l2 l3 l4 h) (hK23 : ∀ (l0 : Option Nat) (l1 : Option Nat) (l2 : Option Nat) (l3 : Option Nat) (l4 : Int32) (h : hH), K23 l0 l1 l2 l3 l4 h → G x (lw_Z x.below x.args x.s) 23 [(0, aR l0), (1, aR l1), (2, aR l2), (3, aR l3), (4, aI l4)] [] h (cb + 9000) (kb + 100000)) (hK1172 : ∀ (h : hH), K1172 h → G x (lw_Z x.below x.args x.s) 1172 [] [] h ce ke) (hK1189 : ∀ (h : hH), K1189 h → G x (lw_Z x.below x.args x.s) 1189 [] [] h ce ke) : G x (lw_Z x.below x.args x.s) 1126 [(0, aR l0), (1, aR l1), (2, aR l2), (3, aR l3), (4, aI l4)] [] h (cb + 0) (kb + 0) := by
  unfold f_L_law_j1126 at hk
  exact g_aload_n F dL_law_1126 rfl 1 rfl <|
g_aload_n F dL_law_1127 rfl 0 rfl <|
g_iload F dL_law_1128 4 rfl <|
g_iconst F dL_law_1130 ic_1 <|
g_iadd F dL_law_1131 <|
g_ialdo F dL_law_1132 hk fun x191 hk =>
g_aload_n F dL_law_1133 rfl 0 rfl <|
g_iload F dL_law_1134 4 rfl <|
g_iconst F dL_law_1136 ic_2 <|
g_iadd F dL_law_1137 <|
g_ialdo F dL_law_1138 hk fun x192 hk =>
g_aload_n F dL_law_1139 rfl 3 rfl <|
g_calli (g_SW F dL_law_1140 q2774 q2775 q110 q2776 mo_X0_firstWrongCell (rm' := rmX0_firstWrongCell) ⟨Nat.le_of_ble_eq_true rfl, Nat.le_of_ble_eq_true rfl⟩ ⟨show cb + 0 + 10 ≤ 603072 by omega, show kb + 0 + 104 ≤ 7178346 by omega⟩ (As := [aR l1, aI x191, aI x192, aR l3]) (rest := []) rfl rfl (Nat.le_of_ble_eq_true rfl) (m_X0_firstWrongCell F.ok l1 x191 x192 l3 h _ hk)) fun x194 h193 hk =>
g_istore F dL_law_1143 (Nat.le_of_ble_eq_true rfl) rfl <|
g_aload_n F dL_law_1145 rfl 3 rfl <|
g_aload_n F dL_law_1146 rfl 1 rfl <|
g_iload F dL_law_1147 5 rfl <|
g_iconst F dL_law_1149 ic_1 <|
g_iadd F dL_law_1150 <|
g_ialdo F dL_law_1151 hk fun x195 hk =>
g_aload_n F dL_law_1152 rfl 1 rfl <|
g_iload F dL_law_1153 5 rfl <|
g_iconst F dL_law_1155 ic_2 <|
g_iadd F dL_law_1156 <|
g_ialdo F dL_law_1157 hk fun x196 hk =>
g_calli0 (g_V F dL_law_1158 q3350 mi_X5_firstWrongCell ct_X5 (rm' := rmX5_firstWrongCell) ⟨Nat.le_of_ble_eq_true rfl, Nat.le_of_ble_eq_true rfl⟩ ⟨show cb + 0 + 10 + 0 ≤ 603072 by omega, show kb + 0 + 104 + 0 ≤ 7178346 by omega⟩ (As := [aI x195, aI x196]) (rest := []) rfl rfl (Nat.le_of_ble_eq_true rfl) hk (fun a199 hk => m_X5_firstWrongCell F.ok a199 x195 x196 h193 _ hk)) ⟨rfl, rfl⟩ fun x198 h197 hk =>
g_istore F dL_law_1161 (Nat.le_of_ble_eq_true rfl) rfl <|
g_aload_n F dL_law_1163 rfl 4 rfl <|
g_calli0 (g_V F dL_law_1164 q3085 mi_X5_thrown ct_X5 (rm' := rmX5_thrown) ⟨Nat.le_of_ble_eq_true rfl, Nat.le_of_ble_eq_true rfl⟩ ⟨show cb + 0 + 10 + 0 ≤ 603072 by omega, show kb + 0 + 104 + 0 ≤ 7178346 by omega⟩ (As := []) (rest := []) rfl rfl (Nat.le_of_ble_eq_true rfl) hk (fun a202 hk => m_X5_thrown F.ok a202 h197 _ hk)) ⟨rfl, rfl⟩ fun x201 h200 hk =>
g_iload F dL_law_1167 1 rfl <|
g_icmp_eq F dL_law_1169 (tgt := 1174) rfl (fun hc => have hk := hk.1 hc
g_iload F dL_law_1174 1 rfl <|
g_if_ne F dL_law_1176 (tgt := 1191) rfl (fun hc => have hk := hk.2 hc
G.fewer [2, 3, 4, 5, 6] rfl <| G.widen (show cb + 0 + 10 ≤ cb + 10 by omega) (show kb + 0 + 104 ≤ kb + 104 by omega) <| s_L_law_j1191 F hL hM hM2 hS hS2 l0 l1 l2 l3 l4 h200 hk hK23) (fun hc => have hk := hk.1 hc
g_aload_n F dL_law_1179 rfl 5 rfl <|
g_iconst F dL_law_1180 ic_0 <|
g_lald F dL_law_1181 hk fun x203 hk =>
g_iload F dL_law_1182 0 rfl <|
g_i2l F dL_law_1184 <|
g_lcmp F dL_law_1185 <|
g_if_eq F dL_law_1186 (tgt := 1191) rfl (fun hc => have hk := hk.1 hc
G.fewer [2, 3, 4, 5, 6] rfl <| G.widen (show cb + 0 + 10 ≤ cb + 10 by omega) (show kb + 0 + 104 ≤ kb + 104 by omega) <| s_L_law_j1191 F hL hM hM2 hS hS2 l0 l1 l2 l3 l4 h200 hk hK23) (fun hc => have hk := hk.2 hc
G.fewer [] rfl <| G.widen (show cb + 0 + 10 ≤ ce by omega) (show kb + 0 + 104 ≤ ke by omega) <| hK1189 h200 hk))) (fun hc => have hk := hk.2 hc
G.fewer [] rfl <| G.widen (show cb + 0 + 10 ≤ ce by omega) (show kb + 0 + 104 ≤ ke by omega) <| hK1172 h200 hk)
theorem s_L_law_j1259 {x : Cx} (F : Fx x cL_law "LockstepRoomLaw" 9 (some .boolean) rmL_law) {Q : Int32 → hH → Prop} (hL : lawX x Q) {K23 : Option Nat → Option Nat → Option Nat → Option Nat → Int32 → hH → Prop} {cb kb ce ke : Nat} (hM : cb + 9000 ≤ ce) (hM2 : ce ≤ 603072) (hS : kb + 100000 ≤ ke) (hS2 : ke ≤ 7178346) (l0 : Option Nat) (l1 : Option Nat) (l2 : Option Nat) (l3 : Option Nat) (l4 : Int32) (h : hH) (hk : f_L_law_j1259 x.S.E Q K23 l0 l1 l2 l3 l4 h) (hK23 : ∀ (l0 : Option Nat) (l1 : Option Nat) (l2 : Option Nat) (l3 : Option Nat) (l4 : Int32) (h : hH), K23 l0 l1 l2 l3 l4 h → G x (lw_Z x.below x.args x.s) 23 [(0, aR l0), (1, aR l1), (2, aR l2), (3, aR l3), (4, aI l4)] [] h (cb + 9000) (kb + 100000)) : G x (lw_Z x.below x.args x.s) 1259 [(0, aR l0), (1, aR l1), (2, aR l2), (3, aR l3), (4, aI l4)] [] h (cb + 10) (kb + 104) := by
  unfold f_L_law_j1259 at hk
  exact g_goto F dL_law_1259 (tgt := 2370) rfl <|
g_iinc (v := (l4 + (6:Int32))) F dL_law_2370 (j := 4) rfl (iinc_6 l4) (Nat.le_of_ble_eq_true rfl) rfl <|
g_goto F dL_law_2373 (tgt := 23) rfl <|
G.fewer [1, 2, 3, 4, 0] rfl <| G.widen (show cb + 10 ≤ cb + 9000 by omega) (show kb + 104 ≤ kb + 100000 by omega) <| hK23 l0 l1 l2 l3 (l4 + (6:Int32)) h hk
theorem s_L_law_j1194 {x : Cx} (F : Fx x cL_law "LockstepRoomLaw" 9 (some .boolean) rmL_law) {Q : Int32 → hH → Prop} (hL : lawX x Q) {K23 : Option Nat → Option Nat → Option Nat → Option Nat → Int32 → hH → Prop} {K1240 : hH → Prop} {K1257 : hH → Prop} {cb kb ce ke : Nat} (hM : cb + 9000 ≤ ce) (hM2 : ce ≤ 603072) (hS : kb + 100000 ≤ ke) (hS2 : ke ≤ 7178346) (l0 : Option Nat) (l1 : Option Nat) (l2 : Option Nat) (l3 : Option Nat) (l4 : Int32) (h : hH) (hk : f_L_law_j1194 x.S.E Q K23 K1240 K1257 l0 l1 l2 l3 l4 h) (hK23 : ∀ (l0 : Option Nat) (l1 : Option Nat) (l2 : Option Nat) (l3 : Option Nat) (l4 : Int32) (h : hH), K23 l0 l1 l2 l3 l4 h → G x (lw_Z x.below x.args x.s) 23 [(0, aR l0), (1, aR l1), (2, aR l2), (3, aR l3), (4, aI l4)] [] h (cb + 9000) (kb + 100000)) (hK1240 : ∀ (h : hH), K1240 h → G x (lw_Z x.below x.args x.s) 1240 [] [] h ce ke) (hK1257 : ∀ (h : hH), K1257 h → G x (lw_Z x.below x.args x.s) 1257 [] [] h ce ke) : G x (lw_Z x.below x.args x.s) 1194 [(0, aR l0), (1, aR l1), (2, aR l2), (3, aR l3), (4, aI l4)] [] h (cb + 0) (kb + 0) := by
  unfold f_L_law_j1194 at hk
  exact g_aload_n F dL_law_1194 rfl 1 rfl <|
g_aload_n F dL_law_1195 rfl 0 rfl <|
g_iload F dL_law_1196 4 rfl <|
g_iconst F dL_law_1198 ic_1 <|
g_iadd F dL_law_1199 <|
g_ialdo F dL_law_1200 hk fun x204 hk =>
g_aload_n F dL_law_1201 rfl 0 rfl <|
g_iload F dL_law_1202 4 rfl <|
g_iconst F dL_law_1204 ic_2 <|
g_iadd F dL_law_1205 <|
g_ialdo F dL_law_1206 hk fun x205 hk =>
g_aload_n F dL_law_1207 rfl 3 rfl <|
g_calli (g_SW F dL_law_1208 q2794 q2795 q110 q2796 mo_X0_wrongCells (rm' := rmX0_wrongCells) ⟨Nat.le_of_ble_eq_true rfl, Nat.le_of_ble_eq_true rfl⟩ ⟨show cb + 0 + 10 ≤ 603072 by omega, show kb + 0 + 104 ≤ 7178346 by omega⟩ (As := [aR l1, aI x204, aI x205, aR l3]) (rest := []) rfl rfl (Nat.le_of_ble_eq_true rfl) (m_X0_wrongCells F.ok l1 x204 x205 l3 h _ hk)) fun x207 h206 hk =>
g_istore F dL_law_1211 (Nat.le_of_ble_eq_true rfl) rfl <|
g_aload_n F dL_law_1213 rfl 3 rfl <|
g_aload_n F dL_law_1214 rfl 1 rfl <|
g_iload F dL_law_1215 5 rfl <|
g_iconst F dL_law_1217 ic_1 <|
g_iadd F dL_law_1218 <|
g_ialdo F dL_law_1219 hk fun x208 hk =>
g_aload_n F dL_law_1220 rfl 1 rfl <|
g_iload F dL_law_1221 5 rfl <|
g_iconst F dL_law_1223 ic_2 <|
g_iadd F dL_law_1224 <|
g_ialdo F dL_law_1225 hk fun x209 hk =>
g_calli0 (g_V F dL_law_1226 q3366 mi_X5_wrongCells ct_X5 (rm' := rmX5_wrongCells) ⟨Nat.le_of_ble_eq_true rfl, Nat.le_of_ble_eq_true rfl⟩ ⟨show cb + 0 + 10 + 0 ≤ 603072 by omega, show kb + 0 + 104 + 0 ≤ 7178346 by omega⟩ (As := [aI x208, aI x209]) (rest := []) rfl rfl (Nat.le_of_ble_eq_true rfl) hk (fun a212 hk => m_X5_wrongCells F.ok a212 x208 x209 h206 _ hk)) ⟨rfl, rfl⟩ fun x211 h210 hk =>
g_istore F dL_law_1229 (Nat.le_of_ble_eq_true rfl) rfl <|
g_aload_n F dL_law_1231 rfl 4 rfl <|
g_calli0 (g_V F dL_law_1232 q3085 mi_X5_thrown ct_X5 (rm' := rmX5_thrown) ⟨Nat.le_of_ble_eq_true rfl, Nat.le_of_ble_eq_true rfl⟩ ⟨show cb + 0 + 10 + 0 ≤ 603072 by omega, show kb + 0 + 104 + 0 ≤ 7178346 by omega⟩ (As := []) (rest := []) rfl rfl (Nat.le_of_ble_eq_true rfl) hk (fun a215 hk => m_X5_thrown F.ok a215 h210 _ hk)) ⟨rfl, rfl⟩ fun x214 h213 hk =>
g_iload F dL_law_1235 1 rfl <|
g_icmp_eq F dL_law_1237 (tgt := 1242) rfl (fun hc => have hk := hk.1 hc
g_iload F dL_law_1242 1 rfl <|
g_if_ne F dL_law_1244 (tgt := 1259) rfl (fun hc => have hk := hk.2 hc
G.fewer [2, 3, 4, 5, 6] rfl <| G.widen (show cb + 0 + 10 ≤ cb + 10 by omega) (show kb + 0 + 104 ≤ kb + 104 by omega) <| s_L_law_j1259 F hL hM hM2 hS hS2 l0 l1 l2 l3 l4 h213 hk hK23) (fun hc => have hk := hk.1 hc
g_aload_n F dL_law_1247 rfl 5 rfl <|
g_iconst F dL_law_1248 ic_0 <|
g_lald F dL_law_1249 hk fun x216 hk =>
g_iload F dL_law_1250 0 rfl <|
g_i2l F dL_law_1252 <|
g_lcmp F dL_law_1253 <|
g_if_eq F dL_law_1254 (tgt := 1259) rfl (fun hc => have hk := hk.1 hc
G.fewer [2, 3, 4, 5, 6] rfl <| G.widen (show cb + 0 + 10 ≤ cb + 10 by omega) (show kb + 0 + 104 ≤ kb + 104 by omega) <| s_L_law_j1259 F hL hM hM2 hS hS2 l0 l1 l2 l3 l4 h213 hk hK23) (fun hc => have hk := hk.2 hc
G.fewer [] rfl <| G.widen (show cb + 0 + 10 ≤ ce by omega) (show kb + 0 + 104 ≤ ke by omega) <| hK1257 h213 hk))) (fun hc => have hk := hk.2 hc
G.fewer [] rfl <| G.widen (show cb + 0 + 10 ≤ ce by omega) (show kb + 0 + 104 ≤ ke by omega) <| hK1240 h213 hk)
theorem s_L_law_j1327 {x : Cx} (F : Fx x cL_law "LockstepRoomLaw" 9 (some .boolean) rmL_law) {Q : Int32 → hH → Prop} (hL : lawX x Q) {K23 : Option Nat → Option Nat → Option Nat → Option Nat → Int32 → hH → Prop} {cb kb ce ke : Nat} (hM : cb + 9000 ≤ ce) (hM2 : ce ≤ 603072) (hS : kb + 100000 ≤ ke) (hS2 : ke ≤ 7178346) (l0 : Option Nat) (l1 : Option Nat) (l2 : Option Nat) (l3 : Option Nat) (l4 : Int32) (h : hH) (hk : f_L_law_j1327 x.S.E Q K23 l0 l1 l2 l3 l4 h) (hK23 : ∀ (l0 : Option Nat) (l1 : Option Nat) (l2 : Option Nat) (l3 : Option Nat) (l4 : Int32) (h : hH), K23 l0 l1 l2 l3 l4 h → G x (lw_Z x.below x.args x.s) 23 [(0, aR l0), (1, aR l1), (2, aR l2), (3, aR l3), (4, aI l4)] [] h (cb + 9000) (kb + 100000)) : G x (lw_Z x.below x.args x.s) 1327 [(0, aR l0), (1, aR l1), (2, aR l2), (3, aR l3), (4, aI l4)] [] h (cb + 10) (kb + 104) := by
  unfold f_L_law_j1327 at hk
  exact g_goto F dL_law_1327 (tgt := 2370) rfl <|
g_iinc (v := (l4 + (6:Int32))) F dL_law_2370 (j := 4) rfl (iinc_6 l4) (Nat.le_of_ble_eq_true rfl) rfl <|
g_goto F dL_law_2373 (tgt := 23) rfl <|
G.fewer [1, 2, 3, 4, 0] rfl <| G.widen (show cb + 10 ≤ cb + 9000 by omega) (show kb + 104 ≤ kb + 100000 by omega) <| hK23 l0 l1 l2 l3 (l4 + (6:Int32)) h hk
theorem s_L_law_j1262 {x : Cx} (F : Fx x cL_law "LockstepRoomLaw" 9 (some .boolean) rmL_law) {Q : Int32 → hH → Prop} (hL : lawX x Q) {K23 : Option Nat → Option Nat → Option Nat → Option Nat → Int32 → hH → Prop} {K1308 : hH → Prop} {K1325 : hH → Prop} {cb kb ce ke : Nat} (hM : cb + 9000 ≤ ce) (hM2 : ce ≤ 603072) (hS : kb + 100000 ≤ ke) (hS2 : ke ≤ 7178346) (l0 : Option Nat) (l1 : Option Nat) (l2 : Option Nat) (l3 : Option Nat) (l4 : Int32) (h : hH) (hk : f_L_law_j1262 x.S.E Q K23 K1308 K1325 l0 l1 l2 l3 l4 h) (hK23 : ∀ (l0 : Option Nat) (l1 : Option Nat) (l2 : Option Nat) (l3 : Option Nat) (l4 : Int32) (h : hH), K23 l0 l1 l2 l3 l4 h → G x (lw_Z x.below x.args x.s) 23 [(0, aR l0), (1, aR l1), (2, aR l2), (3, aR l3), (4, aI l4)] [] h (cb + 9000) (kb + 100000)) (hK1308 : ∀ (h : hH), K1308 h → G x (lw_Z x.below x.args x.s) 1308 [] [] h ce ke) (hK1325 : ∀ (h : hH), K1325 h → G x (lw_Z x.below x.args x.s) 1325 [] [] h ce ke) : G x (lw_Z x.below x.args x.s) 1262 [(0, aR l0), (1, aR l1), (2, aR l2), (3, aR l3), (4, aI l4)] [] h (cb + 0) (kb + 0) := by
  unfold f_L_law_j1262 at hk
  exact g_aload_n F dL_law_1262 rfl 1 rfl <|
g_aload_n F dL_law_1263 rfl 0 rfl <|
g_iload F dL_law_1264 4 rfl <|
g_iconst F dL_law_1266 ic_1 <|
g_iadd F dL_law_1267 <|
g_ialdo F dL_law_1268 hk fun x217 hk =>
g_aload_n F dL_law_1269 rfl 0 rfl <|
g_iload F dL_law_1270 4 rfl <|
g_iconst F dL_law_1272 ic_2 <|
g_iadd F dL_law_1273 <|
g_ialdo F dL_law_1274 hk fun x218 hk =>
g_aload_n F dL_law_1275 rfl 3 rfl <|
g_calli (g_SW F dL_law_1276 q2801 q2802 q110 q2803 mo_X0_comparisons (rm' := rmX0_comparisons) ⟨Nat.le_of_ble_eq_true rfl, Nat.le_of_ble_eq_true rfl⟩ ⟨show cb + 0 + 10 ≤ 603072 by omega, show kb + 0 + 104 ≤ 7178346 by omega⟩ (As := [aR l1, aI x217, aI x218, aR l3]) (rest := []) rfl rfl (Nat.le_of_ble_eq_true rfl) (m_X0_comparisons F.ok l1 x217 x218 l3 h _ hk)) fun x220 h219 hk =>
g_istore F dL_law_1279 (Nat.le_of_ble_eq_true rfl) rfl <|
g_aload_n F dL_law_1281 rfl 3 rfl <|
g_aload_n F dL_law_1282 rfl 1 rfl <|
g_iload F dL_law_1283 5 rfl <|
g_iconst F dL_law_1285 ic_1 <|
g_iadd F dL_law_1286 <|
g_ialdo F dL_law_1287 hk fun x221 hk =>
g_aload_n F dL_law_1288 rfl 1 rfl <|
g_iload F dL_law_1289 5 rfl <|
g_iconst F dL_law_1291 ic_2 <|
g_iadd F dL_law_1292 <|
g_ialdo F dL_law_1293 hk fun x222 hk =>
g_calli0 (g_V F dL_law_1294 q3370 mi_X5_comparisons ct_X5 (rm' := rmX5_comparisons) ⟨Nat.le_of_ble_eq_true rfl, Nat.le_of_ble_eq_true rfl⟩ ⟨show cb + 0 + 10 + 0 ≤ 603072 by omega, show kb + 0 + 104 + 0 ≤ 7178346 by omega⟩ (As := [aI x221, aI x222]) (rest := []) rfl rfl (Nat.le_of_ble_eq_true rfl) hk (fun a225 hk => m_X5_comparisons F.ok a225 x221 x222 h219 _ hk)) ⟨rfl, rfl⟩ fun x224 h223 hk =>
g_istore F dL_law_1297 (Nat.le_of_ble_eq_true rfl) rfl <|
g_aload_n F dL_law_1299 rfl 4 rfl <|
g_calli0 (g_V F dL_law_1300 q3085 mi_X5_thrown ct_X5 (rm' := rmX5_thrown) ⟨Nat.le_of_ble_eq_true rfl, Nat.le_of_ble_eq_true rfl⟩ ⟨show cb + 0 + 10 + 0 ≤ 603072 by omega, show kb + 0 + 104 + 0 ≤ 7178346 by omega⟩ (As := []) (rest := []) rfl rfl (Nat.le_of_ble_eq_true rfl) hk (fun a228 hk => m_X5_thrown F.ok a228 h223 _ hk)) ⟨rfl, rfl⟩ fun x227 h226 hk =>
g_iload F dL_law_1303 1 rfl <|
g_icmp_eq F dL_law_1305 (tgt := 1310) rfl (fun hc => have hk := hk.1 hc
g_iload F dL_law_1310 1 rfl <|
g_if_ne F dL_law_1312 (tgt := 1327) rfl (fun hc => have hk := hk.2 hc
G.fewer [2, 3, 4, 5, 6] rfl <| G.widen (show cb + 0 + 10 ≤ cb + 10 by omega) (show kb + 0 + 104 ≤ kb + 104 by omega) <| s_L_law_j1327 F hL hM hM2 hS hS2 l0 l1 l2 l3 l4 h226 hk hK23) (fun hc => have hk := hk.1 hc
g_aload_n F dL_law_1315 rfl 5 rfl <|
g_iconst F dL_law_1316 ic_0 <|
g_lald F dL_law_1317 hk fun x229 hk =>
g_iload F dL_law_1318 0 rfl <|
g_i2l F dL_law_1320 <|
g_lcmp F dL_law_1321 <|
g_if_eq F dL_law_1322 (tgt := 1327) rfl (fun hc => have hk := hk.1 hc
G.fewer [2, 3, 4, 5, 6] rfl <| G.widen (show cb + 0 + 10 ≤ cb + 10 by omega) (show kb + 0 + 104 ≤ kb + 104 by omega) <| s_L_law_j1327 F hL hM hM2 hS hS2 l0 l1 l2 l3 l4 h226 hk hK23) (fun hc => have hk := hk.2 hc
G.fewer [] rfl <| G.widen (show cb + 0 + 10 ≤ ce by omega) (show kb + 0 + 104 ≤ ke by omega) <| hK1325 h226 hk))) (fun hc => have hk := hk.2 hc
G.fewer [] rfl <| G.widen (show cb + 0 + 10 ≤ ce by omega) (show kb + 0 + 104 ≤ ke by omega) <| hK1308 h226 hk)
theorem s_L_law_j1395 {x : Cx} (F : Fx x cL_law "LockstepRoomLaw" 9 (some .boolean) rmL_law) {Q : Int32 → hH → Prop} (hL : lawX x Q) {K23 : Option Nat → Option Nat → Option Nat → Option Nat → Int32 → hH → Prop} {cb kb ce ke : Nat} (hM : cb + 9000 ≤ ce) (hM2 : ce ≤ 603072) (hS : kb + 100000 ≤ ke) (hS2 : ke ≤ 7178346) (l0 : Option Nat) (l1 : Option Nat) (l2 : Option Nat) (l3 : Option Nat) (l4 : Int32) (h : hH) (hk : f_L_law_j1395 x.S.E Q K23 l0 l1 l2 l3 l4 h) (hK23 : ∀ (l0 : Option Nat) (l1 : Option Nat) (l2 : Option Nat) (l3 : Option Nat) (l4 : Int32) (h : hH), K23 l0 l1 l2 l3 l4 h → G x (lw_Z x.below x.args x.s) 23 [(0, aR l0), (1, aR l1), (2, aR l2), (3, aR l3), (4, aI l4)] [] h (cb + 9000) (kb + 100000)) : G x (lw_Z x.below x.args x.s) 1395 [(0, aR l0), (1, aR l1), (2, aR l2), (3, aR l3), (4, aI l4)] [] h (cb + 9) (kb + 14) := by
  unfold f_L_law_j1395 at hk
  exact g_goto F dL_law_1395 (tgt := 2370) rfl <|
g_iinc (v := (l4 + (6:Int32))) F dL_law_2370 (j := 4) rfl (iinc_6 l4) (Nat.le_of_ble_eq_true rfl) rfl <|
g_goto F dL_law_2373 (tgt := 23) rfl <|
G.fewer [1, 2, 3, 4, 0] rfl <| G.widen (show cb + 9 ≤ cb + 9000 by omega) (show kb + 14 ≤ kb + 100000 by omega) <| hK23 l0 l1 l2 l3 (l4 + (6:Int32)) h hk
theorem s_L_law_j1330 {x : Cx} (F : Fx x cL_law "LockstepRoomLaw" 9 (some .boolean) rmL_law) {Q : Int32 → hH → Prop} (hL : lawX x Q) {K23 : Option Nat → Option Nat → Option Nat → Option Nat → Int32 → hH → Prop} {K1376 : hH → Prop} {K1393 : hH → Prop} {cb kb ce ke : Nat} (hM : cb + 9000 ≤ ce) (hM2 : ce ≤ 603072) (hS : kb + 100000 ≤ ke) (hS2 : ke ≤ 7178346) (l0 : Option Nat) (l1 : Option Nat) (l2 : Option Nat) (l3 : Option Nat) (l4 : Int32) (h : hH) (hk : f_L_law_j1330 x.S.E Q K23 K1376 K1393 l0 l1 l2 l3 l4 h) (hK23 : ∀ (l0 : Option Nat) (l1 : Option Nat) (l2 : Option Nat) (l3 : Option Nat) (l4 : Int32) (h : hH), K23 l0 l1 l2 l3 l4 h → G x (lw_Z x.below x.args x.s) 23 [(0, aR l0), (1, aR l1), (2, aR l2), (3, aR l3), (4, aI l4)] [] h (cb + 9000) (kb + 100000)) (hK1376 : ∀ (h : hH), K1376 h → G x (lw_Z x.below x.args x.s) 1376 [] [] h ce ke) (hK1393 : ∀ (h : hH), K1393 h → G x (lw_Z x.below x.args x.s) 1393 [] [] h ce ke) : G x (lw_Z x.below x.args x.s) 1330 [(0, aR l0), (1, aR l1), (2, aR l2), (3, aR l3), (4, aI l4)] [] h (cb + 0) (kb + 0) := by
  unfold f_L_law_j1330 at hk
  exact g_aload_n F dL_law_1330 rfl 1 rfl <|
g_aload_n F dL_law_1331 rfl 0 rfl <|
g_iload F dL_law_1332 4 rfl <|
g_iconst F dL_law_1334 ic_1 <|
g_iadd F dL_law_1335 <|
g_ialdo F dL_law_1336 hk fun x230 hk =>
g_aload_n F dL_law_1337 rfl 0 rfl <|
g_iload F dL_law_1338 4 rfl <|
g_iconst F dL_law_1340 ic_2 <|
g_iadd F dL_law_1341 <|
g_ialdo F dL_law_1342 hk fun x231 hk =>
g_aload_n F dL_law_1343 rfl 3 rfl <|
g_calli (g_SW F dL_law_1344 q2808 q2809 q110 q2810 mo_X0_votes (rm' := rmX0_votes) ⟨Nat.le_of_ble_eq_true rfl, Nat.le_of_ble_eq_true rfl⟩ ⟨show cb + 0 + 9 ≤ 603072 by omega, show kb + 0 + 14 ≤ 7178346 by omega⟩ (As := [aR l1, aI x230, aI x231, aR l3]) (rest := []) rfl rfl (Nat.le_of_ble_eq_true rfl) (m_X0_votes F.ok l1 x230 x231 l3 h _ hk)) fun x233 h232 hk =>
g_istore F dL_law_1347 (Nat.le_of_ble_eq_true rfl) rfl <|
g_aload_n F dL_law_1349 rfl 3 rfl <|
g_aload_n F dL_law_1350 rfl 1 rfl <|
g_iload F dL_law_1351 5 rfl <|
g_iconst F dL_law_1353 ic_1 <|
g_iadd F dL_law_1354 <|
g_ialdo F dL_law_1355 hk fun x234 hk =>
g_aload_n F dL_law_1356 rfl 1 rfl <|
g_iload F dL_law_1357 5 rfl <|
g_iconst F dL_law_1359 ic_2 <|
g_iadd F dL_law_1360 <|
g_ialdo F dL_law_1361 hk fun x235 hk =>
g_calli0 (g_V F dL_law_1362 q3374 mi_X5_votes ct_X5 (rm' := rmX5_votes) ⟨Nat.le_of_ble_eq_true rfl, Nat.le_of_ble_eq_true rfl⟩ ⟨show cb + 0 + 9 + 0 ≤ 603072 by omega, show kb + 0 + 14 + 0 ≤ 7178346 by omega⟩ (As := [aI x234, aI x235]) (rest := []) rfl rfl (Nat.le_of_ble_eq_true rfl) hk (fun a238 hk => m_X5_votes F.ok a238 x234 x235 h232 _ hk)) ⟨rfl, rfl⟩ fun x237 h236 hk =>
g_istore F dL_law_1365 (Nat.le_of_ble_eq_true rfl) rfl <|
g_aload_n F dL_law_1367 rfl 4 rfl <|
g_calli0 (g_V F dL_law_1368 q3085 mi_X5_thrown ct_X5 (rm' := rmX5_thrown) ⟨Nat.le_of_ble_eq_true rfl, Nat.le_of_ble_eq_true rfl⟩ ⟨show cb + 0 + 9 + 0 ≤ 603072 by omega, show kb + 0 + 14 + 0 ≤ 7178346 by omega⟩ (As := []) (rest := []) rfl rfl (Nat.le_of_ble_eq_true rfl) hk (fun a241 hk => m_X5_thrown F.ok a241 h236 _ hk)) ⟨rfl, rfl⟩ fun x240 h239 hk =>
g_iload F dL_law_1371 1 rfl <|
g_icmp_eq F dL_law_1373 (tgt := 1378) rfl (fun hc => have hk := hk.1 hc
g_iload F dL_law_1378 1 rfl <|
g_if_ne F dL_law_1380 (tgt := 1395) rfl (fun hc => have hk := hk.2 hc
G.fewer [2, 3, 4, 5, 6] rfl <| G.widen (show cb + 0 + 9 ≤ cb + 9 by omega) (show kb + 0 + 14 ≤ kb + 14 by omega) <| s_L_law_j1395 F hL hM hM2 hS hS2 l0 l1 l2 l3 l4 h239 hk hK23) (fun hc => have hk := hk.1 hc
g_aload_n F dL_law_1383 rfl 5 rfl <|
g_iconst F dL_law_1384 ic_0 <|
g_lald F dL_law_1385 hk fun x242 hk =>
g_iload F dL_law_1386 0 rfl <|
g_i2l F dL_law_1388 <|
g_lcmp F dL_law_1389 <|
g_if_eq F dL_law_1390 (tgt := 1395) rfl (fun hc => have hk := hk.1 hc
G.fewer [2, 3, 4, 5, 6] rfl <| G.widen (show cb + 0 + 9 ≤ cb + 9 by omega) (show kb + 0 + 14 ≤ kb + 14 by omega) <| s_L_law_j1395 F hL hM hM2 hS hS2 l0 l1 l2 l3 l4 h239 hk hK23) (fun hc => have hk := hk.2 hc
G.fewer [] rfl <| G.widen (show cb + 0 + 9 ≤ ce by omega) (show kb + 0 + 14 ≤ ke by omega) <| hK1393 h239 hk))) (fun hc => have hk := hk.2 hc
G.fewer [] rfl <| G.widen (show cb + 0 + 9 ≤ ce by omega) (show kb + 0 + 14 ≤ ke by omega) <| hK1376 h239 hk)
theorem s_L_law_j1398 {x : Cx} (F : Fx x cL_law "LockstepRoomLaw" 9 (some .boolean) rmL_law) {Q : Int32 → hH → Prop} (hL : lawX x Q) {K23 : Option Nat → Option Nat → Option Nat → Option Nat → Int32 → hH → Prop} {K1421 : hH → Prop} {cb kb ce ke : Nat} (hM : cb + 9000 ≤ ce) (hM2 : ce ≤ 603072) (hS : kb + 100000 ≤ ke) (hS2 : ke ≤ 7178346) (l0 : Option Nat) (l1 : Option Nat) (l2 : Option Nat) (l3 : Option Nat) (l4 : Int32) (h : hH) (hk : f_L_law_j1398 x.S.E Q K23 K1421 l0 l1 l2 l3 l4 h) (hK23 : ∀ (l0 : Option Nat) (l1 : Option Nat) (l2 : Option Nat) (l3 : Option Nat) (l4 : Int32) (h : hH), K23 l0 l1 l2 l3 l4 h → G x (lw_Z x.below x.args x.s) 23 [(0, aR l0), (1, aR l1), (2, aR l2), (3, aR l3), (4, aI l4)] [] h (cb + 9000) (kb + 100000)) (hK1421 : ∀ (h : hH), K1421 h → G x (lw_Z x.below x.args x.s) 1421 [] [] h ce ke) : G x (lw_Z x.below x.args x.s) 1398 [(0, aR l0), (1, aR l1), (2, aR l2), (3, aR l3), (4, aI l4)] [] h (cb + 0) (kb + 0) := by
  unfold f_L_law_j1398 at hk
  exact g_aload_n F dL_law_1398 rfl 1 rfl <|
g_aload_n F dL_law_1399 rfl 0 rfl <|
g_iload F dL_law_1400 4 rfl <|
g_iconst F dL_law_1402 ic_1 <|
g_iadd F dL_law_1403 <|
g_ialdo F dL_law_1404 hk fun x243 hk =>
g_calli (g_V F dL_law_1405 q1597 mi_X1_winner ct_X1 (rm' := rmX1_winner) ⟨Nat.le_of_ble_eq_true rfl, Nat.le_of_ble_eq_true rfl⟩ ⟨show cb + 0 + 51 ≤ 603072 by omega, show kb + 0 + 1411 ≤ 7178346 by omega⟩ (As := [aI x243]) (rest := []) rfl rfl (Nat.le_of_ble_eq_true rfl) hk (fun a246 hk => m_X1_winner F.ok a246 x243 h _ hk)) fun x245 h244 hk =>
g_aload_n F dL_law_1408 rfl 2 rfl <|
g_aload_n F dL_law_1409 rfl 0 rfl <|
g_iload F dL_law_1410 4 rfl <|
g_iconst F dL_law_1412 ic_1 <|
g_iadd F dL_law_1413 <|
g_ialdo F dL_law_1414 hk fun x247 hk =>
g_calli0 (g_V F dL_law_1415 q3386 mi_X5_winner ct_X5 (rm' := rmX5_winner) ⟨Nat.le_of_ble_eq_true rfl, Nat.le_of_ble_eq_true rfl⟩ ⟨show cb + 0 + 51 + 0 ≤ 603072 by omega, show kb + 0 + 1411 + 0 ≤ 7178346 by omega⟩ (As := [aI x247]) (rest := [aI x245]) rfl rfl (Nat.le_of_ble_eq_true rfl) hk (fun a250 hk => m_X5_winner F.ok a250 x247 h244 _ hk)) ⟨rfl, rfl⟩ fun x249 h248 hk =>
g_icmp_eq F dL_law_1418 (tgt := 2370) rfl (fun hc => have hk := hk.1 hc
g_iinc (v := (l4 + (6:Int32))) F dL_law_2370 (j := 4) rfl (iinc_6 l4) (Nat.le_of_ble_eq_true rfl) rfl <|
g_goto F dL_law_2373 (tgt := 23) rfl <|
G.fewer [1, 2, 3, 4, 0] rfl <| G.widen (show cb + 0 + 51 ≤ cb + 9000 by omega) (show kb + 0 + 1411 ≤ kb + 100000 by omega) <| hK23 l0 l1 l2 l3 (l4 + (6:Int32)) h248 hk) (fun hc => have hk := hk.2 hc
G.fewer [] rfl <| G.widen (show cb + 0 + 51 ≤ ce by omega) (show kb + 0 + 1411 ≤ ke by omega) <| hK1421 h248 hk)
theorem s_L_law_j1483 {x : Cx} (F : Fx x cL_law "LockstepRoomLaw" 9 (some .boolean) rmL_law) {Q : Int32 → hH → Prop} (hL : lawX x Q) {K23 : Option Nat → Option Nat → Option Nat → Option Nat → Int32 → hH → Prop} {cb kb ce ke : Nat} (hM : cb + 9000 ≤ ce) (hM2 : ce ≤ 603072) (hS : kb + 100000 ≤ ke) (hS2 : ke ≤ 7178346) (l0 : Option Nat) (l1 : Option Nat) (l2 : Option Nat) (l3 : Option Nat) (l4 : Int32) (h : hH) (hk : f_L_law_j1483 x.S.E Q K23 l0 l1 l2 l3 l4 h) (hK23 : ∀ (l0 : Option Nat) (l1 : Option Nat) (l2 : Option Nat) (l3 : Option Nat) (l4 : Int32) (h : hH), K23 l0 l1 l2 l3 l4 h → G x (lw_Z x.below x.args x.s) 23 [(0, aR l0), (1, aR l1), (2, aR l2), (3, aR l3), (4, aI l4)] [] h (cb + 9000) (kb + 100000)) : G x (lw_Z x.below x.args x.s) 1483 [(0, aR l0), (1, aR l1), (2, aR l2), (3, aR l3), (4, aI l4)] [] h (cb + 54) (kb + 1419) := by
  unfold f_L_law_j1483 at hk
  exact g_goto F dL_law_1483 (tgt := 2370) rfl <|
g_iinc (v := (l4 + (6:Int32))) F dL_law_2370 (j := 4) rfl (iinc_6 l4) (Nat.le_of_ble_eq_true rfl) rfl <|
g_goto F dL_law_2373 (tgt := 23) rfl <|
G.fewer [1, 2, 3, 4, 0] rfl <| G.widen (show cb + 54 ≤ cb + 9000 by omega) (show kb + 1419 ≤ kb + 100000 by omega) <| hK23 l0 l1 l2 l3 (l4 + (6:Int32)) h hk
theorem s_L_law_j1477 {x : Cx} (F : Fx x cL_law "LockstepRoomLaw" 9 (some .boolean) rmL_law) {Q : Int32 → hH → Prop} (hL : lawX x Q) {K23 : Option Nat → Option Nat → Option Nat → Option Nat → Int32 → hH → Prop} {K1481 : hH → Prop} {cb kb ce ke : Nat} (hM : cb + 9000 ≤ ce) (hM2 : ce ≤ 603072) (hS : kb + 100000 ≤ ke) (hS2 : ke ≤ 7178346) (s0 : Int64) (s1 : Int64) (l0 : Option Nat) (l1 : Option Nat) (l2 : Option Nat) (l3 : Option Nat) (l4 : Int32) (h : hH) (hk : f_L_law_j1477 x.S.E Q K23 K1481 s0 s1 l0 l1 l2 l3 l4 h) (hK23 : ∀ (l0 : Option Nat) (l1 : Option Nat) (l2 : Option Nat) (l3 : Option Nat) (l4 : Int32) (h : hH), K23 l0 l1 l2 l3 l4 h → G x (lw_Z x.below x.args x.s) 23 [(0, aR l0), (1, aR l1), (2, aR l2), (3, aR l3), (4, aI l4)] [] h (cb + 9000) (kb + 100000)) (hK1481 : ∀ (h : hH), K1481 h → G x (lw_Z x.below x.args x.s) 1481 [] [] h ce ke) : G x (lw_Z x.below x.args x.s) 1477 [(0, aR l0), (1, aR l1), (2, aR l2), (3, aR l3), (4, aI l4)] [aL s1, aL s0] h (cb + 54) (kb + 1419) := by
  unfold f_L_law_j1477 at hk
  exact g_lcmp F dL_law_1477 <|
g_if_eq F dL_law_1478 (tgt := 1483) rfl (fun hc => have hk := hk.1 hc
s_L_law_j1483 F hL hM hM2 hS hS2 l0 l1 l2 l3 l4 h hk hK23) (fun hc => have hk := hk.2 hc
G.fewer [] rfl <| G.widen (show cb + 54 ≤ ce by omega) (show kb + 1419 ≤ ke by omega) <| hK1481 h hk)
theorem s_L_law_j1423 {x : Cx} (F : Fx x cL_law "LockstepRoomLaw" 9 (some .boolean) rmL_law) {Q : Int32 → hH → Prop} (hL : lawX x Q) {K23 : Option Nat → Option Nat → Option Nat → Option Nat → Int32 → hH → Prop} {K1457 : hH → Prop} {K1481 : hH → Prop} {cb kb ce ke : Nat} (hM : cb + 9000 ≤ ce) (hM2 : ce ≤ 603072) (hS : kb + 100000 ≤ ke) (hS2 : ke ≤ 7178346) (l0 : Option Nat) (l1 : Option Nat) (l2 : Option Nat) (l3 : Option Nat) (l4 : Int32) (h : hH) (hk : f_L_law_j1423 x.S.E Q K23 K1457 K1481 l0 l1 l2 l3 l4 h) (hK23 : ∀ (l0 : Option Nat) (l1 : Option Nat) (l2 : Option Nat) (l3 : Option Nat) (l4 : Int32) (h : hH), K23 l0 l1 l2 l3 l4 h → G x (lw_Z x.below x.args x.s) 23 [(0, aR l0), (1, aR l1), (2, aR l2), (3, aR l3), (4, aI l4)] [] h (cb + 9000) (kb + 100000)) (hK1457 : ∀ (h : hH), K1457 h → G x (lw_Z x.below x.args x.s) 1457 [] [] h ce ke) (hK1481 : ∀ (h : hH), K1481 h → G x (lw_Z x.below x.args x.s) 1481 [] [] h ce ke) : G x (lw_Z x.below x.args x.s) 1423 [(0, aR l0), (1, aR l1), (2, aR l2), (3, aR l3), (4, aI l4)] [] h (cb + 0) (kb + 0) := by
  unfold f_L_law_j1423 at hk
  exact g_aload_n F dL_law_1423 rfl 1 rfl <|
g_aload_n F dL_law_1424 rfl 0 rfl <|
g_iload F dL_law_1425 4 rfl <|
g_iconst F dL_law_1427 ic_1 <|
g_iadd F dL_law_1428 <|
g_ialdo F dL_law_1429 hk fun x251 hk =>
g_aload_n F dL_law_1430 rfl 3 rfl <|
g_calli (g_SW F dL_law_1431 q2815 q2816 q110 q2817 mo_X0_isWrong (rm' := rmX0_isWrong) ⟨Nat.le_of_ble_eq_true rfl, Nat.le_of_ble_eq_true rfl⟩ ⟨show cb + 0 + 54 ≤ 603072 by omega, show kb + 0 + 1419 ≤ 7178346 by omega⟩ (As := [aR l1, aI x251, aR l3]) (rest := []) rfl rfl (Nat.le_of_ble_eq_true rfl) (m_X0_isWrong F.ok l1 x251 l3 h _ hk)) fun x253 h252 hk =>
g_istore F dL_law_1434 (Nat.le_of_ble_eq_true rfl) rfl <|
g_aload_n F dL_law_1436 rfl 3 rfl <|
g_aload_n F dL_law_1437 rfl 1 rfl <|
g_iload F dL_law_1438 5 rfl <|
g_iconst F dL_law_1440 ic_1 <|
g_iadd F dL_law_1441 <|
g_ialdo F dL_law_1442 hk fun x254 hk =>
g_calli0 (g_V F dL_law_1443 q3394 mi_X5_isWrong ct_X5 (rm' := rmX5_isWrong) ⟨Nat.le_of_ble_eq_true rfl, Nat.le_of_ble_eq_true rfl⟩ ⟨show cb + 0 + 54 + 0 ≤ 603072 by omega, show kb + 0 + 1419 + 0 ≤ 7178346 by omega⟩ (As := [aI x254]) (rest := []) rfl rfl (Nat.le_of_ble_eq_true rfl) hk (fun a257 hk => m_X5_isWrong F.ok a257 x254 h252 _ hk)) ⟨rfl, rfl⟩ fun x256 h255 hk =>
g_istore F dL_law_1446 (Nat.le_of_ble_eq_true rfl) rfl <|
g_aload_n F dL_law_1448 rfl 4 rfl <|
g_calli0 (g_V F dL_law_1449 q3085 mi_X5_thrown ct_X5 (rm' := rmX5_thrown) ⟨Nat.le_of_ble_eq_true rfl, Nat.le_of_ble_eq_true rfl⟩ ⟨show cb + 0 + 54 + 0 ≤ 603072 by omega, show kb + 0 + 1419 + 0 ≤ 7178346 by omega⟩ (As := []) (rest := []) rfl rfl (Nat.le_of_ble_eq_true rfl) hk (fun a260 hk => m_X5_thrown F.ok a260 h255 _ hk)) ⟨rfl, rfl⟩ fun x259 h258 hk =>
g_iload F dL_law_1452 1 rfl <|
g_icmp_eq F dL_law_1454 (tgt := 1459) rfl (fun hc => have hk := hk.1 hc
g_iload F dL_law_1459 1 rfl <|
g_if_ne F dL_law_1461 (tgt := 1483) rfl (fun hc => have hk := hk.2 hc
G.fewer [2, 3, 4, 5, 6] rfl <| G.widen (show cb + 0 + 54 ≤ cb + 54 by omega) (show kb + 0 + 1419 ≤ kb + 1419 by omega) <| s_L_law_j1483 F hL hM hM2 hS hS2 l0 l1 l2 l3 l4 h258 hk hK23) (fun hc => have hk := hk.1 hc
g_aload_n F dL_law_1464 rfl 5 rfl <|
g_iconst F dL_law_1465 ic_0 <|
g_lald F dL_law_1466 hk fun x261 hk =>
g_iload F dL_law_1467 0 rfl <|
g_if_eq F dL_law_1469 (tgt := 1476) rfl (fun hc => have hk := hk.1 hc
g_lconst F dL_law_1476 rfl <|
G.fewer [2, 3, 4, 5, 6] rfl <| G.widen (show cb + 0 + 54 ≤ cb + 54 by omega) (show kb + 0 + 1419 ≤ kb + 1419 by omega) <| s_L_law_j1477 F hL hM hM2 hS hS2 x261 (0:Int64) l0 l1 l2 l3 l4 h258 hk hK23 hK1481) (fun hc => have hk := hk.2 hc
g_lconst F dL_law_1472 rfl <|
g_goto F dL_law_1473 (tgt := 1477) rfl <|
G.fewer [2, 3, 4, 5, 6] rfl <| G.widen (show cb + 0 + 54 ≤ cb + 54 by omega) (show kb + 0 + 1419 ≤ kb + 1419 by omega) <| s_L_law_j1477 F hL hM hM2 hS hS2 x261 (1:Int64) l0 l1 l2 l3 l4 h258 hk hK23 hK1481))) (fun hc => have hk := hk.2 hc
G.fewer [] rfl <| G.widen (show cb + 0 + 54 ≤ ce by omega) (show kb + 0 + 1419 ≤ ke by omega) <| hK1457 h258 hk)
theorem s_L_law_j1486 {x : Cx} (F : Fx x cL_law "LockstepRoomLaw" 9 (some .boolean) rmL_law) {Q : Int32 → hH → Prop} (hL : lawX x Q) {K23 : Option Nat → Option Nat → Option Nat → Option Nat → Int32 → hH → Prop} {K1497 : hH → Prop} {cb kb ce ke : Nat} (hM : cb + 9000 ≤ ce) (hM2 : ce ≤ 603072) (hS : kb + 100000 ≤ ke) (hS2 : ke ≤ 7178346) (l0 : Option Nat) (l1 : Option Nat) (l2 : Option Nat) (l3 : Option Nat) (l4 : Int32) (h : hH) (hk : f_L_law_j1486 x.S.E Q K23 K1497 l0 l1 l2 l3 l4 h) (hK23 : ∀ (l0 : Option Nat) (l1 : Option Nat) (l2 : Option Nat) (l3 : Option Nat) (l4 : Int32) (h : hH), K23 l0 l1 l2 l3 l4 h → G x (lw_Z x.below x.args x.s) 23 [(0, aR l0), (1, aR l1), (2, aR l2), (3, aR l3), (4, aI l4)] [] h (cb + 9000) (kb + 100000)) (hK1497 : ∀ (h : hH), K1497 h → G x (lw_Z x.below x.args x.s) 1497 [] [] h ce ke) : G x (lw_Z x.below x.args x.s) 1486 [(0, aR l0), (1, aR l1), (2, aR l2), (3, aR l3), (4, aI l4)] [] h (cb + 0) (kb + 0) := by
  unfold f_L_law_j1486 at hk
  exact g_aload_n F dL_law_1486 rfl 1 rfl <|
g_calli (g_V F dL_law_1487 q1951 mi_X1_wrongMembers ct_X1 (rm' := rmX1_wrongMembers) ⟨Nat.le_of_ble_eq_true rfl, Nat.le_of_ble_eq_true rfl⟩ ⟨show cb + 0 + 371 ≤ 603072 by omega, show kb + 0 + 9891 ≤ 7178346 by omega⟩ (As := []) (rest := []) rfl rfl (Nat.le_of_ble_eq_true rfl) hk (fun a264 hk => m_X1_wrongMembers F.ok a264 h _ hk)) fun x263 h262 hk =>
g_aload_n F dL_law_1490 rfl 2 rfl <|
g_calli0 (g_V F dL_law_1491 q3402 mi_X5_wrongMembers ct_X5 (rm' := rmX5_wrongMembers) ⟨Nat.le_of_ble_eq_true rfl, Nat.le_of_ble_eq_true rfl⟩ ⟨show cb + 0 + 371 + 0 ≤ 603072 by omega, show kb + 0 + 9891 + 0 ≤ 7178346 by omega⟩ (As := []) (rest := [aI x263]) rfl rfl (Nat.le_of_ble_eq_true rfl) hk (fun a267 hk => m_X5_wrongMembers F.ok a267 h262 _ hk)) ⟨rfl, rfl⟩ fun x266 h265 hk =>
g_icmp_eq F dL_law_1494 (tgt := 2370) rfl (fun hc => have hk := hk.1 hc
g_iinc (v := (l4 + (6:Int32))) F dL_law_2370 (j := 4) rfl (iinc_6 l4) (Nat.le_of_ble_eq_true rfl) rfl <|
g_goto F dL_law_2373 (tgt := 23) rfl <|
G.fewer [1, 2, 3, 4, 0] rfl <| G.widen (show cb + 0 + 371 ≤ cb + 9000 by omega) (show kb + 0 + 9891 ≤ kb + 100000 by omega) <| hK23 l0 l1 l2 l3 (l4 + (6:Int32)) h265 hk) (fun hc => have hk := hk.2 hc
G.fewer [] rfl <| G.widen (show cb + 0 + 371 ≤ ce by omega) (show kb + 0 + 9891 ≤ ke by omega) <| hK1497 h265 hk)
theorem s_L_law_j1552 {x : Cx} (F : Fx x cL_law "LockstepRoomLaw" 9 (some .boolean) rmL_law) {Q : Int32 → hH → Prop} (hL : lawX x Q) {K23 : Option Nat → Option Nat → Option Nat → Option Nat → Int32 → hH → Prop} {cb kb ce ke : Nat} (hM : cb + 9000 ≤ ce) (hM2 : ce ≤ 603072) (hS : kb + 100000 ≤ ke) (hS2 : ke ≤ 7178346) (l0 : Option Nat) (l1 : Option Nat) (l2 : Option Nat) (l3 : Option Nat) (l4 : Int32) (h : hH) (hk : f_L_law_j1552 x.S.E Q K23 l0 l1 l2 l3 l4 h) (hK23 : ∀ (l0 : Option Nat) (l1 : Option Nat) (l2 : Option Nat) (l3 : Option Nat) (l4 : Int32) (h : hH), K23 l0 l1 l2 l3 l4 h → G x (lw_Z x.below x.args x.s) 23 [(0, aR l0), (1, aR l1), (2, aR l2), (3, aR l3), (4, aI l4)] [] h (cb + 9000) (kb + 100000)) : G x (lw_Z x.below x.args x.s) 1552 [(0, aR l0), (1, aR l1), (2, aR l2), (3, aR l3), (4, aI l4)] [] h (cb + 69) (kb + 1443) := by
  unfold f_L_law_j1552 at hk
  exact g_goto F dL_law_1552 (tgt := 2370) rfl <|
g_iinc (v := (l4 + (6:Int32))) F dL_law_2370 (j := 4) rfl (iinc_6 l4) (Nat.le_of_ble_eq_true rfl) rfl <|
g_goto F dL_law_2373 (tgt := 23) rfl <|
G.fewer [1, 2, 3, 4, 0] rfl <| G.widen (show cb + 69 ≤ cb + 9000 by omega) (show kb + 1443 ≤ kb + 100000 by omega) <| hK23 l0 l1 l2 l3 (l4 + (6:Int32)) h hk
theorem s_L_law_j1499 {x : Cx} (F : Fx x cL_law "LockstepRoomLaw" 9 (some .boolean) rmL_law) {Q : Int32 → hH → Prop} (hL : lawX x Q) {K23 : Option Nat → Option Nat → Option Nat → Option Nat → Int32 → hH → Prop} {K1533 : hH → Prop} {K1550 : hH → Prop} {cb kb ce ke : Nat} (hM : cb + 9000 ≤ ce) (hM2 : ce ≤ 603072) (hS : kb + 100000 ≤ ke) (hS2 : ke ≤ 7178346) (l0 : Option Nat) (l1 : Option Nat) (l2 : Option Nat) (l3 : Option Nat) (l4 : Int32) (h : hH) (hk : f_L_law_j1499 x.S.E Q K23 K1533 K1550 l0 l1 l2 l3 l4 h) (hK23 : ∀ (l0 : Option Nat) (l1 : Option Nat) (l2 : Option Nat) (l3 : Option Nat) (l4 : Int32) (h : hH), K23 l0 l1 l2 l3 l4 h → G x (lw_Z x.below x.args x.s) 23 [(0, aR l0), (1, aR l1), (2, aR l2), (3, aR l3), (4, aI l4)] [] h (cb + 9000) (kb + 100000)) (hK1533 : ∀ (h : hH), K1533 h → G x (lw_Z x.below x.args x.s) 1533 [] [] h ce ke) (hK1550 : ∀ (h : hH), K1550 h → G x (lw_Z x.below x.args x.s) 1550 [] [] h ce ke) : G x (lw_Z x.below x.args x.s) 1499 [(0, aR l0), (1, aR l1), (2, aR l2), (3, aR l3), (4, aI l4)] [] h (cb + 0) (kb + 0) := by
  unfold f_L_law_j1499 at hk
  exact g_aload_n F dL_law_1499 rfl 1 rfl <|
g_aload_n F dL_law_1500 rfl 0 rfl <|
g_iload F dL_law_1501 4 rfl <|
g_iconst F dL_law_1503 ic_1 <|
g_iadd F dL_law_1504 <|
g_ialdo F dL_law_1505 hk fun x268 hk =>
g_aload_n F dL_law_1506 rfl 3 rfl <|
g_calli (g_SW F dL_law_1507 q2822 q2823 q110 q2824 mo_X0_donorFor (rm' := rmX0_donorFor) ⟨Nat.le_of_ble_eq_true rfl, Nat.le_of_ble_eq_true rfl⟩ ⟨show cb + 0 + 69 ≤ 603072 by omega, show kb + 0 + 1443 ≤ 7178346 by omega⟩ (As := [aR l1, aI x268, aR l3]) (rest := []) rfl rfl (Nat.le_of_ble_eq_true rfl) (m_X0_donorFor F.ok l1 x268 l3 h _ hk)) fun x270 h269 hk =>
g_istore F dL_law_1510 (Nat.le_of_ble_eq_true rfl) rfl <|
g_aload_n F dL_law_1512 rfl 3 rfl <|
g_aload_n F dL_law_1513 rfl 1 rfl <|
g_iload F dL_law_1514 5 rfl <|
g_iconst F dL_law_1516 ic_1 <|
g_iadd F dL_law_1517 <|
g_ialdo F dL_law_1518 hk fun x271 hk =>
g_calli0 (g_V F dL_law_1519 q3406 mi_X5_donorFor ct_X5 (rm' := rmX5_donorFor) ⟨Nat.le_of_ble_eq_true rfl, Nat.le_of_ble_eq_true rfl⟩ ⟨show cb + 0 + 69 + 0 ≤ 603072 by omega, show kb + 0 + 1443 + 0 ≤ 7178346 by omega⟩ (As := [aI x271]) (rest := []) rfl rfl (Nat.le_of_ble_eq_true rfl) hk (fun a274 hk => m_X5_donorFor F.ok a274 x271 h269 _ hk)) ⟨rfl, rfl⟩ fun x273 h272 hk =>
g_istore F dL_law_1522 (Nat.le_of_ble_eq_true rfl) rfl <|
g_aload_n F dL_law_1524 rfl 4 rfl <|
g_calli0 (g_V F dL_law_1525 q3085 mi_X5_thrown ct_X5 (rm' := rmX5_thrown) ⟨Nat.le_of_ble_eq_true rfl, Nat.le_of_ble_eq_true rfl⟩ ⟨show cb + 0 + 69 + 0 ≤ 603072 by omega, show kb + 0 + 1443 + 0 ≤ 7178346 by omega⟩ (As := []) (rest := []) rfl rfl (Nat.le_of_ble_eq_true rfl) hk (fun a277 hk => m_X5_thrown F.ok a277 h272 _ hk)) ⟨rfl, rfl⟩ fun x276 h275 hk =>
g_iload F dL_law_1528 1 rfl <|
g_icmp_eq F dL_law_1530 (tgt := 1535) rfl (fun hc => have hk := hk.1 hc
g_iload F dL_law_1535 1 rfl <|
g_if_ne F dL_law_1537 (tgt := 1552) rfl (fun hc => have hk := hk.2 hc
G.fewer [2, 3, 4, 5, 6] rfl <| G.widen (show cb + 0 + 69 ≤ cb + 69 by omega) (show kb + 0 + 1443 ≤ kb + 1443 by omega) <| s_L_law_j1552 F hL hM hM2 hS hS2 l0 l1 l2 l3 l4 h275 hk hK23) (fun hc => have hk := hk.1 hc
g_aload_n F dL_law_1540 rfl 5 rfl <|
g_iconst F dL_law_1541 ic_0 <|
g_lald F dL_law_1542 hk fun x278 hk =>
g_iload F dL_law_1543 0 rfl <|
g_i2l F dL_law_1545 <|
g_lcmp F dL_law_1546 <|
g_if_eq F dL_law_1547 (tgt := 1552) rfl (fun hc => have hk := hk.1 hc
G.fewer [2, 3, 4, 5, 6] rfl <| G.widen (show cb + 0 + 69 ≤ cb + 69 by omega) (show kb + 0 + 1443 ≤ kb + 1443 by omega) <| s_L_law_j1552 F hL hM hM2 hS hS2 l0 l1 l2 l3 l4 h275 hk hK23) (fun hc => have hk := hk.2 hc
G.fewer [] rfl <| G.widen (show cb + 0 + 69 ≤ ce by omega) (show kb + 0 + 1443 ≤ ke by omega) <| hK1550 h275 hk))) (fun hc => have hk := hk.2 hc
G.fewer [] rfl <| G.widen (show cb + 0 + 69 ≤ ce by omega) (show kb + 0 + 1443 ≤ ke by omega) <| hK1533 h275 hk)
theorem s_L_law_j1608 {x : Cx} (F : Fx x cL_law "LockstepRoomLaw" 9 (some .boolean) rmL_law) {Q : Int32 → hH → Prop} (hL : lawX x Q) {K23 : Option Nat → Option Nat → Option Nat → Option Nat → Int32 → hH → Prop} {cb kb ce ke : Nat} (hM : cb + 9000 ≤ ce) (hM2 : ce ≤ 603072) (hS : kb + 100000 ≤ ke) (hS2 : ke ≤ 7178346) (l0 : Option Nat) (l1 : Option Nat) (l2 : Option Nat) (l3 : Option Nat) (l4 : Int32) (h : hH) (hk : f_L_law_j1608 x.S.E Q K23 l0 l1 l2 l3 l4 h) (hK23 : ∀ (l0 : Option Nat) (l1 : Option Nat) (l2 : Option Nat) (l3 : Option Nat) (l4 : Int32) (h : hH), K23 l0 l1 l2 l3 l4 h → G x (lw_Z x.below x.args x.s) 23 [(0, aR l0), (1, aR l1), (2, aR l2), (3, aR l3), (4, aI l4)] [] h (cb + 9000) (kb + 100000)) : G x (lw_Z x.below x.args x.s) 1608 [(0, aR l0), (1, aR l1), (2, aR l2), (3, aR l3), (4, aI l4)] [] h (cb + 173) (kb + 4267) := by
  unfold f_L_law_j1608 at hk
  exact g_goto F dL_law_1608 (tgt := 2370) rfl <|
g_iinc (v := (l4 + (6:Int32))) F dL_law_2370 (j := 4) rfl (iinc_6 l4) (Nat.le_of_ble_eq_true rfl) rfl <|
g_goto F dL_law_2373 (tgt := 23) rfl <|
G.fewer [1, 2, 3, 4, 0] rfl <| G.widen (show cb + 173 ≤ cb + 9000 by omega) (show kb + 4267 ≤ kb + 100000 by omega) <| hK23 l0 l1 l2 l3 (l4 + (6:Int32)) h hk
theorem s_L_law_j1555 {x : Cx} (F : Fx x cL_law "LockstepRoomLaw" 9 (some .boolean) rmL_law) {Q : Int32 → hH → Prop} (hL : lawX x Q) {K23 : Option Nat → Option Nat → Option Nat → Option Nat → Int32 → hH → Prop} {K1589 : hH → Prop} {K1606 : hH → Prop} {cb kb ce ke : Nat} (hM : cb + 9000 ≤ ce) (hM2 : ce ≤ 603072) (hS : kb + 100000 ≤ ke) (hS2 : ke ≤ 7178346) (l0 : Option Nat) (l1 : Option Nat) (l2 : Option Nat) (l3 : Option Nat) (l4 : Int32) (h : hH) (hk : f_L_law_j1555 x.S.E Q K23 K1589 K1606 l0 l1 l2 l3 l4 h) (hK23 : ∀ (l0 : Option Nat) (l1 : Option Nat) (l2 : Option Nat) (l3 : Option Nat) (l4 : Int32) (h : hH), K23 l0 l1 l2 l3 l4 h → G x (lw_Z x.below x.args x.s) 23 [(0, aR l0), (1, aR l1), (2, aR l2), (3, aR l3), (4, aI l4)] [] h (cb + 9000) (kb + 100000)) (hK1589 : ∀ (h : hH), K1589 h → G x (lw_Z x.below x.args x.s) 1589 [] [] h ce ke) (hK1606 : ∀ (h : hH), K1606 h → G x (lw_Z x.below x.args x.s) 1606 [] [] h ce ke) : G x (lw_Z x.below x.args x.s) 1555 [(0, aR l0), (1, aR l1), (2, aR l2), (3, aR l3), (4, aI l4)] [] h (cb + 0) (kb + 0) := by
  unfold f_L_law_j1555 at hk
  exact g_aload_n F dL_law_1555 rfl 1 rfl <|
g_aload_n F dL_law_1556 rfl 0 rfl <|
g_iload F dL_law_1557 4 rfl <|
g_iconst F dL_law_1559 ic_1 <|
g_iadd F dL_law_1560 <|
g_ialdo F dL_law_1561 hk fun x279 hk =>
g_aload_n F dL_law_1562 rfl 3 rfl <|
g_calli (g_SW F dL_law_1563 q2829 q2830 q110 q2831 mo_X0_whyNot (rm' := rmX0_whyNot) ⟨Nat.le_of_ble_eq_true rfl, Nat.le_of_ble_eq_true rfl⟩ ⟨show cb + 0 + 173 ≤ 603072 by omega, show kb + 0 + 4267 ≤ 7178346 by omega⟩ (As := [aR l1, aI x279, aR l3]) (rest := []) rfl rfl (Nat.le_of_ble_eq_true rfl) (m_X0_whyNot F.ok l1 x279 l3 h _ hk)) fun x281 h280 hk =>
g_istore F dL_law_1566 (Nat.le_of_ble_eq_true rfl) rfl <|
g_aload_n F dL_law_1568 rfl 3 rfl <|
g_aload_n F dL_law_1569 rfl 1 rfl <|
g_iload F dL_law_1570 5 rfl <|
g_iconst F dL_law_1572 ic_1 <|
g_iadd F dL_law_1573 <|
g_ialdo F dL_law_1574 hk fun x282 hk =>
g_calli0 (g_V F dL_law_1575 q3414 mi_X5_whyNot ct_X5 (rm' := rmX5_whyNot) ⟨Nat.le_of_ble_eq_true rfl, Nat.le_of_ble_eq_true rfl⟩ ⟨show cb + 0 + 173 + 0 ≤ 603072 by omega, show kb + 0 + 4267 + 0 ≤ 7178346 by omega⟩ (As := [aI x282]) (rest := []) rfl rfl (Nat.le_of_ble_eq_true rfl) hk (fun a285 hk => m_X5_whyNot F.ok a285 x282 h280 _ hk)) ⟨rfl, rfl⟩ fun x284 h283 hk =>
g_istore F dL_law_1578 (Nat.le_of_ble_eq_true rfl) rfl <|
g_aload_n F dL_law_1580 rfl 4 rfl <|
g_calli0 (g_V F dL_law_1581 q3085 mi_X5_thrown ct_X5 (rm' := rmX5_thrown) ⟨Nat.le_of_ble_eq_true rfl, Nat.le_of_ble_eq_true rfl⟩ ⟨show cb + 0 + 173 + 0 ≤ 603072 by omega, show kb + 0 + 4267 + 0 ≤ 7178346 by omega⟩ (As := []) (rest := []) rfl rfl (Nat.le_of_ble_eq_true rfl) hk (fun a288 hk => m_X5_thrown F.ok a288 h283 _ hk)) ⟨rfl, rfl⟩ fun x287 h286 hk =>
g_iload F dL_law_1584 1 rfl <|
g_icmp_eq F dL_law_1586 (tgt := 1591) rfl (fun hc => have hk := hk.1 hc
g_iload F dL_law_1591 1 rfl <|
g_if_ne F dL_law_1593 (tgt := 1608) rfl (fun hc => have hk := hk.2 hc
G.fewer [2, 3, 4, 5, 6] rfl <| G.widen (show cb + 0 + 173 ≤ cb + 173 by omega) (show kb + 0 + 4267 ≤ kb + 4267 by omega) <| s_L_law_j1608 F hL hM hM2 hS hS2 l0 l1 l2 l3 l4 h286 hk hK23) (fun hc => have hk := hk.1 hc
g_aload_n F dL_law_1596 rfl 5 rfl <|
g_iconst F dL_law_1597 ic_0 <|
g_lald F dL_law_1598 hk fun x289 hk =>
g_iload F dL_law_1599 0 rfl <|
g_i2l F dL_law_1601 <|
g_lcmp F dL_law_1602 <|
g_if_eq F dL_law_1603 (tgt := 1608) rfl (fun hc => have hk := hk.1 hc
G.fewer [2, 3, 4, 5, 6] rfl <| G.widen (show cb + 0 + 173 ≤ cb + 173 by omega) (show kb + 0 + 4267 ≤ kb + 4267 by omega) <| s_L_law_j1608 F hL hM hM2 hS hS2 l0 l1 l2 l3 l4 h286 hk hK23) (fun hc => have hk := hk.2 hc
G.fewer [] rfl <| G.widen (show cb + 0 + 173 ≤ ce by omega) (show kb + 0 + 4267 ≤ ke by omega) <| hK1606 h286 hk))) (fun hc => have hk := hk.2 hc
G.fewer [] rfl <| G.widen (show cb + 0 + 173 ≤ ce by omega) (show kb + 0 + 4267 ≤ ke by omega) <| hK1589 h286 hk)
theorem s_L_law_j1644 {x : Cx} (F : Fx x cL_law "LockstepRoomLaw" 9 (some .boolean) rmL_law) {Q : Int32 → hH → Prop} (hL : lawX x Q) {K23 : Option Nat → Option Nat → Option Nat → Option Nat → Int32 → hH → Prop} {K1650 : hH → Prop} {cb kb ce ke : Nat} (hM : cb + 9000 ≤ ce) (hM2 : ce ≤ 603072) (hS : kb + 100000 ≤ ke) (hS2 : ke ≤ 7178346) (s0 : Int32) (s1 : Option Nat) (s2 : Int32) (l0 : Option Nat) (l1 : Option Nat) (l2 : Option Nat) (l3 : Option Nat) (l4 : Int32) (h : hH) (hk : f_L_law_j1644 x.S.E Q K23 K1650 s0 s1 s2 l0 l1 l2 l3 l4 h) (hK23 : ∀ (l0 : Option Nat) (l1 : Option Nat) (l2 : Option Nat) (l3 : Option Nat) (l4 : Int32) (h : hH), K23 l0 l1 l2 l3 l4 h → G x (lw_Z x.below x.args x.s) 23 [(0, aR l0), (1, aR l1), (2, aR l2), (3, aR l3), (4, aI l4)] [] h (cb + 9000) (kb + 100000)) (hK1650 : ∀ (h : hH), K1650 h → G x (lw_Z x.below x.args x.s) 1650 [] [] h ce ke) : G x (lw_Z x.below x.args x.s) 1644 [(0, aR l0), (1, aR l1), (2, aR l2), (3, aR l3), (4, aI l4)] [aI s2, aR s1, aI s0] h (cb + 0) (kb + 0) := by
  unfold f_L_law_j1644 at hk
  exact g_calli0 (g_V F dL_law_1644 q3422 mi_X5_reached ct_X5 (rm' := rmX5_reached) ⟨Nat.le_of_ble_eq_true rfl, Nat.le_of_ble_eq_true rfl⟩ ⟨show cb + 0 + 0 ≤ 603072 by omega, show kb + 0 + 0 ≤ 7178346 by omega⟩ (As := [aI s2]) (rest := [aI s0]) rfl rfl (Nat.le_of_ble_eq_true rfl) hk (fun a292 hk => m_X5_reached F.ok a292 s2 h _ hk)) ⟨rfl, rfl⟩ fun x291 h290 hk =>
g_icmp_eq F dL_law_1647 (tgt := 2370) rfl (fun hc => have hk := hk.1 hc
g_iinc (v := (l4 + (6:Int32))) F dL_law_2370 (j := 4) rfl (iinc_6 l4) (Nat.le_of_ble_eq_true rfl) rfl <|
g_goto F dL_law_2373 (tgt := 23) rfl <|
G.fewer [1, 2, 3, 4, 0] rfl <| G.widen (show cb + 0 ≤ cb + 9000 by omega) (show kb + 0 ≤ kb + 100000 by omega) <| hK23 l0 l1 l2 l3 (l4 + (6:Int32)) h290 hk) (fun hc => have hk := hk.2 hc
G.fewer [] rfl <| G.widen (show cb + 0 ≤ ce by omega) (show kb + 0 ≤ ke by omega) <| hK1650 h290 hk)
theorem s_L_law_j1626 {x : Cx} (F : Fx x cL_law "LockstepRoomLaw" 9 (some .boolean) rmL_law) {Q : Int32 → hH → Prop} (hL : lawX x Q) {K23 : Option Nat → Option Nat → Option Nat → Option Nat → Int32 → hH → Prop} {K1650 : hH → Prop} {cb kb ce ke : Nat} (hM : cb + 9000 ≤ ce) (hM2 : ce ≤ 603072) (hS : kb + 100000 ≤ ke) (hS2 : ke ≤ 7178346) (s0 : Option Nat) (s1 : Int32) (l0 : Option Nat) (l1 : Option Nat) (l2 : Option Nat) (l3 : Option Nat) (l4 : Int32) (h : hH) (hk : f_L_law_j1626 x.S.E Q K23 K1650 s0 s1 l0 l1 l2 l3 l4 h) (hK23 : ∀ (l0 : Option Nat) (l1 : Option Nat) (l2 : Option Nat) (l3 : Option Nat) (l4 : Int32) (h : hH), K23 l0 l1 l2 l3 l4 h → G x (lw_Z x.below x.args x.s) 23 [(0, aR l0), (1, aR l1), (2, aR l2), (3, aR l3), (4, aI l4)] [] h (cb + 9000) (kb + 100000)) (hK1650 : ∀ (h : hH), K1650 h → G x (lw_Z x.below x.args x.s) 1650 [] [] h ce ke) : G x (lw_Z x.below x.args x.s) 1626 [(0, aR l0), (1, aR l1), (2, aR l2), (3, aR l3), (4, aI l4)] [aI s1, aR s0] h (cb + 0) (kb + 0) := by
  unfold f_L_law_j1626 at hk
  exact g_calli0 (g_V F dL_law_1626 q1960 mi_X1_reached ct_X1 (rm' := rmX1_reached) ⟨Nat.le_of_ble_eq_true rfl, Nat.le_of_ble_eq_true rfl⟩ ⟨show cb + 0 + 0 ≤ 603072 by omega, show kb + 0 + 0 ≤ 7178346 by omega⟩ (As := [aI s1]) (rest := []) rfl rfl (Nat.le_of_ble_eq_true rfl) hk (fun a295 hk => m_X1_reached F.ok a295 s1 h _ hk)) ⟨rfl, rfl⟩ fun x294 h293 hk =>
g_aload_n F dL_law_1629 rfl 2 rfl <|
g_aload_n F dL_law_1630 rfl 0 rfl <|
g_iload F dL_law_1631 4 rfl <|
g_iconst F dL_law_1633 ic_1 <|
g_iadd F dL_law_1634 <|
g_ialdo F dL_law_1635 hk fun x296 hk =>
g_if_eq F dL_law_1636 (tgt := 1643) rfl (fun hc => have hk := hk.1 hc
g_iconst F dL_law_1643 ic_0 <|
s_L_law_j1644 F hL hM hM2 hS hS2 x294 l2 (0:Int32) l0 l1 l2 l3 l4 h293 hk hK23 hK1650) (fun hc => have hk := hk.2 hc
g_iconst F dL_law_1639 ic_1 <|
g_goto F dL_law_1640 (tgt := 1644) rfl <|
s_L_law_j1644 F hL hM hM2 hS hS2 x294 l2 (1:Int32) l0 l1 l2 l3 l4 h293 hk hK23 hK1650)
theorem s_L_law_j1611 {x : Cx} (F : Fx x cL_law "LockstepRoomLaw" 9 (some .boolean) rmL_law) {Q : Int32 → hH → Prop} (hL : lawX x Q) {K23 : Option Nat → Option Nat → Option Nat → Option Nat → Int32 → hH → Prop} {K1650 : hH → Prop} {cb kb ce ke : Nat} (hM : cb + 9000 ≤ ce) (hM2 : ce ≤ 603072) (hS : kb + 100000 ≤ ke) (hS2 : ke ≤ 7178346) (l0 : Option Nat) (l1 : Option Nat) (l2 : Option Nat) (l3 : Option Nat) (l4 : Int32) (h : hH) (hk : f_L_law_j1611 x.S.E Q K23 K1650 l0 l1 l2 l3 l4 h) (hK23 : ∀ (l0 : Option Nat) (l1 : Option Nat) (l2 : Option Nat) (l3 : Option Nat) (l4 : Int32) (h : hH), K23 l0 l1 l2 l3 l4 h → G x (lw_Z x.below x.args x.s) 23 [(0, aR l0), (1, aR l1), (2, aR l2), (3, aR l3), (4, aI l4)] [] h (cb + 9000) (kb + 100000)) (hK1650 : ∀ (h : hH), K1650 h → G x (lw_Z x.below x.args x.s) 1650 [] [] h ce ke) : G x (lw_Z x.below x.args x.s) 1611 [(0, aR l0), (1, aR l1), (2, aR l2), (3, aR l3), (4, aI l4)] [] h (cb + 0) (kb + 0) := by
  unfold f_L_law_j1611 at hk
  exact g_aload_n F dL_law_1611 rfl 1 rfl <|
g_aload_n F dL_law_1612 rfl 0 rfl <|
g_iload F dL_law_1613 4 rfl <|
g_iconst F dL_law_1615 ic_1 <|
g_iadd F dL_law_1616 <|
g_ialdo F dL_law_1617 hk fun x297 hk =>
g_if_eq F dL_law_1618 (tgt := 1625) rfl (fun hc => have hk := hk.1 hc
g_iconst F dL_law_1625 ic_0 <|
s_L_law_j1626 F hL hM hM2 hS hS2 l1 (0:Int32) l0 l1 l2 l3 l4 h hk hK23 hK1650) (fun hc => have hk := hk.2 hc
g_iconst F dL_law_1621 ic_1 <|
g_goto F dL_law_1622 (tgt := 1626) rfl <|
s_L_law_j1626 F hL hM hM2 hS hS2 l1 (1:Int32) l0 l1 l2 l3 l4 h hk hK23 hK1650)
theorem s_L_law_j1705 {x : Cx} (F : Fx x cL_law "LockstepRoomLaw" 9 (some .boolean) rmL_law) {Q : Int32 → hH → Prop} (hL : lawX x Q) {K23 : Option Nat → Option Nat → Option Nat → Option Nat → Int32 → hH → Prop} {cb kb ce ke : Nat} (hM : cb + 9000 ≤ ce) (hM2 : ce ≤ 603072) (hS : kb + 100000 ≤ ke) (hS2 : ke ≤ 7178346) (l0 : Option Nat) (l1 : Option Nat) (l2 : Option Nat) (l3 : Option Nat) (l4 : Int32) (h : hH) (hk : f_L_law_j1705 x.S.E Q K23 l0 l1 l2 l3 l4 h) (hK23 : ∀ (l0 : Option Nat) (l1 : Option Nat) (l2 : Option Nat) (l3 : Option Nat) (l4 : Int32) (h : hH), K23 l0 l1 l2 l3 l4 h → G x (lw_Z x.below x.args x.s) 23 [(0, aR l0), (1, aR l1), (2, aR l2), (3, aR l3), (4, aI l4)] [] h (cb + 9000) (kb + 100000)) : G x (lw_Z x.below x.args x.s) 1705 [(0, aR l0), (1, aR l1), (2, aR l2), (3, aR l3), (4, aI l4)] [] h (cb + 1) (kb + 6) := by
  unfold f_L_law_j1705 at hk
  exact g_goto F dL_law_1705 (tgt := 2370) rfl <|
g_iinc (v := (l4 + (6:Int32))) F dL_law_2370 (j := 4) rfl (iinc_6 l4) (Nat.le_of_ble_eq_true rfl) rfl <|
g_goto F dL_law_2373 (tgt := 23) rfl <|
G.fewer [1, 2, 3, 4, 0] rfl <| G.widen (show cb + 1 ≤ cb + 9000 by omega) (show kb + 6 ≤ kb + 100000 by omega) <| hK23 l0 l1 l2 l3 (l4 + (6:Int32)) h hk
theorem s_L_law_j1652 {x : Cx} (F : Fx x cL_law "LockstepRoomLaw" 9 (some .boolean) rmL_law) {Q : Int32 → hH → Prop} (hL : lawX x Q) {K23 : Option Nat → Option Nat → Option Nat → Option Nat → Int32 → hH → Prop} {K1686 : hH → Prop} {K1703 : hH → Prop} {cb kb ce ke : Nat} (hM : cb + 9000 ≤ ce) (hM2 : ce ≤ 603072) (hS : kb + 100000 ≤ ke) (hS2 : ke ≤ 7178346) (l0 : Option Nat) (l1 : Option Nat) (l2 : Option Nat) (l3 : Option Nat) (l4 : Int32) (h : hH) (hk : f_L_law_j1652 x.S.E Q K23 K1686 K1703 l0 l1 l2 l3 l4 h) (hK23 : ∀ (l0 : Option Nat) (l1 : Option Nat) (l2 : Option Nat) (l3 : Option Nat) (l4 : Int32) (h : hH), K23 l0 l1 l2 l3 l4 h → G x (lw_Z x.below x.args x.s) 23 [(0, aR l0), (1, aR l1), (2, aR l2), (3, aR l3), (4, aI l4)] [] h (cb + 9000) (kb + 100000)) (hK1686 : ∀ (h : hH), K1686 h → G x (lw_Z x.below x.args x.s) 1686 [] [] h ce ke) (hK1703 : ∀ (h : hH), K1703 h → G x (lw_Z x.below x.args x.s) 1703 [] [] h ce ke) : G x (lw_Z x.below x.args x.s) 1652 [(0, aR l0), (1, aR l1), (2, aR l2), (3, aR l3), (4, aI l4)] [] h (cb + 0) (kb + 0) := by
  unfold f_L_law_j1652 at hk
  exact g_aload_n F dL_law_1652 rfl 1 rfl <|
g_aload_n F dL_law_1653 rfl 0 rfl <|
g_iload F dL_law_1654 4 rfl <|
g_iconst F dL_law_1656 ic_1 <|
g_iadd F dL_law_1657 <|
g_ialdo F dL_law_1658 hk fun x298 hk =>
g_aload_n F dL_law_1659 rfl 3 rfl <|
g_calli (g_SW F dL_law_1660 q2836 q2837 q110 q2838 mo_X0_mayRun (rm' := rmX0_mayRun) ⟨Nat.le_of_ble_eq_true rfl, Nat.le_of_ble_eq_true rfl⟩ ⟨show cb + 0 + 1 ≤ 603072 by omega, show kb + 0 + 6 ≤ 7178346 by omega⟩ (As := [aR l1, aI x298, aR l3]) (rest := []) rfl rfl (Nat.le_of_ble_eq_true rfl) (m_X0_mayRun F.ok l1 x298 l3 h _ hk)) fun x300 h299 hk =>
g_istore F dL_law_1663 (Nat.le_of_ble_eq_true rfl) rfl <|
g_aload_n F dL_law_1665 rfl 3 rfl <|
g_aload_n F dL_law_1666 rfl 1 rfl <|
g_iload F dL_law_1667 5 rfl <|
g_iconst F dL_law_1669 ic_1 <|
g_iadd F dL_law_1670 <|
g_ialdo F dL_law_1671 hk fun x301 hk =>
g_calli0 (g_V F dL_law_1672 q3430 mi_X5_mayRun ct_X5 (rm' := rmX5_mayRun) ⟨Nat.le_of_ble_eq_true rfl, Nat.le_of_ble_eq_true rfl⟩ ⟨show cb + 0 + 1 + 0 ≤ 603072 by omega, show kb + 0 + 6 + 0 ≤ 7178346 by omega⟩ (As := [aI x301]) (rest := []) rfl rfl (Nat.le_of_ble_eq_true rfl) hk (fun a304 hk => m_X5_mayRun F.ok a304 x301 h299 _ hk)) ⟨rfl, rfl⟩ fun x303 h302 hk =>
g_istore F dL_law_1675 (Nat.le_of_ble_eq_true rfl) rfl <|
g_aload_n F dL_law_1677 rfl 4 rfl <|
g_calli0 (g_V F dL_law_1678 q3085 mi_X5_thrown ct_X5 (rm' := rmX5_thrown) ⟨Nat.le_of_ble_eq_true rfl, Nat.le_of_ble_eq_true rfl⟩ ⟨show cb + 0 + 1 + 0 ≤ 603072 by omega, show kb + 0 + 6 + 0 ≤ 7178346 by omega⟩ (As := []) (rest := []) rfl rfl (Nat.le_of_ble_eq_true rfl) hk (fun a307 hk => m_X5_thrown F.ok a307 h302 _ hk)) ⟨rfl, rfl⟩ fun x306 h305 hk =>
g_iload F dL_law_1681 1 rfl <|
g_icmp_eq F dL_law_1683 (tgt := 1688) rfl (fun hc => have hk := hk.1 hc
g_iload F dL_law_1688 1 rfl <|
g_if_ne F dL_law_1690 (tgt := 1705) rfl (fun hc => have hk := hk.2 hc
G.fewer [2, 3, 4, 5, 6] rfl <| G.widen (show cb + 0 + 1 ≤ cb + 1 by omega) (show kb + 0 + 6 ≤ kb + 6 by omega) <| s_L_law_j1705 F hL hM hM2 hS hS2 l0 l1 l2 l3 l4 h305 hk hK23) (fun hc => have hk := hk.1 hc
g_aload_n F dL_law_1693 rfl 5 rfl <|
g_iconst F dL_law_1694 ic_0 <|
g_lald F dL_law_1695 hk fun x308 hk =>
g_iload F dL_law_1696 0 rfl <|
g_i2l F dL_law_1698 <|
g_lcmp F dL_law_1699 <|
g_if_eq F dL_law_1700 (tgt := 1705) rfl (fun hc => have hk := hk.1 hc
G.fewer [2, 3, 4, 5, 6] rfl <| G.widen (show cb + 0 + 1 ≤ cb + 1 by omega) (show kb + 0 + 6 ≤ kb + 6 by omega) <| s_L_law_j1705 F hL hM hM2 hS hS2 l0 l1 l2 l3 l4 h305 hk hK23) (fun hc => have hk := hk.2 hc
G.fewer [] rfl <| G.widen (show cb + 0 + 1 ≤ ce by omega) (show kb + 0 + 6 ≤ ke by omega) <| hK1703 h305 hk))) (fun hc => have hk := hk.2 hc
G.fewer [] rfl <| G.widen (show cb + 0 + 1 ≤ ce by omega) (show kb + 0 + 6 ≤ ke by omega) <| hK1686 h305 hk)
theorem s_L_law_j1746 {x : Cx} (F : Fx x cL_law "LockstepRoomLaw" 9 (some .boolean) rmL_law) {Q : Int32 → hH → Prop} (hL : lawX x Q) {K23 : Option Nat → Option Nat → Option Nat → Option Nat → Int32 → hH → Prop} {cb kb ce ke : Nat} (hM : cb + 9000 ≤ ce) (hM2 : ce ≤ 603072) (hS : kb + 100000 ≤ ke) (hS2 : ke ≤ 7178346) (l0 : Option Nat) (l1 : Option Nat) (l2 : Option Nat) (l3 : Option Nat) (l4 : Int32) (h : hH) (hk : f_L_law_j1746 x.S.E Q K23 l0 l1 l2 l3 l4 h) (hK23 : ∀ (l0 : Option Nat) (l1 : Option Nat) (l2 : Option Nat) (l3 : Option Nat) (l4 : Int32) (h : hH), K23 l0 l1 l2 l3 l4 h → G x (lw_Z x.below x.args x.s) 23 [(0, aR l0), (1, aR l1), (2, aR l2), (3, aR l3), (4, aI l4)] [] h (cb + 9000) (kb + 100000)) : G x (lw_Z x.below x.args x.s) 1746 [(0, aR l0), (1, aR l1), (2, aR l2), (3, aR l3), (4, aI l4)] [] h (cb + 0) (kb + 0) := by
  unfold f_L_law_j1746 at hk
  exact g_goto F dL_law_1746 (tgt := 2370) rfl <|
g_iinc (v := (l4 + (6:Int32))) F dL_law_2370 (j := 4) rfl (iinc_6 l4) (Nat.le_of_ble_eq_true rfl) rfl <|
g_goto F dL_law_2373 (tgt := 23) rfl <|
G.fewer [1, 2, 3, 4, 0] rfl <| G.widen (show cb + 0 ≤ cb + 9000 by omega) (show kb + 0 ≤ kb + 100000 by omega) <| hK23 l0 l1 l2 l3 (l4 + (6:Int32)) h hk
theorem s_L_law_j1708 {x : Cx} (F : Fx x cL_law "LockstepRoomLaw" 9 (some .boolean) rmL_law) {Q : Int32 → hH → Prop} (hL : lawX x Q) {K23 : Option Nat → Option Nat → Option Nat → Option Nat → Int32 → hH → Prop} {K1744 : hH → Prop} {cb kb ce ke : Nat} (hM : cb + 9000 ≤ ce) (hM2 : ce ≤ 603072) (hS : kb + 100000 ≤ ke) (hS2 : ke ≤ 7178346) (l0 : Option Nat) (l1 : Option Nat) (l2 : Option Nat) (l3 : Option Nat) (l4 : Int32) (h : hH) (hk : f_L_law_j1708 x.S.E Q K23 K1744 l0 l1 l2 l3 l4 h) (hK23 : ∀ (l0 : Option Nat) (l1 : Option Nat) (l2 : Option Nat) (l3 : Option Nat) (l4 : Int32) (h : hH), K23 l0 l1 l2 l3 l4 h → G x (lw_Z x.below x.args x.s) 23 [(0, aR l0), (1, aR l1), (2, aR l2), (3, aR l3), (4, aI l4)] [] h (cb + 9000) (kb + 100000)) (hK1744 : ∀ (h : hH), K1744 h → G x (lw_Z x.below x.args x.s) 1744 [] [] h ce ke) : G x (lw_Z x.below x.args x.s) 1708 [(0, aR l0), (1, aR l1), (2, aR l2), (3, aR l3), (4, aI l4)] [] h (cb + 0) (kb + 0) := by
  unfold f_L_law_j1708 at hk
  exact g_aload_n F dL_law_1708 rfl 1 rfl <|
g_calld0 (g_V F dL_law_1709 q1973 mi_X1_meanTurns ct_X1 (rm' := rmX1_meanTurns) ⟨Nat.le_of_ble_eq_true rfl, Nat.le_of_ble_eq_true rfl⟩ ⟨show cb + 0 + 0 ≤ 603072 by omega, show kb + 0 + 0 ≤ 7178346 by omega⟩ (As := []) (rest := []) rfl rfl (Nat.le_of_ble_eq_true rfl) hk (fun a311 hk => m_X1_meanTurns F.ok a311 h _ hk)) ⟨rfl, rfl⟩ fun x310 h309 hk =>
g_dstore F dL_law_1712 (Nat.le_of_ble_eq_true rfl) rfl <|
g_aload_n F dL_law_1714 rfl 3 rfl <|
g_calld0 (g_V F dL_law_1715 q3438 mi_X5_meanTurns ct_X5 (rm' := rmX5_meanTurns) ⟨Nat.le_of_ble_eq_true rfl, Nat.le_of_ble_eq_true rfl⟩ ⟨show cb + 0 + 0 ≤ 603072 by omega, show kb + 0 + 0 ≤ 7178346 by omega⟩ (As := []) (rest := []) rfl rfl (Nat.le_of_ble_eq_true rfl) hk (fun a314 hk => m_X5_meanTurns F.ok a314 h309 _ hk)) ⟨rfl, rfl⟩ fun x313 h312 hk =>
g_dstore F dL_law_1718 (Nat.le_of_ble_eq_true rfl) rfl <|
g_dload F dL_law_1720 1 rfl <|
g_dload F dL_law_1722 0 rfl <|
g_dcmp F dL_law_1724 <|
g_if_eq F dL_law_1725 (tgt := 1746) rfl (fun hc => have hk := hk.1 hc
G.fewer [2, 3, 4, 5, 6] rfl <| s_L_law_j1746 F hL hM hM2 hS hS2 l0 l1 l2 l3 l4 h312 hk hK23) (fun hc => have hk := hk.2 hc
g_dload F dL_law_1728 1 rfl <|
g_dload F dL_law_1730 1 rfl <|
g_dcmp F dL_law_1732 <|
g_if_eq F dL_law_1733 (tgt := 1744) rfl (fun hc => have hk := hk.1 hc
G.fewer [] rfl <| G.widen (show cb + 0 ≤ ce by omega) (show kb + 0 ≤ ke by omega) <| hK1744 h312 hk) (fun hc => have hk := hk.2 hc
g_dload F dL_law_1736 0 rfl <|
g_dload F dL_law_1738 0 rfl <|
g_dcmp F dL_law_1740 <|
g_if_ne F dL_law_1741 (tgt := 1746) rfl (fun hc => have hk := hk.2 hc
G.fewer [2, 3, 4, 5, 6] rfl <| s_L_law_j1746 F hL hM hM2 hS hS2 l0 l1 l2 l3 l4 h312 hk hK23) (fun hc => have hk := hk.1 hc
G.fewer [] rfl <| G.widen (show cb + 0 ≤ ce by omega) (show kb + 0 ≤ ke by omega) <| hK1744 h312 hk)))
theorem s_L_law_j1814 {x : Cx} (F : Fx x cL_law "LockstepRoomLaw" 9 (some .boolean) rmL_law) {Q : Int32 → hH → Prop} (hL : lawX x Q) {K23 : Option Nat → Option Nat → Option Nat → Option Nat → Int32 → hH → Prop} {cb kb ce ke : Nat} (hM : cb + 9000 ≤ ce) (hM2 : ce ≤ 603072) (hS : kb + 100000 ≤ ke) (hS2 : ke ≤ 7178346) (l0 : Option Nat) (l1 : Option Nat) (l2 : Option Nat) (l3 : Option Nat) (l4 : Int32) (h : hH) (hk : f_L_law_j1814 x.S.E Q K23 l0 l1 l2 l3 l4 h) (hK23 : ∀ (l0 : Option Nat) (l1 : Option Nat) (l2 : Option Nat) (l3 : Option Nat) (l4 : Int32) (h : hH), K23 l0 l1 l2 l3 l4 h → G x (lw_Z x.below x.args x.s) 23 [(0, aR l0), (1, aR l1), (2, aR l2), (3, aR l3), (4, aI l4)] [] h (cb + 9000) (kb + 100000)) : G x (lw_Z x.below x.args x.s) 1814 [(0, aR l0), (1, aR l1), (2, aR l2), (3, aR l3), (4, aI l4)] [] h (cb + 2) (kb + 22) := by
  unfold f_L_law_j1814 at hk
  exact g_goto F dL_law_1814 (tgt := 2370) rfl <|
g_iinc (v := (l4 + (6:Int32))) F dL_law_2370 (j := 4) rfl (iinc_6 l4) (Nat.le_of_ble_eq_true rfl) rfl <|
g_goto F dL_law_2373 (tgt := 23) rfl <|
G.fewer [1, 2, 3, 4, 0] rfl <| G.widen (show cb + 2 ≤ cb + 9000 by omega) (show kb + 22 ≤ kb + 100000 by omega) <| hK23 l0 l1 l2 l3 (l4 + (6:Int32)) h hk
theorem s_L_law_j1749 {x : Cx} (F : Fx x cL_law "LockstepRoomLaw" 9 (some .boolean) rmL_law) {Q : Int32 → hH → Prop} (hL : lawX x Q) {K23 : Option Nat → Option Nat → Option Nat → Option Nat → Int32 → hH → Prop} {K1795 : hH → Prop} {K1812 : hH → Prop} {cb kb ce ke : Nat} (hM : cb + 9000 ≤ ce) (hM2 : ce ≤ 603072) (hS : kb + 100000 ≤ ke) (hS2 : ke ≤ 7178346) (l0 : Option Nat) (l1 : Option Nat) (l2 : Option Nat) (l3 : Option Nat) (l4 : Int32) (h : hH) (hk : f_L_law_j1749 x.S.E Q K23 K1795 K1812 l0 l1 l2 l3 l4 h) (hK23 : ∀ (l0 : Option Nat) (l1 : Option Nat) (l2 : Option Nat) (l3 : Option Nat) (l4 : Int32) (h : hH), K23 l0 l1 l2 l3 l4 h → G x (lw_Z x.below x.args x.s) 23 [(0, aR l0), (1, aR l1), (2, aR l2), (3, aR l3), (4, aI l4)] [] h (cb + 9000) (kb + 100000)) (hK1795 : ∀ (h : hH), K1795 h → G x (lw_Z x.below x.args x.s) 1795 [] [] h ce ke) (hK1812 : ∀ (h : hH), K1812 h → G x (lw_Z x.below x.args x.s) 1812 [] [] h ce ke) : G x (lw_Z x.below x.args x.s) 1749 [(0, aR l0), (1, aR l1), (2, aR l2), (3, aR l3), (4, aI l4)] [] h (cb + 0) (kb + 0) := by
  unfold f_L_law_j1749 at hk
  exact g_aload_n F dL_law_1749 rfl 1 rfl <|
g_aload_n F dL_law_1750 rfl 0 rfl <|
g_iload F dL_law_1751 4 rfl <|
g_iconst F dL_law_1753 ic_1 <|
g_iadd F dL_law_1754 <|
g_ialdo F dL_law_1755 hk fun x315 hk =>
g_aload_n F dL_law_1756 rfl 0 rfl <|
g_iload F dL_law_1757 4 rfl <|
g_iconst F dL_law_1759 ic_2 <|
g_iadd F dL_law_1760 <|
g_ialdo F dL_law_1761 hk fun x316 hk =>
g_aload_n F dL_law_1762 rfl 3 rfl <|
g_calli (g_SW F dL_law_1763 q2843 q2844 q110 q2845 mo_X0_truth (rm' := rmX0_truth) ⟨Nat.le_of_ble_eq_true rfl, Nat.le_of_ble_eq_true rfl⟩ ⟨show cb + 0 + 2 ≤ 603072 by omega, show kb + 0 + 22 ≤ 7178346 by omega⟩ (As := [aR l1, aI x315, aI x316, aR l3]) (rest := []) rfl rfl (Nat.le_of_ble_eq_true rfl) (m_X0_truth F.ok l1 x315 x316 l3 h _ hk)) fun x318 h317 hk =>
g_istore F dL_law_1766 (Nat.le_of_ble_eq_true rfl) rfl <|
g_aload_n F dL_law_1768 rfl 3 rfl <|
g_aload_n F dL_law_1769 rfl 1 rfl <|
g_iload F dL_law_1770 5 rfl <|
g_iconst F dL_law_1772 ic_1 <|
g_iadd F dL_law_1773 <|
g_ialdo F dL_law_1774 hk fun x319 hk =>
g_aload_n F dL_law_1775 rfl 1 rfl <|
g_iload F dL_law_1776 5 rfl <|
g_iconst F dL_law_1778 ic_2 <|
g_iadd F dL_law_1779 <|
g_ialdo F dL_law_1780 hk fun x320 hk =>
g_calli0 (g_V F dL_law_1781 q3442 mi_X5_truth ct_X5 (rm' := rmX5_truth) ⟨Nat.le_of_ble_eq_true rfl, Nat.le_of_ble_eq_true rfl⟩ ⟨show cb + 0 + 2 + 0 ≤ 603072 by omega, show kb + 0 + 22 + 0 ≤ 7178346 by omega⟩ (As := [aI x319, aI x320]) (rest := []) rfl rfl (Nat.le_of_ble_eq_true rfl) hk (fun a323 hk => m_X5_truth F.ok a323 x319 x320 h317 _ hk)) ⟨rfl, rfl⟩ fun x322 h321 hk =>
g_istore F dL_law_1784 (Nat.le_of_ble_eq_true rfl) rfl <|
g_aload_n F dL_law_1786 rfl 4 rfl <|
g_calli0 (g_V F dL_law_1787 q3085 mi_X5_thrown ct_X5 (rm' := rmX5_thrown) ⟨Nat.le_of_ble_eq_true rfl, Nat.le_of_ble_eq_true rfl⟩ ⟨show cb + 0 + 2 + 0 ≤ 603072 by omega, show kb + 0 + 22 + 0 ≤ 7178346 by omega⟩ (As := []) (rest := []) rfl rfl (Nat.le_of_ble_eq_true rfl) hk (fun a326 hk => m_X5_thrown F.ok a326 h321 _ hk)) ⟨rfl, rfl⟩ fun x325 h324 hk =>
g_iload F dL_law_1790 1 rfl <|
g_icmp_eq F dL_law_1792 (tgt := 1797) rfl (fun hc => have hk := hk.1 hc
g_iload F dL_law_1797 1 rfl <|
g_if_ne F dL_law_1799 (tgt := 1814) rfl (fun hc => have hk := hk.2 hc
G.fewer [2, 3, 4, 5, 6] rfl <| G.widen (show cb + 0 + 2 ≤ cb + 2 by omega) (show kb + 0 + 22 ≤ kb + 22 by omega) <| s_L_law_j1814 F hL hM hM2 hS hS2 l0 l1 l2 l3 l4 h324 hk hK23) (fun hc => have hk := hk.1 hc
g_aload_n F dL_law_1802 rfl 5 rfl <|
g_iconst F dL_law_1803 ic_0 <|
g_lald F dL_law_1804 hk fun x327 hk =>
g_iload F dL_law_1805 0 rfl <|
g_i2l F dL_law_1807 <|
g_lcmp F dL_law_1808 <|
g_if_eq F dL_law_1809 (tgt := 1814) rfl (fun hc => have hk := hk.1 hc
G.fewer [2, 3, 4, 5, 6] rfl <| G.widen (show cb + 0 + 2 ≤ cb + 2 by omega) (show kb + 0 + 22 ≤ kb + 22 by omega) <| s_L_law_j1814 F hL hM hM2 hS hS2 l0 l1 l2 l3 l4 h324 hk hK23) (fun hc => have hk := hk.2 hc
G.fewer [] rfl <| G.widen (show cb + 0 + 2 ≤ ce by omega) (show kb + 0 + 22 ≤ ke by omega) <| hK1812 h324 hk))) (fun hc => have hk := hk.2 hc
G.fewer [] rfl <| G.widen (show cb + 0 + 2 ≤ ce by omega) (show kb + 0 + 22 ≤ ke by omega) <| hK1795 h324 hk)
theorem s_L_law_j1817 {x : Cx} (F : Fx x cL_law "LockstepRoomLaw" 9 (some .boolean) rmL_law) {Q : Int32 → hH → Prop} (hL : lawX x Q) {K23 : Option Nat → Option Nat → Option Nat → Option Nat → Int32 → hH → Prop} {K1828 : hH → Prop} {cb kb ce ke : Nat} (hM : cb + 9000 ≤ ce) (hM2 : ce ≤ 603072) (hS : kb + 100000 ≤ ke) (hS2 : ke ≤ 7178346) (l0 : Option Nat) (l1 : Option Nat) (l2 : Option Nat) (l3 : Option Nat) (l4 : Int32) (h : hH) (hk : f_L_law_j1817 x.S.E Q K23 K1828 l0 l1 l2 l3 l4 h) (hK23 : ∀ (l0 : Option Nat) (l1 : Option Nat) (l2 : Option Nat) (l3 : Option Nat) (l4 : Int32) (h : hH), K23 l0 l1 l2 l3 l4 h → G x (lw_Z x.below x.args x.s) 23 [(0, aR l0), (1, aR l1), (2, aR l2), (3, aR l3), (4, aI l4)] [] h (cb + 9000) (kb + 100000)) (hK1828 : ∀ (h : hH), K1828 h → G x (lw_Z x.below x.args x.s) 1828 [] [] h ce ke) : G x (lw_Z x.below x.args x.s) 1817 [(0, aR l0), (1, aR l1), (2, aR l2), (3, aR l3), (4, aI l4)] [] h (cb + 0) (kb + 0) := by
  unfold f_L_law_j1817 at hk
  exact g_aload_n F dL_law_1817 rfl 1 rfl <|
g_calli (g_V F dL_law_1818 q1981 mi_X1_trueMembers ct_X1 (rm' := rmX1_trueMembers) ⟨Nat.le_of_ble_eq_true rfl, Nat.le_of_ble_eq_true rfl⟩ ⟨show cb + 0 + 7 ≤ 603072 by omega, show kb + 0 + 112 ≤ 7178346 by omega⟩ (As := []) (rest := []) rfl rfl (Nat.le_of_ble_eq_true rfl) hk (fun a330 hk => m_X1_trueMembers F.ok a330 h _ hk)) fun x329 h328 hk =>
g_aload_n F dL_law_1821 rfl 2 rfl <|
g_calli0 (g_V F dL_law_1822 q3462 mi_X5_trueMembers ct_X5 (rm' := rmX5_trueMembers) ⟨Nat.le_of_ble_eq_true rfl, Nat.le_of_ble_eq_true rfl⟩ ⟨show cb + 0 + 7 + 0 ≤ 603072 by omega, show kb + 0 + 112 + 0 ≤ 7178346 by omega⟩ (As := []) (rest := [aI x329]) rfl rfl (Nat.le_of_ble_eq_true rfl) hk (fun a333 hk => m_X5_trueMembers F.ok a333 h328 _ hk)) ⟨rfl, rfl⟩ fun x332 h331 hk =>
g_icmp_eq F dL_law_1825 (tgt := 2370) rfl (fun hc => have hk := hk.1 hc
g_iinc (v := (l4 + (6:Int32))) F dL_law_2370 (j := 4) rfl (iinc_6 l4) (Nat.le_of_ble_eq_true rfl) rfl <|
g_goto F dL_law_2373 (tgt := 23) rfl <|
G.fewer [1, 2, 3, 4, 0] rfl <| G.widen (show cb + 0 + 7 ≤ cb + 9000 by omega) (show kb + 0 + 112 ≤ kb + 100000 by omega) <| hK23 l0 l1 l2 l3 (l4 + (6:Int32)) h331 hk) (fun hc => have hk := hk.2 hc
G.fewer [] rfl <| G.widen (show cb + 0 + 7 ≤ ce by omega) (show kb + 0 + 112 ≤ ke by omega) <| hK1828 h331 hk)
theorem s_L_law_j1895 {x : Cx} (F : Fx x cL_law "LockstepRoomLaw" 9 (some .boolean) rmL_law) {Q : Int32 → hH → Prop} (hL : lawX x Q) {K23 : Option Nat → Option Nat → Option Nat → Option Nat → Int32 → hH → Prop} {cb kb ce ke : Nat} (hM : cb + 9000 ≤ ce) (hM2 : ce ≤ 603072) (hS : kb + 100000 ≤ ke) (hS2 : ke ≤ 7178346) (l0 : Option Nat) (l1 : Option Nat) (l2 : Option Nat) (l3 : Option Nat) (l4 : Int32) (h : hH) (hk : f_L_law_j1895 x.S.E Q K23 l0 l1 l2 l3 l4 h) (hK23 : ∀ (l0 : Option Nat) (l1 : Option Nat) (l2 : Option Nat) (l3 : Option Nat) (l4 : Int32) (h : hH), K23 l0 l1 l2 l3 l4 h → G x (lw_Z x.below x.args x.s) 23 [(0, aR l0), (1, aR l1), (2, aR l2), (3, aR l3), (4, aI l4)] [] h (cb + 9000) (kb + 100000)) : G x (lw_Z x.below x.args x.s) 1895 [(0, aR l0), (1, aR l1), (2, aR l2), (3, aR l3), (4, aI l4)] [] h (cb + 3) (kb + 28) := by
  unfold f_L_law_j1895 at hk
  exact g_goto F dL_law_1895 (tgt := 2370) rfl <|
g_iinc (v := (l4 + (6:Int32))) F dL_law_2370 (j := 4) rfl (iinc_6 l4) (Nat.le_of_ble_eq_true rfl) rfl <|
g_goto F dL_law_2373 (tgt := 23) rfl <|
G.fewer [1, 2, 3, 4, 0] rfl <| G.widen (show cb + 3 ≤ cb + 9000 by omega) (show kb + 28 ≤ kb + 100000 by omega) <| hK23 l0 l1 l2 l3 (l4 + (6:Int32)) h hk
theorem s_L_law_j1830 {x : Cx} (F : Fx x cL_law "LockstepRoomLaw" 9 (some .boolean) rmL_law) {Q : Int32 → hH → Prop} (hL : lawX x Q) {K23 : Option Nat → Option Nat → Option Nat → Option Nat → Int32 → hH → Prop} {K1876 : hH → Prop} {K1893 : hH → Prop} {cb kb ce ke : Nat} (hM : cb + 9000 ≤ ce) (hM2 : ce ≤ 603072) (hS : kb + 100000 ≤ ke) (hS2 : ke ≤ 7178346) (l0 : Option Nat) (l1 : Option Nat) (l2 : Option Nat) (l3 : Option Nat) (l4 : Int32) (h : hH) (hk : f_L_law_j1830 x.S.E Q K23 K1876 K1893 l0 l1 l2 l3 l4 h) (hK23 : ∀ (l0 : Option Nat) (l1 : Option Nat) (l2 : Option Nat) (l3 : Option Nat) (l4 : Int32) (h : hH), K23 l0 l1 l2 l3 l4 h → G x (lw_Z x.below x.args x.s) 23 [(0, aR l0), (1, aR l1), (2, aR l2), (3, aR l3), (4, aI l4)] [] h (cb + 9000) (kb + 100000)) (hK1876 : ∀ (h : hH), K1876 h → G x (lw_Z x.below x.args x.s) 1876 [] [] h ce ke) (hK1893 : ∀ (h : hH), K1893 h → G x (lw_Z x.below x.args x.s) 1893 [] [] h ce ke) : G x (lw_Z x.below x.args x.s) 1830 [(0, aR l0), (1, aR l1), (2, aR l2), (3, aR l3), (4, aI l4)] [] h (cb + 0) (kb + 0) := by
  unfold f_L_law_j1830 at hk
  exact g_aload_n F dL_law_1830 rfl 1 rfl <|
g_aload_n F dL_law_1831 rfl 0 rfl <|
g_iload F dL_law_1832 4 rfl <|
g_iconst F dL_law_1834 ic_1 <|
g_iadd F dL_law_1835 <|
g_ialdo F dL_law_1836 hk fun x334 hk =>
g_aload_n F dL_law_1837 rfl 0 rfl <|
g_iload F dL_law_1838 4 rfl <|
g_iconst F dL_law_1840 ic_2 <|
g_iadd F dL_law_1841 <|
g_ialdo F dL_law_1842 hk fun x335 hk =>
g_aload_n F dL_law_1843 rfl 3 rfl <|
g_calli (g_SW F dL_law_1844 q2850 q2851 q110 q2852 mo_X0_foreseen (rm' := rmX0_foreseen) ⟨Nat.le_of_ble_eq_true rfl, Nat.le_of_ble_eq_true rfl⟩ ⟨show cb + 0 + 3 ≤ 603072 by omega, show kb + 0 + 28 ≤ 7178346 by omega⟩ (As := [aR l1, aI x334, aI x335, aR l3]) (rest := []) rfl rfl (Nat.le_of_ble_eq_true rfl) (m_X0_foreseen F.ok l1 x334 x335 l3 h _ hk)) fun x337 h336 hk =>
g_istore F dL_law_1847 (Nat.le_of_ble_eq_true rfl) rfl <|
g_aload_n F dL_law_1849 rfl 3 rfl <|
g_aload_n F dL_law_1850 rfl 1 rfl <|
g_iload F dL_law_1851 5 rfl <|
g_iconst F dL_law_1853 ic_1 <|
g_iadd F dL_law_1854 <|
g_ialdo F dL_law_1855 hk fun x338 hk =>
g_aload_n F dL_law_1856 rfl 1 rfl <|
g_iload F dL_law_1857 5 rfl <|
g_iconst F dL_law_1859 ic_2 <|
g_iadd F dL_law_1860 <|
g_ialdo F dL_law_1861 hk fun x339 hk =>
g_calli0 (g_V F dL_law_1862 q3466 mi_X5_foreseen ct_X5 (rm' := rmX5_foreseen) ⟨Nat.le_of_ble_eq_true rfl, Nat.le_of_ble_eq_true rfl⟩ ⟨show cb + 0 + 3 + 0 ≤ 603072 by omega, show kb + 0 + 28 + 0 ≤ 7178346 by omega⟩ (As := [aI x338, aI x339]) (rest := []) rfl rfl (Nat.le_of_ble_eq_true rfl) hk (fun a342 hk => m_X5_foreseen F.ok a342 x338 x339 h336 _ hk)) ⟨rfl, rfl⟩ fun x341 h340 hk =>
g_istore F dL_law_1865 (Nat.le_of_ble_eq_true rfl) rfl <|
g_aload_n F dL_law_1867 rfl 4 rfl <|
g_calli0 (g_V F dL_law_1868 q3085 mi_X5_thrown ct_X5 (rm' := rmX5_thrown) ⟨Nat.le_of_ble_eq_true rfl, Nat.le_of_ble_eq_true rfl⟩ ⟨show cb + 0 + 3 + 0 ≤ 603072 by omega, show kb + 0 + 28 + 0 ≤ 7178346 by omega⟩ (As := []) (rest := []) rfl rfl (Nat.le_of_ble_eq_true rfl) hk (fun a345 hk => m_X5_thrown F.ok a345 h340 _ hk)) ⟨rfl, rfl⟩ fun x344 h343 hk =>
g_iload F dL_law_1871 1 rfl <|
g_icmp_eq F dL_law_1873 (tgt := 1878) rfl (fun hc => have hk := hk.1 hc
g_iload F dL_law_1878 1 rfl <|
g_if_ne F dL_law_1880 (tgt := 1895) rfl (fun hc => have hk := hk.2 hc
G.fewer [2, 3, 4, 5, 6] rfl <| G.widen (show cb + 0 + 3 ≤ cb + 3 by omega) (show kb + 0 + 28 ≤ kb + 28 by omega) <| s_L_law_j1895 F hL hM hM2 hS hS2 l0 l1 l2 l3 l4 h343 hk hK23) (fun hc => have hk := hk.1 hc
g_aload_n F dL_law_1883 rfl 5 rfl <|
g_iconst F dL_law_1884 ic_0 <|
g_lald F dL_law_1885 hk fun x346 hk =>
g_iload F dL_law_1886 0 rfl <|
g_i2l F dL_law_1888 <|
g_lcmp F dL_law_1889 <|
g_if_eq F dL_law_1890 (tgt := 1895) rfl (fun hc => have hk := hk.1 hc
G.fewer [2, 3, 4, 5, 6] rfl <| G.widen (show cb + 0 + 3 ≤ cb + 3 by omega) (show kb + 0 + 28 ≤ kb + 28 by omega) <| s_L_law_j1895 F hL hM hM2 hS hS2 l0 l1 l2 l3 l4 h343 hk hK23) (fun hc => have hk := hk.2 hc
G.fewer [] rfl <| G.widen (show cb + 0 + 3 ≤ ce by omega) (show kb + 0 + 28 ≤ ke by omega) <| hK1893 h343 hk))) (fun hc => have hk := hk.2 hc
G.fewer [] rfl <| G.widen (show cb + 0 + 3 ≤ ce by omega) (show kb + 0 + 28 ≤ ke by omega) <| hK1876 h343 hk)
theorem s_L_law_j1963 {x : Cx} (F : Fx x cL_law "LockstepRoomLaw" 9 (some .boolean) rmL_law) {Q : Int32 → hH → Prop} (hL : lawX x Q) {K23 : Option Nat → Option Nat → Option Nat → Option Nat → Int32 → hH → Prop} {cb kb ce ke : Nat} (hM : cb + 9000 ≤ ce) (hM2 : ce ≤ 603072) (hS : kb + 100000 ≤ ke) (hS2 : ke ≤ 7178346) (l0 : Option Nat) (l1 : Option Nat) (l2 : Option Nat) (l3 : Option Nat) (l4 : Int32) (h : hH) (hk : f_L_law_j1963 x.S.E Q K23 l0 l1 l2 l3 l4 h) (hK23 : ∀ (l0 : Option Nat) (l1 : Option Nat) (l2 : Option Nat) (l3 : Option Nat) (l4 : Int32) (h : hH), K23 l0 l1 l2 l3 l4 h → G x (lw_Z x.below x.args x.s) 23 [(0, aR l0), (1, aR l1), (2, aR l2), (3, aR l3), (4, aI l4)] [] h (cb + 9000) (kb + 100000)) : G x (lw_Z x.below x.args x.s) 1963 [(0, aR l0), (1, aR l1), (2, aR l2), (3, aR l3), (4, aI l4)] [] h (cb + 2) (kb + 12) := by
  unfold f_L_law_j1963 at hk
  exact g_goto F dL_law_1963 (tgt := 2370) rfl <|
g_iinc (v := (l4 + (6:Int32))) F dL_law_2370 (j := 4) rfl (iinc_6 l4) (Nat.le_of_ble_eq_true rfl) rfl <|
g_goto F dL_law_2373 (tgt := 23) rfl <|
G.fewer [1, 2, 3, 4, 0] rfl <| G.widen (show cb + 2 ≤ cb + 9000 by omega) (show kb + 12 ≤ kb + 100000 by omega) <| hK23 l0 l1 l2 l3 (l4 + (6:Int32)) h hk
theorem s_L_law_j1898 {x : Cx} (F : Fx x cL_law "LockstepRoomLaw" 9 (some .boolean) rmL_law) {Q : Int32 → hH → Prop} (hL : lawX x Q) {K23 : Option Nat → Option Nat → Option Nat → Option Nat → Int32 → hH → Prop} {K1944 : hH → Prop} {K1961 : hH → Prop} {cb kb ce ke : Nat} (hM : cb + 9000 ≤ ce) (hM2 : ce ≤ 603072) (hS : kb + 100000 ≤ ke) (hS2 : ke ≤ 7178346) (l0 : Option Nat) (l1 : Option Nat) (l2 : Option Nat) (l3 : Option Nat) (l4 : Int32) (h : hH) (hk : f_L_law_j1898 x.S.E Q K23 K1944 K1961 l0 l1 l2 l3 l4 h) (hK23 : ∀ (l0 : Option Nat) (l1 : Option Nat) (l2 : Option Nat) (l3 : Option Nat) (l4 : Int32) (h : hH), K23 l0 l1 l2 l3 l4 h → G x (lw_Z x.below x.args x.s) 23 [(0, aR l0), (1, aR l1), (2, aR l2), (3, aR l3), (4, aI l4)] [] h (cb + 9000) (kb + 100000)) (hK1944 : ∀ (h : hH), K1944 h → G x (lw_Z x.below x.args x.s) 1944 [] [] h ce ke) (hK1961 : ∀ (h : hH), K1961 h → G x (lw_Z x.below x.args x.s) 1961 [] [] h ce ke) : G x (lw_Z x.below x.args x.s) 1898 [(0, aR l0), (1, aR l1), (2, aR l2), (3, aR l3), (4, aI l4)] [] h (cb + 0) (kb + 0) := by
  unfold f_L_law_j1898 at hk
  exact g_aload_n F dL_law_1898 rfl 1 rfl <|
g_aload_n F dL_law_1899 rfl 0 rfl <|
g_iload F dL_law_1900 4 rfl <|
g_iconst F dL_law_1902 ic_1 <|
g_iadd F dL_law_1903 <|
g_ialdo F dL_law_1904 hk fun x347 hk =>
g_aload_n F dL_law_1905 rfl 0 rfl <|
g_iload F dL_law_1906 4 rfl <|
g_iconst F dL_law_1908 ic_2 <|
g_iadd F dL_law_1909 <|
g_ialdo F dL_law_1910 hk fun x348 hk =>
g_aload_n F dL_law_1911 rfl 3 rfl <|
g_calli (g_SW F dL_law_1912 q2861 q2862 q110 q2863 mo_X0_lastWrite (rm' := rmX0_lastWrite) ⟨Nat.le_of_ble_eq_true rfl, Nat.le_of_ble_eq_true rfl⟩ ⟨show cb + 0 + 2 ≤ 603072 by omega, show kb + 0 + 12 ≤ 7178346 by omega⟩ (As := [aR l1, aI x347, aI x348, aR l3]) (rest := []) rfl rfl (Nat.le_of_ble_eq_true rfl) (m_X0_lastWrite F.ok l1 x347 x348 l3 h _ hk)) fun x350 h349 hk =>
g_istore F dL_law_1915 (Nat.le_of_ble_eq_true rfl) rfl <|
g_aload_n F dL_law_1917 rfl 3 rfl <|
g_aload_n F dL_law_1918 rfl 1 rfl <|
g_iload F dL_law_1919 5 rfl <|
g_iconst F dL_law_1921 ic_1 <|
g_iadd F dL_law_1922 <|
g_ialdo F dL_law_1923 hk fun x351 hk =>
g_aload_n F dL_law_1924 rfl 1 rfl <|
g_iload F dL_law_1925 5 rfl <|
g_iconst F dL_law_1927 ic_2 <|
g_iadd F dL_law_1928 <|
g_ialdo F dL_law_1929 hk fun x352 hk =>
g_calli0 (g_V F dL_law_1930 q3474 mi_X5_lastWrite ct_X5 (rm' := rmX5_lastWrite) ⟨Nat.le_of_ble_eq_true rfl, Nat.le_of_ble_eq_true rfl⟩ ⟨show cb + 0 + 2 + 0 ≤ 603072 by omega, show kb + 0 + 12 + 0 ≤ 7178346 by omega⟩ (As := [aI x351, aI x352]) (rest := []) rfl rfl (Nat.le_of_ble_eq_true rfl) hk (fun a355 hk => m_X5_lastWrite F.ok a355 x351 x352 h349 _ hk)) ⟨rfl, rfl⟩ fun x354 h353 hk =>
g_istore F dL_law_1933 (Nat.le_of_ble_eq_true rfl) rfl <|
g_aload_n F dL_law_1935 rfl 4 rfl <|
g_calli0 (g_V F dL_law_1936 q3085 mi_X5_thrown ct_X5 (rm' := rmX5_thrown) ⟨Nat.le_of_ble_eq_true rfl, Nat.le_of_ble_eq_true rfl⟩ ⟨show cb + 0 + 2 + 0 ≤ 603072 by omega, show kb + 0 + 12 + 0 ≤ 7178346 by omega⟩ (As := []) (rest := []) rfl rfl (Nat.le_of_ble_eq_true rfl) hk (fun a358 hk => m_X5_thrown F.ok a358 h353 _ hk)) ⟨rfl, rfl⟩ fun x357 h356 hk =>
g_iload F dL_law_1939 1 rfl <|
g_icmp_eq F dL_law_1941 (tgt := 1946) rfl (fun hc => have hk := hk.1 hc
g_iload F dL_law_1946 1 rfl <|
g_if_ne F dL_law_1948 (tgt := 1963) rfl (fun hc => have hk := hk.2 hc
G.fewer [2, 3, 4, 5, 6] rfl <| G.widen (show cb + 0 + 2 ≤ cb + 2 by omega) (show kb + 0 + 12 ≤ kb + 12 by omega) <| s_L_law_j1963 F hL hM hM2 hS hS2 l0 l1 l2 l3 l4 h356 hk hK23) (fun hc => have hk := hk.1 hc
g_aload_n F dL_law_1951 rfl 5 rfl <|
g_iconst F dL_law_1952 ic_0 <|
g_lald F dL_law_1953 hk fun x359 hk =>
g_iload F dL_law_1954 0 rfl <|
g_i2l F dL_law_1956 <|
g_lcmp F dL_law_1957 <|
g_if_eq F dL_law_1958 (tgt := 1963) rfl (fun hc => have hk := hk.1 hc
G.fewer [2, 3, 4, 5, 6] rfl <| G.widen (show cb + 0 + 2 ≤ cb + 2 by omega) (show kb + 0 + 12 ≤ kb + 12 by omega) <| s_L_law_j1963 F hL hM hM2 hS hS2 l0 l1 l2 l3 l4 h356 hk hK23) (fun hc => have hk := hk.2 hc
G.fewer [] rfl <| G.widen (show cb + 0 + 2 ≤ ce by omega) (show kb + 0 + 12 ≤ ke by omega) <| hK1961 h356 hk))) (fun hc => have hk := hk.2 hc
G.fewer [] rfl <| G.widen (show cb + 0 + 2 ≤ ce by omega) (show kb + 0 + 12 ≤ ke by omega) <| hK1944 h356 hk)
theorem s_L_law_j1966 {x : Cx} (F : Fx x cL_law "LockstepRoomLaw" 9 (some .boolean) rmL_law) {Q : Int32 → hH → Prop} (hL : lawX x Q) {K23 : Option Nat → Option Nat → Option Nat → Option Nat → Int32 → hH → Prop} {K2025 : hH → Prop} {cb kb ce ke : Nat} (hM : cb + 9000 ≤ ce) (hM2 : ce ≤ 603072) (hS : kb + 100000 ≤ ke) (hS2 : ke ≤ 7178346) (l0 : Option Nat) (l1 : Option Nat) (l2 : Option Nat) (l3 : Option Nat) (l4 : Int32) (h : hH) (hk : f_L_law_j1966 x.S.E Q K23 K2025 l0 l1 l2 l3 l4 h) (hK23 : ∀ (l0 : Option Nat) (l1 : Option Nat) (l2 : Option Nat) (l3 : Option Nat) (l4 : Int32) (h : hH), K23 l0 l1 l2 l3 l4 h → G x (lw_Z x.below x.args x.s) 23 [(0, aR l0), (1, aR l1), (2, aR l2), (3, aR l3), (4, aI l4)] [] h (cb + 9000) (kb + 100000)) (hK2025 : ∀ (h : hH), K2025 h → G x (lw_Z x.below x.args x.s) 2025 [] [] h ce ke) : G x (lw_Z x.below x.args x.s) 1966 [(0, aR l0), (1, aR l1), (2, aR l2), (3, aR l3), (4, aI l4)] [] h (cb + 0) (kb + 0) := by
  unfold f_L_law_j1966 at hk
  exact g_aload_n F dL_law_1966 rfl 1 rfl <|
g_aload_n F dL_law_1967 rfl 0 rfl <|
g_iload F dL_law_1968 4 rfl <|
g_iconst F dL_law_1970 ic_1 <|
g_iadd F dL_law_1971 <|
g_ialdo F dL_law_1972 hk fun x360 hk =>
g_aload_n F dL_law_1973 rfl 0 rfl <|
g_iload F dL_law_1974 4 rfl <|
g_iconst F dL_law_1976 ic_2 <|
g_iadd F dL_law_1977 <|
g_ialdo F dL_law_1978 hk fun x361 hk =>
g_aload_n F dL_law_1979 rfl 0 rfl <|
g_iload F dL_law_1980 4 rfl <|
g_iconst F dL_law_1982 ic_3 <|
g_iadd F dL_law_1983 <|
g_ialdo F dL_law_1984 hk fun x362 hk =>
g_aload_n F dL_law_1985 rfl 0 rfl <|
g_iload F dL_law_1986 4 rfl <|
g_iconst F dL_law_1988 ic_4 <|
g_iadd F dL_law_1989 <|
g_ialdo F dL_law_1990 hk fun x363 hk =>
g_calli (g_V F dL_law_1991 q1998 mi_X1_give ct_X1 (rm' := rmX1_give) ⟨Nat.le_of_ble_eq_true rfl, Nat.le_of_ble_eq_true rfl⟩ ⟨show cb + 0 + 1001 ≤ 603072 by omega, show kb + 0 + 9462 ≤ 7178346 by omega⟩ (As := [aI x360, aI x361, aI x362, aI x363]) (rest := []) rfl rfl (Nat.le_of_ble_eq_true rfl) hk (fun a366 hk => m_X1_give F.ok a366 x360 x361 x362 x363 h _ hk)) fun x365 h364 hk =>
g_aload_n F dL_law_1994 rfl 2 rfl <|
g_aload_n F dL_law_1995 rfl 0 rfl <|
g_iload F dL_law_1996 4 rfl <|
g_iconst F dL_law_1998 ic_1 <|
g_iadd F dL_law_1999 <|
g_ialdo F dL_law_2000 hk fun x367 hk =>
g_aload_n F dL_law_2001 rfl 0 rfl <|
g_iload F dL_law_2002 4 rfl <|
g_iconst F dL_law_2004 ic_2 <|
g_iadd F dL_law_2005 <|
g_ialdo F dL_law_2006 hk fun x368 hk =>
g_aload_n F dL_law_2007 rfl 0 rfl <|
g_iload F dL_law_2008 4 rfl <|
g_iconst F dL_law_2010 ic_3 <|
g_iadd F dL_law_2011 <|
g_ialdo F dL_law_2012 hk fun x369 hk =>
g_aload_n F dL_law_2013 rfl 0 rfl <|
g_iload F dL_law_2014 4 rfl <|
g_iconst F dL_law_2016 ic_4 <|
g_iadd F dL_law_2017 <|
g_ialdo F dL_law_2018 hk fun x370 hk =>
g_calli0 (g_V F dL_law_2019 q3486 mi_X5_give ct_X5 (rm' := rmX5_give) ⟨Nat.le_of_ble_eq_true rfl, Nat.le_of_ble_eq_true rfl⟩ ⟨show cb + 0 + 1001 + 0 ≤ 603072 by omega, show kb + 0 + 9462 + 0 ≤ 7178346 by omega⟩ (As := [aI x367, aI x368, aI x369, aI x370]) (rest := [aI x365]) rfl rfl (Nat.le_of_ble_eq_true rfl) hk (fun a373 hk => m_X5_give F.ok a373 x367 x368 x369 x370 h364 _ hk)) ⟨rfl, rfl⟩ fun x372 h371 hk =>
g_icmp_eq F dL_law_2022 (tgt := 2370) rfl (fun hc => have hk := hk.1 hc
g_iinc (v := (l4 + (6:Int32))) F dL_law_2370 (j := 4) rfl (iinc_6 l4) (Nat.le_of_ble_eq_true rfl) rfl <|
g_goto F dL_law_2373 (tgt := 23) rfl <|
G.fewer [1, 2, 3, 4, 0] rfl <| G.widen (show cb + 0 + 1001 ≤ cb + 9000 by omega) (show kb + 0 + 9462 ≤ kb + 100000 by omega) <| hK23 l0 l1 l2 l3 (l4 + (6:Int32)) h371 hk) (fun hc => have hk := hk.2 hc
G.fewer [] rfl <| G.widen (show cb + 0 + 1001 ≤ ce by omega) (show kb + 0 + 9462 ≤ ke by omega) <| hK2025 h371 hk)
theorem s_L_law_j2027 {x : Cx} (F : Fx x cL_law "LockstepRoomLaw" 9 (some .boolean) rmL_law) {Q : Int32 → hH → Prop} (hL : lawX x Q) {K23 : Option Nat → Option Nat → Option Nat → Option Nat → Int32 → hH → Prop} {K2038 : hH → Prop} {cb kb ce ke : Nat} (hM : cb + 9000 ≤ ce) (hM2 : ce ≤ 603072) (hS : kb + 100000 ≤ ke) (hS2 : ke ≤ 7178346) (l0 : Option Nat) (l1 : Option Nat) (l2 : Option Nat) (l3 : Option Nat) (l4 : Int32) (h : hH) (hk : f_L_law_j2027 x.S.E Q K23 K2038 l0 l1 l2 l3 l4 h) (hK23 : ∀ (l0 : Option Nat) (l1 : Option Nat) (l2 : Option Nat) (l3 : Option Nat) (l4 : Int32) (h : hH), K23 l0 l1 l2 l3 l4 h → G x (lw_Z x.below x.args x.s) 23 [(0, aR l0), (1, aR l1), (2, aR l2), (3, aR l3), (4, aI l4)] [] h (cb + 9000) (kb + 100000)) (hK2038 : ∀ (h : hH), K2038 h → G x (lw_Z x.below x.args x.s) 2038 [] [] h ce ke) : G x (lw_Z x.below x.args x.s) 2027 [(0, aR l0), (1, aR l1), (2, aR l2), (3, aR l3), (4, aI l4)] [] h (cb + 0) (kb + 0) := by
  unfold f_L_law_j2027 at hk
  exact g_aload_n F dL_law_2027 rfl 1 rfl <|
g_calli (g_V F dL_law_2028 q2438 mi_X1_seal ct_X1 (rm' := rmX1_seal) ⟨Nat.le_of_ble_eq_true rfl, Nat.le_of_ble_eq_true rfl⟩ ⟨show cb + 0 + 1002 ≤ 603072 by omega, show kb + 0 + 9529 ≤ 7178346 by omega⟩ (As := []) (rest := []) rfl rfl (Nat.le_of_ble_eq_true rfl) hk (fun a376 hk => m_X1_seal F.ok a376 h _ hk)) fun x375 h374 hk =>
g_aload_n F dL_law_2031 rfl 2 rfl <|
g_calli0 (g_V F dL_law_2032 q3497 mi_X5_seal ct_X5 (rm' := rmX5_seal) ⟨Nat.le_of_ble_eq_true rfl, Nat.le_of_ble_eq_true rfl⟩ ⟨show cb + 0 + 1002 + 0 ≤ 603072 by omega, show kb + 0 + 9529 + 0 ≤ 7178346 by omega⟩ (As := []) (rest := [aI x375]) rfl rfl (Nat.le_of_ble_eq_true rfl) hk (fun a379 hk => m_X5_seal F.ok a379 h374 _ hk)) ⟨rfl, rfl⟩ fun x378 h377 hk =>
g_icmp_eq F dL_law_2035 (tgt := 2370) rfl (fun hc => have hk := hk.1 hc
g_iinc (v := (l4 + (6:Int32))) F dL_law_2370 (j := 4) rfl (iinc_6 l4) (Nat.le_of_ble_eq_true rfl) rfl <|
g_goto F dL_law_2373 (tgt := 23) rfl <|
G.fewer [1, 2, 3, 4, 0] rfl <| G.widen (show cb + 0 + 1002 ≤ cb + 9000 by omega) (show kb + 0 + 9529 ≤ kb + 100000 by omega) <| hK23 l0 l1 l2 l3 (l4 + (6:Int32)) h377 hk) (fun hc => have hk := hk.2 hc
G.fewer [] rfl <| G.widen (show cb + 0 + 1002 ≤ ce by omega) (show kb + 0 + 9529 ≤ ke by omega) <| hK2038 h377 hk)
theorem s_L_law_j2040 {x : Cx} (F : Fx x cL_law "LockstepRoomLaw" 9 (some .boolean) rmL_law) {Q : Int32 → hH → Prop} (hL : lawX x Q) {K23 : Option Nat → Option Nat → Option Nat → Option Nat → Int32 → hH → Prop} {K2075 : hH → Prop} {cb kb ce ke : Nat} (hM : cb + 9000 ≤ ce) (hM2 : ce ≤ 603072) (hS : kb + 100000 ≤ ke) (hS2 : ke ≤ 7178346) (l0 : Option Nat) (l1 : Option Nat) (l2 : Option Nat) (l3 : Option Nat) (l4 : Int32) (h : hH) (hk : f_L_law_j2040 x.S.E Q K23 K2075 l0 l1 l2 l3 l4 h) (hK23 : ∀ (l0 : Option Nat) (l1 : Option Nat) (l2 : Option Nat) (l3 : Option Nat) (l4 : Int32) (h : hH), K23 l0 l1 l2 l3 l4 h → G x (lw_Z x.below x.args x.s) 23 [(0, aR l0), (1, aR l1), (2, aR l2), (3, aR l3), (4, aI l4)] [] h (cb + 9000) (kb + 100000)) (hK2075 : ∀ (h : hH), K2075 h → G x (lw_Z x.below x.args x.s) 2075 [] [] h ce ke) : G x (lw_Z x.below x.args x.s) 2040 [(0, aR l0), (1, aR l1), (2, aR l2), (3, aR l3), (4, aI l4)] [] h (cb + 0) (kb + 0) := by
  unfold f_L_law_j2040 at hk
  exact g_aload_n F dL_law_2040 rfl 1 rfl <|
g_aload_n F dL_law_2041 rfl 0 rfl <|
g_iload F dL_law_2042 4 rfl <|
g_iconst F dL_law_2044 ic_1 <|
g_iadd F dL_law_2045 <|
g_ialdo F dL_law_2046 hk fun x380 hk =>
g_aload_n F dL_law_2047 rfl 0 rfl <|
g_iload F dL_law_2048 4 rfl <|
g_iconst F dL_law_2050 ic_2 <|
g_iadd F dL_law_2051 <|
g_ialdo F dL_law_2052 hk fun x381 hk =>
g_calli (g_V F dL_law_2053 q2443 mi_X1_run ct_X1 (rm' := rmX1_run) ⟨Nat.le_of_ble_eq_true rfl, Nat.le_of_ble_eq_true rfl⟩ ⟨show cb + 0 + 1164 ≤ 603072 by omega, show kb + 0 + 11097 ≤ 7178346 by omega⟩ (As := [aI x380, aI x381]) (rest := []) rfl rfl (Nat.le_of_ble_eq_true rfl) hk (fun a384 hk => m_X1_run F.ok a384 x380 x381 h _ hk)) fun x383 h382 hk =>
g_aload_n F dL_law_2056 rfl 2 rfl <|
g_aload_n F dL_law_2057 rfl 0 rfl <|
g_iload F dL_law_2058 4 rfl <|
g_iconst F dL_law_2060 ic_1 <|
g_iadd F dL_law_2061 <|
g_ialdo F dL_law_2062 hk fun x385 hk =>
g_aload_n F dL_law_2063 rfl 0 rfl <|
g_iload F dL_law_2064 4 rfl <|
g_iconst F dL_law_2066 ic_2 <|
g_iadd F dL_law_2067 <|
g_ialdo F dL_law_2068 hk fun x386 hk =>
g_calli0 (g_V F dL_law_2069 q3501 mi_X5_run ct_X5 (rm' := rmX5_run) ⟨Nat.le_of_ble_eq_true rfl, Nat.le_of_ble_eq_true rfl⟩ ⟨show cb + 0 + 1164 + 0 ≤ 603072 by omega, show kb + 0 + 11097 + 0 ≤ 7178346 by omega⟩ (As := [aI x385, aI x386]) (rest := [aI x383]) rfl rfl (Nat.le_of_ble_eq_true rfl) hk (fun a389 hk => m_X5_run F.ok a389 x385 x386 h382 _ hk)) ⟨rfl, rfl⟩ fun x388 h387 hk =>
g_icmp_eq F dL_law_2072 (tgt := 2370) rfl (fun hc => have hk := hk.1 hc
g_iinc (v := (l4 + (6:Int32))) F dL_law_2370 (j := 4) rfl (iinc_6 l4) (Nat.le_of_ble_eq_true rfl) rfl <|
g_goto F dL_law_2373 (tgt := 23) rfl <|
G.fewer [1, 2, 3, 4, 0] rfl <| G.widen (show cb + 0 + 1164 ≤ cb + 9000 by omega) (show kb + 0 + 11097 ≤ kb + 100000 by omega) <| hK23 l0 l1 l2 l3 (l4 + (6:Int32)) h387 hk) (fun hc => have hk := hk.2 hc
G.fewer [] rfl <| G.widen (show cb + 0 + 1164 ≤ ce by omega) (show kb + 0 + 11097 ≤ ke by omega) <| hK2075 h387 hk)
theorem s_L_law_j2077 {x : Cx} (F : Fx x cL_law "LockstepRoomLaw" 9 (some .boolean) rmL_law) {Q : Int32 → hH → Prop} (hL : lawX x Q) {K23 : Option Nat → Option Nat → Option Nat → Option Nat → Int32 → hH → Prop} {K2088 : hH → Prop} {cb kb ce ke : Nat} (hM : cb + 9000 ≤ ce) (hM2 : ce ≤ 603072) (hS : kb + 100000 ≤ ke) (hS2 : ke ≤ 7178346) (l0 : Option Nat) (l1 : Option Nat) (l2 : Option Nat) (l3 : Option Nat) (l4 : Int32) (h : hH) (hk : f_L_law_j2077 x.S.E Q K23 K2088 l0 l1 l2 l3 l4 h) (hK23 : ∀ (l0 : Option Nat) (l1 : Option Nat) (l2 : Option Nat) (l3 : Option Nat) (l4 : Int32) (h : hH), K23 l0 l1 l2 l3 l4 h → G x (lw_Z x.below x.args x.s) 23 [(0, aR l0), (1, aR l1), (2, aR l2), (3, aR l3), (4, aI l4)] [] h (cb + 9000) (kb + 100000)) (hK2088 : ∀ (h : hH), K2088 h → G x (lw_Z x.below x.args x.s) 2088 [] [] h ce ke) : G x (lw_Z x.below x.args x.s) 2077 [(0, aR l0), (1, aR l1), (2, aR l2), (3, aR l3), (4, aI l4)] [] h (cb + 0) (kb + 0) := by
  unfold f_L_law_j2077 at hk
  exact g_aload_n F dL_law_2077 rfl 1 rfl <|
g_calli (g_V F dL_law_2078 q2471 mi_X1_tick ct_X1 (rm' := rmX1_tick) ⟨Nat.le_of_ble_eq_true rfl, Nat.le_of_ble_eq_true rfl⟩ ⟨show cb + 0 + 2148 ≤ 603072 by omega, show kb + 0 + 20937 ≤ 7178346 by omega⟩ (As := []) (rest := []) rfl rfl (Nat.le_of_ble_eq_true rfl) hk (fun a392 hk => m_X1_tick F.ok a392 h _ hk)) fun x391 h390 hk =>
g_aload_n F dL_law_2081 rfl 2 rfl <|
g_calli0 (g_V F dL_law_2082 q3517 mi_X5_tick ct_X5 (rm' := rmX5_tick) ⟨Nat.le_of_ble_eq_true rfl, Nat.le_of_ble_eq_true rfl⟩ ⟨show cb + 0 + 2148 + 0 ≤ 603072 by omega, show kb + 0 + 20937 + 0 ≤ 7178346 by omega⟩ (As := []) (rest := [aI x391]) rfl rfl (Nat.le_of_ble_eq_true rfl) hk (fun a395 hk => m_X5_tick F.ok a395 h390 _ hk)) ⟨rfl, rfl⟩ fun x394 h393 hk =>
g_icmp_eq F dL_law_2085 (tgt := 2370) rfl (fun hc => have hk := hk.1 hc
g_iinc (v := (l4 + (6:Int32))) F dL_law_2370 (j := 4) rfl (iinc_6 l4) (Nat.le_of_ble_eq_true rfl) rfl <|
g_goto F dL_law_2373 (tgt := 23) rfl <|
G.fewer [1, 2, 3, 4, 0] rfl <| G.widen (show cb + 0 + 2148 ≤ cb + 9000 by omega) (show kb + 0 + 20937 ≤ kb + 100000 by omega) <| hK23 l0 l1 l2 l3 (l4 + (6:Int32)) h393 hk) (fun hc => have hk := hk.2 hc
G.fewer [] rfl <| G.widen (show cb + 0 + 2148 ≤ ce by omega) (show kb + 0 + 20937 ≤ ke by omega) <| hK2088 h393 hk)
theorem s_L_law_j2090 {x : Cx} (F : Fx x cL_law "LockstepRoomLaw" 9 (some .boolean) rmL_law) {Q : Int32 → hH → Prop} (hL : lawX x Q) {K23 : Option Nat → Option Nat → Option Nat → Option Nat → Int32 → hH → Prop} {K2149 : hH → Prop} {cb kb ce ke : Nat} (hM : cb + 9000 ≤ ce) (hM2 : ce ≤ 603072) (hS : kb + 100000 ≤ ke) (hS2 : ke ≤ 7178346) (l0 : Option Nat) (l1 : Option Nat) (l2 : Option Nat) (l3 : Option Nat) (l4 : Int32) (h : hH) (hk : f_L_law_j2090 x.S.E Q K23 K2149 l0 l1 l2 l3 l4 h) (hK23 : ∀ (l0 : Option Nat) (l1 : Option Nat) (l2 : Option Nat) (l3 : Option Nat) (l4 : Int32) (h : hH), K23 l0 l1 l2 l3 l4 h → G x (lw_Z x.below x.args x.s) 23 [(0, aR l0), (1, aR l1), (2, aR l2), (3, aR l3), (4, aI l4)] [] h (cb + 9000) (kb + 100000)) (hK2149 : ∀ (h : hH), K2149 h → G x (lw_Z x.below x.args x.s) 2149 [] [] h ce ke) : G x (lw_Z x.below x.args x.s) 2090 [(0, aR l0), (1, aR l1), (2, aR l2), (3, aR l3), (4, aI l4)] [] h (cb + 0) (kb + 0) := by
  unfold f_L_law_j2090 at hk
  exact g_aload_n F dL_law_2090 rfl 1 rfl <|
g_aload_n F dL_law_2091 rfl 0 rfl <|
g_iload F dL_law_2092 4 rfl <|
g_iconst F dL_law_2094 ic_1 <|
g_iadd F dL_law_2095 <|
g_ialdo F dL_law_2096 hk fun x396 hk =>
g_aload_n F dL_law_2097 rfl 0 rfl <|
g_iload F dL_law_2098 4 rfl <|
g_iconst F dL_law_2100 ic_2 <|
g_iadd F dL_law_2101 <|
g_ialdo F dL_law_2102 hk fun x397 hk =>
g_aload_n F dL_law_2103 rfl 0 rfl <|
g_iload F dL_law_2104 4 rfl <|
g_iconst F dL_law_2106 ic_3 <|
g_iadd F dL_law_2107 <|
g_ialdo F dL_law_2108 hk fun x398 hk =>
g_aload_n F dL_law_2109 rfl 0 rfl <|
g_iload F dL_law_2110 4 rfl <|
g_iconst F dL_law_2112 ic_4 <|
g_iadd F dL_law_2113 <|
g_ialdo F dL_law_2114 hk fun x399 hk =>
g_calli (g_V F dL_law_2115 q2475 mi_X1_fault ct_X1 (rm' := rmX1_fault) ⟨Nat.le_of_ble_eq_true rfl, Nat.le_of_ble_eq_true rfl⟩ ⟨show cb + 0 + 1002 ≤ 603072 by omega, show kb + 0 + 9525 ≤ 7178346 by omega⟩ (As := [aI x396, aI x397, aI x398, aI x399]) (rest := []) rfl rfl (Nat.le_of_ble_eq_true rfl) hk (fun a402 hk => m_X1_fault F.ok a402 x396 x397 x398 x399 h _ hk)) fun x401 h400 hk =>
g_aload_n F dL_law_2118 rfl 2 rfl <|
g_aload_n F dL_law_2119 rfl 0 rfl <|
g_iload F dL_law_2120 4 rfl <|
g_iconst F dL_law_2122 ic_1 <|
g_iadd F dL_law_2123 <|
g_ialdo F dL_law_2124 hk fun x403 hk =>
g_aload_n F dL_law_2125 rfl 0 rfl <|
g_iload F dL_law_2126 4 rfl <|
g_iconst F dL_law_2128 ic_2 <|
g_iadd F dL_law_2129 <|
g_ialdo F dL_law_2130 hk fun x404 hk =>
g_aload_n F dL_law_2131 rfl 0 rfl <|
g_iload F dL_law_2132 4 rfl <|
g_iconst F dL_law_2134 ic_3 <|
g_iadd F dL_law_2135 <|
g_ialdo F dL_law_2136 hk fun x405 hk =>
g_aload_n F dL_law_2137 rfl 0 rfl <|
g_iload F dL_law_2138 4 rfl <|
g_iconst F dL_law_2140 ic_4 <|
g_iadd F dL_law_2141 <|
g_ialdo F dL_law_2142 hk fun x406 hk =>
g_calli0 (g_V F dL_law_2143 q3521 mi_X5_fault_2 ct_X5 (rm' := rmX5_fault_2) ⟨Nat.le_of_ble_eq_true rfl, Nat.le_of_ble_eq_true rfl⟩ ⟨show cb + 0 + 1002 + 0 ≤ 603072 by omega, show kb + 0 + 9525 + 0 ≤ 7178346 by omega⟩ (As := [aI x403, aI x404, aI x405, aI x406]) (rest := [aI x401]) rfl rfl (Nat.le_of_ble_eq_true rfl) hk (fun a409 hk => m_X5_fault_2 F.ok a409 x403 x404 x405 x406 h400 _ hk)) ⟨rfl, rfl⟩ fun x408 h407 hk =>
g_icmp_eq F dL_law_2146 (tgt := 2370) rfl (fun hc => have hk := hk.1 hc
g_iinc (v := (l4 + (6:Int32))) F dL_law_2370 (j := 4) rfl (iinc_6 l4) (Nat.le_of_ble_eq_true rfl) rfl <|
g_goto F dL_law_2373 (tgt := 23) rfl <|
G.fewer [1, 2, 3, 4, 0] rfl <| G.widen (show cb + 0 + 1002 ≤ cb + 9000 by omega) (show kb + 0 + 9525 ≤ kb + 100000 by omega) <| hK23 l0 l1 l2 l3 (l4 + (6:Int32)) h407 hk) (fun hc => have hk := hk.2 hc
G.fewer [] rfl <| G.widen (show cb + 0 + 1002 ≤ ce by omega) (show kb + 0 + 9525 ≤ ke by omega) <| hK2149 h407 hk)
theorem s_L_law_j2151 {x : Cx} (F : Fx x cL_law "LockstepRoomLaw" 9 (some .boolean) rmL_law) {Q : Int32 → hH → Prop} (hL : lawX x Q) {K23 : Option Nat → Option Nat → Option Nat → Option Nat → Int32 → hH → Prop} {K2174 : hH → Prop} {cb kb ce ke : Nat} (hM : cb + 9000 ≤ ce) (hM2 : ce ≤ 603072) (hS : kb + 100000 ≤ ke) (hS2 : ke ≤ 7178346) (l0 : Option Nat) (l1 : Option Nat) (l2 : Option Nat) (l3 : Option Nat) (l4 : Int32) (h : hH) (hk : f_L_law_j2151 x.S.E Q K23 K2174 l0 l1 l2 l3 l4 h) (hK23 : ∀ (l0 : Option Nat) (l1 : Option Nat) (l2 : Option Nat) (l3 : Option Nat) (l4 : Int32) (h : hH), K23 l0 l1 l2 l3 l4 h → G x (lw_Z x.below x.args x.s) 23 [(0, aR l0), (1, aR l1), (2, aR l2), (3, aR l3), (4, aI l4)] [] h (cb + 9000) (kb + 100000)) (hK2174 : ∀ (h : hH), K2174 h → G x (lw_Z x.below x.args x.s) 2174 [] [] h ce ke) : G x (lw_Z x.below x.args x.s) 2151 [(0, aR l0), (1, aR l1), (2, aR l2), (3, aR l3), (4, aI l4)] [] h (cb + 0) (kb + 0) := by
  unfold f_L_law_j2151 at hk
  exact g_aload_n F dL_law_2151 rfl 1 rfl <|
g_aload_n F dL_law_2152 rfl 0 rfl <|
g_iload F dL_law_2153 4 rfl <|
g_iconst F dL_law_2155 ic_1 <|
g_iadd F dL_law_2156 <|
g_ialdo F dL_law_2157 hk fun x410 hk =>
g_calli (g_V F dL_law_2158 q2484 mi_X1_heal ct_X1 (rm' := rmX1_heal) ⟨Nat.le_of_ble_eq_true rfl, Nat.le_of_ble_eq_true rfl⟩ ⟨show cb + 0 + 1252 ≤ 603072 by omega, show kb + 0 + 15287 ≤ 7178346 by omega⟩ (As := [aI x410]) (rest := []) rfl rfl (Nat.le_of_ble_eq_true rfl) hk (fun a413 hk => m_X1_heal F.ok a413 x410 h _ hk)) fun x412 h411 hk =>
g_aload_n F dL_law_2161 rfl 2 rfl <|
g_aload_n F dL_law_2162 rfl 0 rfl <|
g_iload F dL_law_2163 4 rfl <|
g_iconst F dL_law_2165 ic_1 <|
g_iadd F dL_law_2166 <|
g_ialdo F dL_law_2167 hk fun x414 hk =>
g_calli0 (g_V F dL_law_2168 q3525 mi_X5_heal ct_X5 (rm' := rmX5_heal) ⟨Nat.le_of_ble_eq_true rfl, Nat.le_of_ble_eq_true rfl⟩ ⟨show cb + 0 + 1252 + 0 ≤ 603072 by omega, show kb + 0 + 15287 + 0 ≤ 7178346 by omega⟩ (As := [aI x414]) (rest := [aI x412]) rfl rfl (Nat.le_of_ble_eq_true rfl) hk (fun a417 hk => m_X5_heal F.ok a417 x414 h411 _ hk)) ⟨rfl, rfl⟩ fun x416 h415 hk =>
g_icmp_eq F dL_law_2171 (tgt := 2370) rfl (fun hc => have hk := hk.1 hc
g_iinc (v := (l4 + (6:Int32))) F dL_law_2370 (j := 4) rfl (iinc_6 l4) (Nat.le_of_ble_eq_true rfl) rfl <|
g_goto F dL_law_2373 (tgt := 23) rfl <|
G.fewer [1, 2, 3, 4, 0] rfl <| G.widen (show cb + 0 + 1252 ≤ cb + 9000 by omega) (show kb + 0 + 15287 ≤ kb + 100000 by omega) <| hK23 l0 l1 l2 l3 (l4 + (6:Int32)) h415 hk) (fun hc => have hk := hk.2 hc
G.fewer [] rfl <| G.widen (show cb + 0 + 1252 ≤ ce by omega) (show kb + 0 + 15287 ≤ ke by omega) <| hK2174 h415 hk)
theorem s_L_law_j2176 {x : Cx} (F : Fx x cL_law "LockstepRoomLaw" 9 (some .boolean) rmL_law) {Q : Int32 → hH → Prop} (hL : lawX x Q) {K23 : Option Nat → Option Nat → Option Nat → Option Nat → Int32 → hH → Prop} {K2187 : hH → Prop} {cb kb ce ke : Nat} (hM : cb + 9000 ≤ ce) (hM2 : ce ≤ 603072) (hS : kb + 100000 ≤ ke) (hS2 : ke ≤ 7178346) (l0 : Option Nat) (l1 : Option Nat) (l2 : Option Nat) (l3 : Option Nat) (l4 : Int32) (h : hH) (hk : f_L_law_j2176 x.S.E Q K23 K2187 l0 l1 l2 l3 l4 h) (hK23 : ∀ (l0 : Option Nat) (l1 : Option Nat) (l2 : Option Nat) (l3 : Option Nat) (l4 : Int32) (h : hH), K23 l0 l1 l2 l3 l4 h → G x (lw_Z x.below x.args x.s) 23 [(0, aR l0), (1, aR l1), (2, aR l2), (3, aR l3), (4, aI l4)] [] h (cb + 9000) (kb + 100000)) (hK2187 : ∀ (h : hH), K2187 h → G x (lw_Z x.below x.args x.s) 2187 [] [] h ce ke) : G x (lw_Z x.below x.args x.s) 2176 [(0, aR l0), (1, aR l1), (2, aR l2), (3, aR l3), (4, aI l4)] [] h (cb + 0) (kb + 0) := by
  unfold f_L_law_j2176 at hk
  exact g_aload_n F dL_law_2176 rfl 1 rfl <|
g_calli (g_V F dL_law_2177 q2548 mi_X1_healAll ct_X1 (rm' := rmX1_healAll) ⟨Nat.le_of_ble_eq_true rfl, Nat.le_of_ble_eq_true rfl⟩ ⟨show cb + 0 + 3764 ≤ 603072 by omega, show kb + 0 + 59724 ≤ 7178346 by omega⟩ (As := []) (rest := []) rfl rfl (Nat.le_of_ble_eq_true rfl) hk (fun a420 hk => m_X1_healAll F.ok a420 h _ hk)) fun x419 h418 hk =>
g_aload_n F dL_law_2180 rfl 2 rfl <|
g_calli0 (g_V F dL_law_2181 q3536 mi_X5_healAll ct_X5 (rm' := rmX5_healAll) ⟨Nat.le_of_ble_eq_true rfl, Nat.le_of_ble_eq_true rfl⟩ ⟨show cb + 0 + 3764 + 0 ≤ 603072 by omega, show kb + 0 + 59724 + 0 ≤ 7178346 by omega⟩ (As := []) (rest := [aI x419]) rfl rfl (Nat.le_of_ble_eq_true rfl) hk (fun a423 hk => m_X5_healAll F.ok a423 h418 _ hk)) ⟨rfl, rfl⟩ fun x422 h421 hk =>
g_icmp_eq F dL_law_2184 (tgt := 2370) rfl (fun hc => have hk := hk.1 hc
g_iinc (v := (l4 + (6:Int32))) F dL_law_2370 (j := 4) rfl (iinc_6 l4) (Nat.le_of_ble_eq_true rfl) rfl <|
g_goto F dL_law_2373 (tgt := 23) rfl <|
G.fewer [1, 2, 3, 4, 0] rfl <| G.widen (show cb + 0 + 3764 ≤ cb + 9000 by omega) (show kb + 0 + 59724 ≤ kb + 100000 by omega) <| hK23 l0 l1 l2 l3 (l4 + (6:Int32)) h421 hk) (fun hc => have hk := hk.2 hc
G.fewer [] rfl <| G.widen (show cb + 0 + 3764 ≤ ce by omega) (show kb + 0 + 59724 ≤ ke by omega) <| hK2187 h421 hk)
theorem s_L_law_j2189 {x : Cx} (F : Fx x cL_law "LockstepRoomLaw" 9 (some .boolean) rmL_law) {Q : Int32 → hH → Prop} (hL : lawX x Q) {K23 : Option Nat → Option Nat → Option Nat → Option Nat → Int32 → hH → Prop} {K2212 : hH → Prop} {cb kb ce ke : Nat} (hM : cb + 9000 ≤ ce) (hM2 : ce ≤ 603072) (hS : kb + 100000 ≤ ke) (hS2 : ke ≤ 7178346) (l0 : Option Nat) (l1 : Option Nat) (l2 : Option Nat) (l3 : Option Nat) (l4 : Int32) (h : hH) (hk : f_L_law_j2189 x.S.E Q K23 K2212 l0 l1 l2 l3 l4 h) (hK23 : ∀ (l0 : Option Nat) (l1 : Option Nat) (l2 : Option Nat) (l3 : Option Nat) (l4 : Int32) (h : hH), K23 l0 l1 l2 l3 l4 h → G x (lw_Z x.below x.args x.s) 23 [(0, aR l0), (1, aR l1), (2, aR l2), (3, aR l3), (4, aI l4)] [] h (cb + 9000) (kb + 100000)) (hK2212 : ∀ (h : hH), K2212 h → G x (lw_Z x.below x.args x.s) 2212 [] [] h ce ke) : G x (lw_Z x.below x.args x.s) 2189 [(0, aR l0), (1, aR l1), (2, aR l2), (3, aR l3), (4, aI l4)] [] h (cb + 0) (kb + 0) := by
  unfold f_L_law_j2189 at hk
  exact g_aload_n F dL_law_2189 rfl 1 rfl <|
g_aload_n F dL_law_2190 rfl 0 rfl <|
g_iload F dL_law_2191 4 rfl <|
g_iconst F dL_law_2193 ic_1 <|
g_iadd F dL_law_2194 <|
g_ialdo F dL_law_2195 hk fun x424 hk =>
g_calli (g_V F dL_law_2196 q2558 mi_X1_join ct_X1 (rm' := rmX1_join) ⟨Nat.le_of_ble_eq_true rfl, Nat.le_of_ble_eq_true rfl⟩ ⟨show cb + 0 + 1076 ≤ 603072 by omega, show kb + 0 + 11033 ≤ 7178346 by omega⟩ (As := [aI x424]) (rest := []) rfl rfl (Nat.le_of_ble_eq_true rfl) hk (fun a427 hk => m_X1_join F.ok a427 x424 h _ hk)) fun x426 h425 hk =>
g_aload_n F dL_law_2199 rfl 2 rfl <|
g_aload_n F dL_law_2200 rfl 0 rfl <|
g_iload F dL_law_2201 4 rfl <|
g_iconst F dL_law_2203 ic_1 <|
g_iadd F dL_law_2204 <|
g_ialdo F dL_law_2205 hk fun x428 hk =>
g_calli0 (g_V F dL_law_2206 q3540 mi_X5_join ct_X5 (rm' := rmX5_join) ⟨Nat.le_of_ble_eq_true rfl, Nat.le_of_ble_eq_true rfl⟩ ⟨show cb + 0 + 1076 + 0 ≤ 603072 by omega, show kb + 0 + 11033 + 0 ≤ 7178346 by omega⟩ (As := [aI x428]) (rest := [aI x426]) rfl rfl (Nat.le_of_ble_eq_true rfl) hk (fun a431 hk => m_X5_join F.ok a431 x428 h425 _ hk)) ⟨rfl, rfl⟩ fun x430 h429 hk =>
g_icmp_eq F dL_law_2209 (tgt := 2370) rfl (fun hc => have hk := hk.1 hc
g_iinc (v := (l4 + (6:Int32))) F dL_law_2370 (j := 4) rfl (iinc_6 l4) (Nat.le_of_ble_eq_true rfl) rfl <|
g_goto F dL_law_2373 (tgt := 23) rfl <|
G.fewer [1, 2, 3, 4, 0] rfl <| G.widen (show cb + 0 + 1076 ≤ cb + 9000 by omega) (show kb + 0 + 11033 ≤ kb + 100000 by omega) <| hK23 l0 l1 l2 l3 (l4 + (6:Int32)) h429 hk) (fun hc => have hk := hk.2 hc
G.fewer [] rfl <| G.widen (show cb + 0 + 1076 ≤ ce by omega) (show kb + 0 + 11033 ≤ ke by omega) <| hK2212 h429 hk)
theorem s_L_law_j2214 {x : Cx} (F : Fx x cL_law "LockstepRoomLaw" 9 (some .boolean) rmL_law) {Q : Int32 → hH → Prop} (hL : lawX x Q) {K23 : Option Nat → Option Nat → Option Nat → Option Nat → Int32 → hH → Prop} {K2237 : hH → Prop} {cb kb ce ke : Nat} (hM : cb + 9000 ≤ ce) (hM2 : ce ≤ 603072) (hS : kb + 100000 ≤ ke) (hS2 : ke ≤ 7178346) (l0 : Option Nat) (l1 : Option Nat) (l2 : Option Nat) (l3 : Option Nat) (l4 : Int32) (h : hH) (hk : f_L_law_j2214 x.S.E Q K23 K2237 l0 l1 l2 l3 l4 h) (hK23 : ∀ (l0 : Option Nat) (l1 : Option Nat) (l2 : Option Nat) (l3 : Option Nat) (l4 : Int32) (h : hH), K23 l0 l1 l2 l3 l4 h → G x (lw_Z x.below x.args x.s) 23 [(0, aR l0), (1, aR l1), (2, aR l2), (3, aR l3), (4, aI l4)] [] h (cb + 9000) (kb + 100000)) (hK2237 : ∀ (h : hH), K2237 h → G x (lw_Z x.below x.args x.s) 2237 [] [] h ce ke) : G x (lw_Z x.below x.args x.s) 2214 [(0, aR l0), (1, aR l1), (2, aR l2), (3, aR l3), (4, aI l4)] [] h (cb + 0) (kb + 0) := by
  unfold f_L_law_j2214 at hk
  exact g_aload_n F dL_law_2214 rfl 1 rfl <|
g_aload_n F dL_law_2215 rfl 0 rfl <|
g_iload F dL_law_2216 4 rfl <|
g_iconst F dL_law_2218 ic_1 <|
g_iadd F dL_law_2219 <|
g_ialdo F dL_law_2220 hk fun x432 hk =>
g_calli (g_V F dL_law_2221 q2568 mi_X1_leave ct_X1 (rm' := rmX1_leave) ⟨Nat.le_of_ble_eq_true rfl, Nat.le_of_ble_eq_true rfl⟩ ⟨show cb + 0 + 1000 ≤ 603072 by omega, show kb + 0 + 9457 ≤ 7178346 by omega⟩ (As := [aI x432]) (rest := []) rfl rfl (Nat.le_of_ble_eq_true rfl) hk (fun a435 hk => m_X1_leave F.ok a435 x432 h _ hk)) fun x434 h433 hk =>
g_aload_n F dL_law_2224 rfl 2 rfl <|
g_aload_n F dL_law_2225 rfl 0 rfl <|
g_iload F dL_law_2226 4 rfl <|
g_iconst F dL_law_2228 ic_1 <|
g_iadd F dL_law_2229 <|
g_ialdo F dL_law_2230 hk fun x436 hk =>
g_calli0 (g_V F dL_law_2231 q3544 mi_X5_leave ct_X5 (rm' := rmX5_leave) ⟨Nat.le_of_ble_eq_true rfl, Nat.le_of_ble_eq_true rfl⟩ ⟨show cb + 0 + 1000 + 0 ≤ 603072 by omega, show kb + 0 + 9457 + 0 ≤ 7178346 by omega⟩ (As := [aI x436]) (rest := [aI x434]) rfl rfl (Nat.le_of_ble_eq_true rfl) hk (fun a439 hk => m_X5_leave F.ok a439 x436 h433 _ hk)) ⟨rfl, rfl⟩ fun x438 h437 hk =>
g_icmp_eq F dL_law_2234 (tgt := 2370) rfl (fun hc => have hk := hk.1 hc
g_iinc (v := (l4 + (6:Int32))) F dL_law_2370 (j := 4) rfl (iinc_6 l4) (Nat.le_of_ble_eq_true rfl) rfl <|
g_goto F dL_law_2373 (tgt := 23) rfl <|
G.fewer [1, 2, 3, 4, 0] rfl <| G.widen (show cb + 0 + 1000 ≤ cb + 9000 by omega) (show kb + 0 + 9457 ≤ kb + 100000 by omega) <| hK23 l0 l1 l2 l3 (l4 + (6:Int32)) h437 hk) (fun hc => have hk := hk.2 hc
G.fewer [] rfl <| G.widen (show cb + 0 + 1000 ≤ ce by omega) (show kb + 0 + 9457 ≤ ke by omega) <| hK2237 h437 hk)
theorem s_L_law_j2239 {x : Cx} (F : Fx x cL_law "LockstepRoomLaw" 9 (some .boolean) rmL_law) {Q : Int32 → hH → Prop} (hL : lawX x Q) {K23 : Option Nat → Option Nat → Option Nat → Option Nat → Int32 → hH → Prop} {K2274 : hH → Prop} {cb kb ce ke : Nat} (hM : cb + 9000 ≤ ce) (hM2 : ce ≤ 603072) (hS : kb + 100000 ≤ ke) (hS2 : ke ≤ 7178346) (l0 : Option Nat) (l1 : Option Nat) (l2 : Option Nat) (l3 : Option Nat) (l4 : Int32) (h : hH) (hk : f_L_law_j2239 x.S.E Q K23 K2274 l0 l1 l2 l3 l4 h) (hK23 : ∀ (l0 : Option Nat) (l1 : Option Nat) (l2 : Option Nat) (l3 : Option Nat) (l4 : Int32) (h : hH), K23 l0 l1 l2 l3 l4 h → G x (lw_Z x.below x.args x.s) 23 [(0, aR l0), (1, aR l1), (2, aR l2), (3, aR l3), (4, aI l4)] [] h (cb + 9000) (kb + 100000)) (hK2274 : ∀ (h : hH), K2274 h → G x (lw_Z x.below x.args x.s) 2274 [] [] h ce ke) : G x (lw_Z x.below x.args x.s) 2239 [(0, aR l0), (1, aR l1), (2, aR l2), (3, aR l3), (4, aI l4)] [] h (cb + 0) (kb + 0) := by
  unfold f_L_law_j2239 at hk
  exact g_aload_n F dL_law_2239 rfl 1 rfl <|
g_aload_n F dL_law_2240 rfl 0 rfl <|
g_iload F dL_law_2241 4 rfl <|
g_iconst F dL_law_2243 ic_1 <|
g_iadd F dL_law_2244 <|
g_ialdo F dL_law_2245 hk fun x440 hk =>
g_aload_n F dL_law_2246 rfl 0 rfl <|
g_iload F dL_law_2247 4 rfl <|
g_iconst F dL_law_2249 ic_2 <|
g_iadd F dL_law_2250 <|
g_ialdo F dL_law_2251 hk fun x441 hk =>
g_calli (g_V F dL_law_2252 q2576 mi_X1_setSetting ct_X1 (rm' := rmX1_setSetting) ⟨Nat.le_of_ble_eq_true rfl, Nat.le_of_ble_eq_true rfl⟩ ⟨show cb + 0 + 1000 ≤ 603072 by omega, show kb + 0 + 9457 ≤ 7178346 by omega⟩ (As := [aI x440, aI x441]) (rest := []) rfl rfl (Nat.le_of_ble_eq_true rfl) hk (fun a444 hk => m_X1_setSetting F.ok a444 x440 x441 h _ hk)) fun x443 h442 hk =>
g_aload_n F dL_law_2255 rfl 2 rfl <|
g_aload_n F dL_law_2256 rfl 0 rfl <|
g_iload F dL_law_2257 4 rfl <|
g_iconst F dL_law_2259 ic_1 <|
g_iadd F dL_law_2260 <|
g_ialdo F dL_law_2261 hk fun x445 hk =>
g_aload_n F dL_law_2262 rfl 0 rfl <|
g_iload F dL_law_2263 4 rfl <|
g_iconst F dL_law_2265 ic_2 <|
g_iadd F dL_law_2266 <|
g_ialdo F dL_law_2267 hk fun x446 hk =>
g_calli0 (g_V F dL_law_2268 q3548 mi_X5_setSetting ct_X5 (rm' := rmX5_setSetting) ⟨Nat.le_of_ble_eq_true rfl, Nat.le_of_ble_eq_true rfl⟩ ⟨show cb + 0 + 1000 + 0 ≤ 603072 by omega, show kb + 0 + 9457 + 0 ≤ 7178346 by omega⟩ (As := [aI x445, aI x446]) (rest := [aI x443]) rfl rfl (Nat.le_of_ble_eq_true rfl) hk (fun a449 hk => m_X5_setSetting F.ok a449 x445 x446 h442 _ hk)) ⟨rfl, rfl⟩ fun x448 h447 hk =>
g_icmp_eq F dL_law_2271 (tgt := 2370) rfl (fun hc => have hk := hk.1 hc
g_iinc (v := (l4 + (6:Int32))) F dL_law_2370 (j := 4) rfl (iinc_6 l4) (Nat.le_of_ble_eq_true rfl) rfl <|
g_goto F dL_law_2373 (tgt := 23) rfl <|
G.fewer [1, 2, 3, 4, 0] rfl <| G.widen (show cb + 0 + 1000 ≤ cb + 9000 by omega) (show kb + 0 + 9457 ≤ kb + 100000 by omega) <| hK23 l0 l1 l2 l3 (l4 + (6:Int32)) h447 hk) (fun hc => have hk := hk.2 hc
G.fewer [] rfl <| G.widen (show cb + 0 + 1000 ≤ ce by omega) (show kb + 0 + 9457 ≤ ke by omega) <| hK2274 h447 hk)
theorem s_L_law_j2276 {x : Cx} (F : Fx x cL_law "LockstepRoomLaw" 9 (some .boolean) rmL_law) {Q : Int32 → hH → Prop} (hL : lawX x Q) {K23 : Option Nat → Option Nat → Option Nat → Option Nat → Int32 → hH → Prop} {K2287 : hH → Prop} {cb kb ce ke : Nat} (hM : cb + 9000 ≤ ce) (hM2 : ce ≤ 603072) (hS : kb + 100000 ≤ ke) (hS2 : ke ≤ 7178346) (l0 : Option Nat) (l1 : Option Nat) (l2 : Option Nat) (l3 : Option Nat) (l4 : Int32) (h : hH) (hk : f_L_law_j2276 x.S.E Q K23 K2287 l0 l1 l2 l3 l4 h) (hK23 : ∀ (l0 : Option Nat) (l1 : Option Nat) (l2 : Option Nat) (l3 : Option Nat) (l4 : Int32) (h : hH), K23 l0 l1 l2 l3 l4 h → G x (lw_Z x.below x.args x.s) 23 [(0, aR l0), (1, aR l1), (2, aR l2), (3, aR l3), (4, aI l4)] [] h (cb + 9000) (kb + 100000)) (hK2287 : ∀ (h : hH), K2287 h → G x (lw_Z x.below x.args x.s) 2287 [] [] h ce ke) : G x (lw_Z x.below x.args x.s) 2276 [(0, aR l0), (1, aR l1), (2, aR l2), (3, aR l3), (4, aI l4)] [] h (cb + 0) (kb + 0) := by
  unfold f_L_law_j2276 at hk
  exact g_aload_n F dL_law_2276 rfl 1 rfl <|
g_calli0 (g_V F dL_law_2277 q396 mi_X1_undo ct_X1 (rm' := rmX1_undo) ⟨Nat.le_of_ble_eq_true rfl, Nat.le_of_ble_eq_true rfl⟩ ⟨show cb + 0 + 0 ≤ 603072 by omega, show kb + 0 + 0 ≤ 7178346 by omega⟩ (As := []) (rest := []) rfl rfl (Nat.le_of_ble_eq_true rfl) hk (fun a452 hk => m_X1_undo F.ok a452 h _ hk)) ⟨rfl, rfl⟩ fun x451 h450 hk =>
g_aload_n F dL_law_2280 rfl 2 rfl <|
g_calli0 (g_V F dL_law_2281 q3482 mi_X5_undo ct_X5 (rm' := rmX5_undo) ⟨Nat.le_of_ble_eq_true rfl, Nat.le_of_ble_eq_true rfl⟩ ⟨show cb + 0 + 0 ≤ 603072 by omega, show kb + 0 + 0 ≤ 7178346 by omega⟩ (As := []) (rest := [aI x451]) rfl rfl (Nat.le_of_ble_eq_true rfl) hk (fun a455 hk => m_X5_undo F.ok a455 h450 _ hk)) ⟨rfl, rfl⟩ fun x454 h453 hk =>
g_icmp_eq F dL_law_2284 (tgt := 2370) rfl (fun hc => have hk := hk.1 hc
g_iinc (v := (l4 + (6:Int32))) F dL_law_2370 (j := 4) rfl (iinc_6 l4) (Nat.le_of_ble_eq_true rfl) rfl <|
g_goto F dL_law_2373 (tgt := 23) rfl <|
G.fewer [1, 2, 3, 4, 0] rfl <| G.widen (show cb + 0 ≤ cb + 9000 by omega) (show kb + 0 ≤ kb + 100000 by omega) <| hK23 l0 l1 l2 l3 (l4 + (6:Int32)) h453 hk) (fun hc => have hk := hk.2 hc
G.fewer [] rfl <| G.widen (show cb + 0 ≤ ce by omega) (show kb + 0 ≤ ke by omega) <| hK2287 h453 hk)
theorem s_L_law_j2342 {x : Cx} (F : Fx x cL_law "LockstepRoomLaw" 9 (some .boolean) rmL_law) {Q : Int32 → hH → Prop} (hL : lawX x Q) {K23 : Option Nat → Option Nat → Option Nat → Option Nat → Int32 → hH → Prop} {cb kb ce ke : Nat} (hM : cb + 9000 ≤ ce) (hM2 : ce ≤ 603072) (hS : kb + 100000 ≤ ke) (hS2 : ke ≤ 7178346) (l0 : Option Nat) (l1 : Option Nat) (l2 : Option Nat) (l3 : Option Nat) (l4 : Int32) (h : hH) (hk : f_L_law_j2342 x.S.E Q K23 l0 l1 l2 l3 l4 h) (hK23 : ∀ (l0 : Option Nat) (l1 : Option Nat) (l2 : Option Nat) (l3 : Option Nat) (l4 : Int32) (h : hH), K23 l0 l1 l2 l3 l4 h → G x (lw_Z x.below x.args x.s) 23 [(0, aR l0), (1, aR l1), (2, aR l2), (3, aR l3), (4, aI l4)] [] h (cb + 9000) (kb + 100000)) : G x (lw_Z x.below x.args x.s) 2342 [(0, aR l0), (1, aR l1), (2, aR l2), (3, aR l3), (4, aI l4)] [] h (cb + 60) (kb + 3000) := by
  unfold f_L_law_j2342 at hk
  exact g_goto F dL_law_2342 (tgt := 2370) rfl <|
g_iinc (v := (l4 + (6:Int32))) F dL_law_2370 (j := 4) rfl (iinc_6 l4) (Nat.le_of_ble_eq_true rfl) rfl <|
g_goto F dL_law_2373 (tgt := 23) rfl <|
G.fewer [1, 2, 3, 4, 0] rfl <| G.widen (show cb + 60 ≤ cb + 9000 by omega) (show kb + 3000 ≤ kb + 100000 by omega) <| hK23 l0 l1 l2 l3 (l4 + (6:Int32)) h hk
theorem s_L_law_j2289 {x : Cx} (F : Fx x cL_law "LockstepRoomLaw" 9 (some .boolean) rmL_law) {Q : Int32 → hH → Prop} (hL : lawX x Q) {K23 : Option Nat → Option Nat → Option Nat → Option Nat → Int32 → hH → Prop} {K2323 : hH → Prop} {K2340 : hH → Prop} {cb kb ce ke : Nat} (hM : cb + 9000 ≤ ce) (hM2 : ce ≤ 603072) (hS : kb + 100000 ≤ ke) (hS2 : ke ≤ 7178346) (l0 : Option Nat) (l1 : Option Nat) (l2 : Option Nat) (l3 : Option Nat) (l4 : Int32) (h : hH) (hk : f_L_law_j2289 x.S.E Q K23 K2323 K2340 l0 l1 l2 l3 l4 h) (hK23 : ∀ (l0 : Option Nat) (l1 : Option Nat) (l2 : Option Nat) (l3 : Option Nat) (l4 : Int32) (h : hH), K23 l0 l1 l2 l3 l4 h → G x (lw_Z x.below x.args x.s) 23 [(0, aR l0), (1, aR l1), (2, aR l2), (3, aR l3), (4, aI l4)] [] h (cb + 9000) (kb + 100000)) (hK2323 : ∀ (h : hH), K2323 h → G x (lw_Z x.below x.args x.s) 2323 [] [] h ce ke) (hK2340 : ∀ (h : hH), K2340 h → G x (lw_Z x.below x.args x.s) 2340 [] [] h ce ke) : G x (lw_Z x.below x.args x.s) 2289 [(0, aR l0), (1, aR l1), (2, aR l2), (3, aR l3), (4, aI l4)] [] h (cb + 0) (kb + 0) := by
  unfold f_L_law_j2289 at hk
  exact g_aload_n F dL_law_2289 rfl 1 rfl <|
g_aload_n F dL_law_2290 rfl 0 rfl <|
g_iload F dL_law_2291 4 rfl <|
g_iconst F dL_law_2293 ic_1 <|
g_iadd F dL_law_2294 <|
g_ialdo F dL_law_2295 hk fun x456 hk =>
g_aload_n F dL_law_2296 rfl 3 rfl <|
g_calli (g_SW F dL_law_2297 q2872 q2873 q110 q2874 mo_X0_write (rm' := rmX0_write) ⟨Nat.le_of_ble_eq_true rfl, Nat.le_of_ble_eq_true rfl⟩ ⟨show cb + 0 + 60 ≤ 603072 by omega, show kb + 0 + 3000 ≤ 7178346 by omega⟩ (As := [aR l1, aI x456, aR l3]) (rest := []) rfl rfl (Nat.le_of_ble_eq_true rfl) (m_X0_write F.ok l1 x456 l3 h _ hk)) fun x458 h457 hk =>
g_istore F dL_law_2300 (Nat.le_of_ble_eq_true rfl) rfl <|
g_aload_n F dL_law_2302 rfl 3 rfl <|
g_aload_n F dL_law_2303 rfl 1 rfl <|
g_iload F dL_law_2304 5 rfl <|
g_iconst F dL_law_2306 ic_1 <|
g_iadd F dL_law_2307 <|
g_ialdo F dL_law_2308 hk fun x459 hk =>
g_calli0 (g_V F dL_law_2309 q3552 mi_X5_write ct_X5 (rm' := rmX5_write) ⟨Nat.le_of_ble_eq_true rfl, Nat.le_of_ble_eq_true rfl⟩ ⟨show cb + 0 + 60 + 0 ≤ 603072 by omega, show kb + 0 + 3000 + 0 ≤ 7178346 by omega⟩ (As := [aI x459]) (rest := []) rfl rfl (Nat.le_of_ble_eq_true rfl) hk (fun a462 hk => m_X5_write F.ok a462 x459 h457 _ hk)) ⟨rfl, rfl⟩ fun x461 h460 hk =>
g_istore F dL_law_2312 (Nat.le_of_ble_eq_true rfl) rfl <|
g_aload_n F dL_law_2314 rfl 4 rfl <|
g_calli0 (g_V F dL_law_2315 q3085 mi_X5_thrown ct_X5 (rm' := rmX5_thrown) ⟨Nat.le_of_ble_eq_true rfl, Nat.le_of_ble_eq_true rfl⟩ ⟨show cb + 0 + 60 + 0 ≤ 603072 by omega, show kb + 0 + 3000 + 0 ≤ 7178346 by omega⟩ (As := []) (rest := []) rfl rfl (Nat.le_of_ble_eq_true rfl) hk (fun a465 hk => m_X5_thrown F.ok a465 h460 _ hk)) ⟨rfl, rfl⟩ fun x464 h463 hk =>
g_iload F dL_law_2318 1 rfl <|
g_icmp_eq F dL_law_2320 (tgt := 2325) rfl (fun hc => have hk := hk.1 hc
g_iload F dL_law_2325 1 rfl <|
g_if_ne F dL_law_2327 (tgt := 2342) rfl (fun hc => have hk := hk.2 hc
G.fewer [2, 3, 4, 5, 6] rfl <| G.widen (show cb + 0 + 60 ≤ cb + 60 by omega) (show kb + 0 + 3000 ≤ kb + 3000 by omega) <| s_L_law_j2342 F hL hM hM2 hS hS2 l0 l1 l2 l3 l4 h463 hk hK23) (fun hc => have hk := hk.1 hc
g_aload_n F dL_law_2330 rfl 5 rfl <|
g_iconst F dL_law_2331 ic_0 <|
g_lald F dL_law_2332 hk fun x466 hk =>
g_iload F dL_law_2333 0 rfl <|
g_i2l F dL_law_2335 <|
g_lcmp F dL_law_2336 <|
g_if_eq F dL_law_2337 (tgt := 2342) rfl (fun hc => have hk := hk.1 hc
G.fewer [2, 3, 4, 5, 6] rfl <| G.widen (show cb + 0 + 60 ≤ cb + 60 by omega) (show kb + 0 + 3000 ≤ kb + 3000 by omega) <| s_L_law_j2342 F hL hM hM2 hS hS2 l0 l1 l2 l3 l4 h463 hk hK23) (fun hc => have hk := hk.2 hc
G.fewer [] rfl <| G.widen (show cb + 0 + 60 ≤ ce by omega) (show kb + 0 + 3000 ≤ ke by omega) <| hK2340 h463 hk))) (fun hc => have hk := hk.2 hc
G.fewer [] rfl <| G.widen (show cb + 0 + 60 ≤ ce by omega) (show kb + 0 + 3000 ≤ ke by omega) <| hK2323 h463 hk)
theorem s_L_law_j2345 {x : Cx} (F : Fx x cL_law "LockstepRoomLaw" 9 (some .boolean) rmL_law) {Q : Int32 → hH → Prop} (hL : lawX x Q) {K23 : Option Nat → Option Nat → Option Nat → Option Nat → Int32 → hH → Prop} {K2368 : hH → Prop} {cb kb ce ke : Nat} (hM : cb + 9000 ≤ ce) (hM2 : ce ≤ 603072) (hS : kb + 100000 ≤ ke) (hS2 : ke ≤ 7178346) (l0 : Option Nat) (l1 : Option Nat) (l2 : Option Nat) (l3 : Option Nat) (l4 : Int32) (h : hH) (hk : f_L_law_j2345 x.S.E Q K23 K2368 l0 l1 l2 l3 l4 h) (hK23 : ∀ (l0 : Option Nat) (l1 : Option Nat) (l2 : Option Nat) (l3 : Option Nat) (l4 : Int32) (h : hH), K23 l0 l1 l2 l3 l4 h → G x (lw_Z x.below x.args x.s) 23 [(0, aR l0), (1, aR l1), (2, aR l2), (3, aR l3), (4, aI l4)] [] h (cb + 9000) (kb + 100000)) (hK2368 : ∀ (h : hH), K2368 h → G x (lw_Z x.below x.args x.s) 2368 [] [] h ce ke) : G x (lw_Z x.below x.args x.s) 2345 [(0, aR l0), (1, aR l1), (2, aR l2), (3, aR l3), (4, aI l4)] [] h (cb + 0) (kb + 0) := by
  unfold f_L_law_j2345 at hk
  exact g_aload_n F dL_law_2345 rfl 1 rfl <|
g_aload_n F dL_law_2346 rfl 0 rfl <|
g_iload F dL_law_2347 4 rfl <|
g_iconst F dL_law_2349 ic_1 <|
g_iadd F dL_law_2350 <|
g_ialdo F dL_law_2351 hk fun x467 hk =>
g_calli0 (g_V F dL_law_2352 q2581 mi_X1_outputAt ct_X1 (rm' := rmX1_outputAt) ⟨Nat.le_of_ble_eq_true rfl, Nat.le_of_ble_eq_true rfl⟩ ⟨show cb + 0 + 0 ≤ 603072 by omega, show kb + 0 + 0 ≤ 7178346 by omega⟩ (As := [aI x467]) (rest := []) rfl rfl (Nat.le_of_ble_eq_true rfl) hk (fun a470 hk => m_X1_outputAt F.ok a470 x467 h _ hk)) ⟨rfl, rfl⟩ fun x469 h468 hk =>
g_aload_n F dL_law_2355 rfl 2 rfl <|
g_aload_n F dL_law_2356 rfl 0 rfl <|
g_iload F dL_law_2357 4 rfl <|
g_iconst F dL_law_2359 ic_1 <|
g_iadd F dL_law_2360 <|
g_ialdo F dL_law_2361 hk fun x471 hk =>
g_calli0 (g_V F dL_law_2362 q3564 mi_X5_outputAt ct_X5 (rm' := rmX5_outputAt) ⟨Nat.le_of_ble_eq_true rfl, Nat.le_of_ble_eq_true rfl⟩ ⟨show cb + 0 + 0 ≤ 603072 by omega, show kb + 0 + 0 ≤ 7178346 by omega⟩ (As := [aI x471]) (rest := [aI x469]) rfl rfl (Nat.le_of_ble_eq_true rfl) hk (fun a474 hk => m_X5_outputAt F.ok a474 x471 h468 _ hk)) ⟨rfl, rfl⟩ fun x473 h472 hk =>
g_icmp_eq F dL_law_2365 (tgt := 2370) rfl (fun hc => have hk := hk.1 hc
g_iinc (v := (l4 + (6:Int32))) F dL_law_2370 (j := 4) rfl (iinc_6 l4) (Nat.le_of_ble_eq_true rfl) rfl <|
g_goto F dL_law_2373 (tgt := 23) rfl <|
G.fewer [1, 2, 3, 4, 0] rfl <| G.widen (show cb + 0 ≤ cb + 9000 by omega) (show kb + 0 ≤ kb + 100000 by omega) <| hK23 l0 l1 l2 l3 (l4 + (6:Int32)) h472 hk) (fun hc => have hk := hk.2 hc
G.fewer [] rfl <| G.widen (show cb + 0 ≤ ce by omega) (show kb + 0 ≤ ke by omega) <| hK2368 h472 hk)
theorem s_L_law_l23 {x : Cx} (F : Fx x cL_law "LockstepRoomLaw" 9 (some .boolean) rmL_law) {Q : Int32 → hH → Prop} (hL : lawX x Q) {K311 : hH → Prop} {K336 : hH → Prop} {K349 : hH → Prop} {K374 : hH → Prop} {K387 : hH → Prop} {K412 : hH → Prop} {K460 : hH → Prop} {K477 : hH → Prop} {K505 : hH → Prop} {K553 : hH → Prop} {K570 : hH → Prop} {K609 : hH → Prop} {K626 : hH → Prop} {K689 : hH → Prop} {K706 : hH → Prop} {K757 : hH → Prop} {K774 : hH → Prop} {K825 : hH → Prop} {K842 : hH → Prop} {K893 : hH → Prop} {K910 : hH → Prop} {K961 : hH → Prop} {K978 : hH → Prop} {K1029 : hH → Prop} {K1046 : hH → Prop} {K1097 : hH → Prop} {K1121 : hH → Prop} {K1172 : hH → Prop} {K1189 : hH → Prop} {K1240 : hH → Prop} {K1257 : hH → Prop} {K1308 : hH → Prop} {K1325 : hH → Prop} {K1376 : hH → Prop} {K1393 : hH → Prop} {K1421 : hH → Prop} {K1457 : hH → Prop} {K1481 : hH → Prop} {K1497 : hH → Prop} {K1533 : hH → Prop} {K1550 : hH → Prop} {K1589 : hH → Prop} {K1606 : hH → Prop} {K1650 : hH → Prop} {K1686 : hH → Prop} {K1703 : hH → Prop} {K1744 : hH → Prop} {K1795 : hH → Prop} {K1812 : hH → Prop} {K1828 : hH → Prop} {K1876 : hH → Prop} {K1893 : hH → Prop} {K1944 : hH → Prop} {K1961 : hH → Prop} {K2025 : hH → Prop} {K2038 : hH → Prop} {K2075 : hH → Prop} {K2088 : hH → Prop} {K2149 : hH → Prop} {K2174 : hH → Prop} {K2187 : hH → Prop} {K2212 : hH → Prop} {K2237 : hH → Prop} {K2274 : hH → Prop} {K2287 : hH → Prop} {K2323 : hH → Prop} {K2340 : hH → Prop} {K2368 : hH → Prop} {K2376 : hH → Prop} {ce ke : Nat} (hM2 : ce ≤ 603072) (hS2 : ke ≤ 7178346) (n : Nat) (l0 : Option Nat) (l1 : Option Nat) (l2 : Option Nat) (l3 : Option Nat) (l4 : Int32) (h : hH) (cb kb : Nat) (hM0 : cb + n * 9000 ≤ ce) (hS0 : kb + n * 100000 ≤ ke) (hk : f_L_law_l23 x.S.E Q K311 K336 K349 K374 K387 K412 K460 K477 K505 K553 K570 K609 K626 K689 K706 K757 K774 K825 K842 K893 K910 K961 K978 K1029 K1046 K1097 K1121 K1172 K1189 K1240 K1257 K1308 K1325 K1376 K1393 K1421 K1457 K1481 K1497 K1533 K1550 K1589 K1606 K1650 K1686 K1703 K1744 K1795 K1812 K1828 K1876 K1893 K1944 K1961 K2025 K2038 K2075 K2088 K2149 K2174 K2187 K2212 K2237 K2274 K2287 K2323 K2340 K2368 K2376 n l0 l1 l2 l3 l4 h) (hK311 : ∀ (h : hH), K311 h → G x (lw_Z x.below x.args x.s) 311 [] [] h ce ke) (hK336 : ∀ (h : hH), K336 h → G x (lw_Z x.below x.args x.s) 336 [] [] h ce ke) (hK349 : ∀ (h : hH), K349 h → G x (lw_Z x.below x.args x.s) 349 [] [] h ce ke) (hK374 : ∀ (h : hH), K374 h → G x (lw_Z x.below x.args x.s) 374 [] [] h ce ke) (hK387 : ∀ (h : hH), K387 h → G x (lw_Z x.below x.args x.s) 387 [] [] h ce ke) (hK412 : ∀ (h : hH), K412 h → G x (lw_Z x.below x.args x.s) 412 [] [] h ce ke) (hK460 : ∀ (h : hH), K460 h → G x (lw_Z x.below x.args x.s) 460 [] [] h ce ke) (hK477 : ∀ (h : hH), K477 h → G x (lw_Z x.below x.args x.s) 477 [] [] h ce ke) (hK505 : ∀ (h : hH), K505 h → G x (lw_Z x.below x.args x.s) 505 [] [] h ce ke) (hK553 : ∀ (h : hH), K553 h → G x (lw_Z x.below x.args x.s) 553 [] [] h ce ke) (hK570 : ∀ (h : hH), K570 h → G x (lw_Z x.below x.args x.s) 570 [] [] h ce ke) (hK609 : ∀ (h : hH), K609 h → G x (lw_Z x.below x.args x.s) 609 [] [] h ce ke) (hK626 : ∀ (h : hH), K626 h → G x (lw_Z x.below x.args x.s) 626 [] [] h ce ke) (hK689 : ∀ (h : hH), K689 h → G x (lw_Z x.below x.args x.s) 689 [] [] h ce ke) (hK706 : ∀ (h : hH), K706 h → G x (lw_Z x.below x.args x.s) 706 [] [] h ce ke) (hK757 : ∀ (h : hH), K757 h → G x (lw_Z x.below x.args x.s) 757 [] [] h ce ke) (hK774 : ∀ (h : hH), K774 h → G x (lw_Z x.below x.args x.s) 774 [] [] h ce ke) (hK825 : ∀ (h : hH), K825 h → G x (lw_Z x.below x.args x.s) 825 [] [] h ce ke) (hK842 : ∀ (h : hH), K842 h → G x (lw_Z x.below x.args x.s) 842 [] [] h ce ke) (hK893 : ∀ (h : hH), K893 h → G x (lw_Z x.below x.args x.s) 893 [] [] h ce ke) (hK910 : ∀ (h : hH), K910 h → G x (lw_Z x.below x.args x.s) 910 [] [] h ce ke) (hK961 : ∀ (h : hH), K961 h → G x (lw_Z x.below x.args x.s) 961 [] [] h ce ke) (hK978 : ∀ (h : hH), K978 h → G x (lw_Z x.below x.args x.s) 978 [] [] h ce ke) (hK1029 : ∀ (h : hH), K1029 h → G x (lw_Z x.below x.args x.s) 1029 [] [] h ce ke) (hK1046 : ∀ (h : hH), K1046 h → G x (lw_Z x.below x.args x.s) 1046 [] [] h ce ke) (hK1097 : ∀ (h : hH), K1097 h → G x (lw_Z x.below x.args x.s) 1097 [] [] h ce ke) (hK1121 : ∀ (h : hH), K1121 h → G x (lw_Z x.below x.args x.s) 1121 [] [] h ce ke) (hK1172 : ∀ (h : hH), K1172 h → G x (lw_Z x.below x.args x.s) 1172 [] [] h ce ke) (hK1189 : ∀ (h : hH), K1189 h → G x (lw_Z x.below x.args x.s) 1189 [] [] h ce ke) (hK1240 : ∀ (h : hH), K1240 h → G x (lw_Z x.below x.args x.s) 1240 [] [] h ce ke) (hK1257 : ∀ (h : hH), K1257 h → G x (lw_Z x.below x.args x.s) 1257 [] [] h ce ke) (hK1308 : ∀ (h : hH), K1308 h → G x (lw_Z x.below x.args x.s) 1308 [] [] h ce ke) (hK1325 : ∀ (h : hH), K1325 h → G x (lw_Z x.below x.args x.s) 1325 [] [] h ce ke) (hK1376 : ∀ (h : hH), K1376 h → G x (lw_Z x.below x.args x.s) 1376 [] [] h ce ke) (hK1393 : ∀ (h : hH), K1393 h → G x (lw_Z x.below x.args x.s) 1393 [] [] h ce ke) (hK1421 : ∀ (h : hH), K1421 h → G x (lw_Z x.below x.args x.s) 1421 [] [] h ce ke) (hK1457 : ∀ (h : hH), K1457 h → G x (lw_Z x.below x.args x.s) 1457 [] [] h ce ke) (hK1481 : ∀ (h : hH), K1481 h → G x (lw_Z x.below x.args x.s) 1481 [] [] h ce ke) (hK1497 : ∀ (h : hH), K1497 h → G x (lw_Z x.below x.args x.s) 1497 [] [] h ce ke) (hK1533 : ∀ (h : hH), K1533 h → G x (lw_Z x.below x.args x.s) 1533 [] [] h ce ke) (hK1550 : ∀ (h : hH), K1550 h → G x (lw_Z x.below x.args x.s) 1550 [] [] h ce ke) (hK1589 : ∀ (h : hH), K1589 h → G x (lw_Z x.below x.args x.s) 1589 [] [] h ce ke) (hK1606 : ∀ (h : hH), K1606 h → G x (lw_Z x.below x.args x.s) 1606 [] [] h ce ke) (hK1650 : ∀ (h : hH), K1650 h → G x (lw_Z x.below x.args x.s) 1650 [] [] h ce ke) (hK1686 : ∀ (h : hH), K1686 h → G x (lw_Z x.below x.args x.s) 1686 [] [] h ce ke) (hK1703 : ∀ (h : hH), K1703 h → G x (lw_Z x.below x.args x.s) 1703 [] [] h ce ke) (hK1744 : ∀ (h : hH), K1744 h → G x (lw_Z x.below x.args x.s) 1744 [] [] h ce ke) (hK1795 : ∀ (h : hH), K1795 h → G x (lw_Z x.below x.args x.s) 1795 [] [] h ce ke) (hK1812 : ∀ (h : hH), K1812 h → G x (lw_Z x.below x.args x.s) 1812 [] [] h ce ke) (hK1828 : ∀ (h : hH), K1828 h → G x (lw_Z x.below x.args x.s) 1828 [] [] h ce ke) (hK1876 : ∀ (h : hH), K1876 h → G x (lw_Z x.below x.args x.s) 1876 [] [] h ce ke) (hK1893 : ∀ (h : hH), K1893 h → G x (lw_Z x.below x.args x.s) 1893 [] [] h ce ke) (hK1944 : ∀ (h : hH), K1944 h → G x (lw_Z x.below x.args x.s) 1944 [] [] h ce ke) (hK1961 : ∀ (h : hH), K1961 h → G x (lw_Z x.below x.args x.s) 1961 [] [] h ce ke) (hK2025 : ∀ (h : hH), K2025 h → G x (lw_Z x.below x.args x.s) 2025 [] [] h ce ke) (hK2038 : ∀ (h : hH), K2038 h → G x (lw_Z x.below x.args x.s) 2038 [] [] h ce ke) (hK2075 : ∀ (h : hH), K2075 h → G x (lw_Z x.below x.args x.s) 2075 [] [] h ce ke) (hK2088 : ∀ (h : hH), K2088 h → G x (lw_Z x.below x.args x.s) 2088 [] [] h ce ke) (hK2149 : ∀ (h : hH), K2149 h → G x (lw_Z x.below x.args x.s) 2149 [] [] h ce ke) (hK2174 : ∀ (h : hH), K2174 h → G x (lw_Z x.below x.args x.s) 2174 [] [] h ce ke) (hK2187 : ∀ (h : hH), K2187 h → G x (lw_Z x.below x.args x.s) 2187 [] [] h ce ke) (hK2212 : ∀ (h : hH), K2212 h → G x (lw_Z x.below x.args x.s) 2212 [] [] h ce ke) (hK2237 : ∀ (h : hH), K2237 h → G x (lw_Z x.below x.args x.s) 2237 [] [] h ce ke) (hK2274 : ∀ (h : hH), K2274 h → G x (lw_Z x.below x.args x.s) 2274 [] [] h ce ke) (hK2287 : ∀ (h : hH), K2287 h → G x (lw_Z x.below x.args x.s) 2287 [] [] h ce ke) (hK2323 : ∀ (h : hH), K2323 h → G x (lw_Z x.below x.args x.s) 2323 [] [] h ce ke) (hK2340 : ∀ (h : hH), K2340 h → G x (lw_Z x.below x.args x.s) 2340 [] [] h ce ke) (hK2368 : ∀ (h : hH), K2368 h → G x (lw_Z x.below x.args x.s) 2368 [] [] h ce ke) (hK2376 : ∀ (h : hH), K2376 h → G x (lw_Z x.below x.args x.s) 2376 [] [] h ce ke) : G x (lw_Z x.below x.args x.s) 23 [(0, aR l0), (1, aR l1), (2, aR l2), (3, aR l3), (4, aI l4)] [] h cb kb := by
  induction n generalizing l0 l1 l2 l3 l4 h cb kb with
  | zero => exact False.elim hk
  | succ n ih =>
    have hM : cb + 9000 ≤ ce := by omega
    have hS : kb + 100000 ≤ ke := by omega
    unfold f_L_law_l23 at hk
    exact G.widen (c' := cb + 0) (k' := kb + 0) (Nat.le_refl _) (Nat.le_refl _) <| g_iload F dL_law_23 4 rfl <|
g_aload_n F dL_law_25 rfl 0 rfl <|
g_aleno F dL_law_26 hk fun x475 hk =>
g_bipush F dL_law_27 bp_6 <|
g_isub F dL_law_29 <|
g_icmp_gt F dL_law_30 (tgt := 2376) rfl (fun hc => have hk := hk.1 hc
G.fewer [] rfl <| G.widen (show cb + 0 ≤ ce by omega) (show kb + 0 ≤ ke by omega) <| hK2376 h hk) (fun hc => have hk := hk.2 hc
g_aload_n F dL_law_33 rfl 0 rfl <|
g_iload F dL_law_34 4 rfl <|
g_ialdo F dL_law_36 hk fun x476 hk =>
g_bipush F dL_law_37 bp_63 <|
g_iand F dL_law_39 <|
if hc0 : (x476 &&& (63:Int32)) = (0:Int32) then (have hk := hk.1 hc0
g_tableIn (tgt := 240) (off := 200) F dL_law_40 (by rw [hc0]; decide) (by rw [hc0]; decide) (by rw [hc0]; rfl) rfl <|
s_L_law_j240 F hL hM hM2 hS hS2 l0 l1 l2 l3 l4 h hk (fun l0 l1 l2 l3 l4 h hk => ih l0 l1 l2 l3 l4 h (cb + 9000) (kb + 100000) (by omega) (by omega) hk) hK311) else have hk := hk.2 hc0
if hc1 : (x476 &&& (63:Int32)) = (1:Int32) then (have hk := hk.1 hc1
g_tableIn (tgt := 313) (off := 273) F dL_law_40 (by rw [hc1]; decide) (by rw [hc1]; decide) (by rw [hc1]; rfl) rfl <|
s_L_law_j313 F hL hM hM2 hS hS2 l0 l1 l2 l3 l4 h hk (fun l0 l1 l2 l3 l4 h hk => ih l0 l1 l2 l3 l4 h (cb + 9000) (kb + 100000) (by omega) (by omega) hk) hK336) else have hk := hk.2 hc1
if hc2 : (x476 &&& (63:Int32)) = (2:Int32) then (have hk := hk.1 hc2
g_tableIn (tgt := 338) (off := 298) F dL_law_40 (by rw [hc2]; decide) (by rw [hc2]; decide) (by rw [hc2]; rfl) rfl <|
s_L_law_j338 F hL hM hM2 hS hS2 l0 l1 l2 l3 l4 h hk (fun l0 l1 l2 l3 l4 h hk => ih l0 l1 l2 l3 l4 h (cb + 9000) (kb + 100000) (by omega) (by omega) hk) hK349) else have hk := hk.2 hc2
if hc3 : (x476 &&& (63:Int32)) = (3:Int32) then (have hk := hk.1 hc3
g_tableIn (tgt := 351) (off := 311) F dL_law_40 (by rw [hc3]; decide) (by rw [hc3]; decide) (by rw [hc3]; rfl) rfl <|
s_L_law_j351 F hL hM hM2 hS hS2 l0 l1 l2 l3 l4 h hk (fun l0 l1 l2 l3 l4 h hk => ih l0 l1 l2 l3 l4 h (cb + 9000) (kb + 100000) (by omega) (by omega) hk) hK374) else have hk := hk.2 hc3
if hc4 : (x476 &&& (63:Int32)) = (4:Int32) then (have hk := hk.1 hc4
g_tableIn (tgt := 376) (off := 336) F dL_law_40 (by rw [hc4]; decide) (by rw [hc4]; decide) (by rw [hc4]; rfl) rfl <|
s_L_law_j376 F hL hM hM2 hS hS2 l0 l1 l2 l3 l4 h hk (fun l0 l1 l2 l3 l4 h hk => ih l0 l1 l2 l3 l4 h (cb + 9000) (kb + 100000) (by omega) (by omega) hk) hK387) else have hk := hk.2 hc4
if hc5 : (x476 &&& (63:Int32)) = (5:Int32) then (have hk := hk.1 hc5
g_tableIn (tgt := 389) (off := 349) F dL_law_40 (by rw [hc5]; decide) (by rw [hc5]; decide) (by rw [hc5]; rfl) rfl <|
s_L_law_j389 F hL hM hM2 hS hS2 l0 l1 l2 l3 l4 h hk (fun l0 l1 l2 l3 l4 h hk => ih l0 l1 l2 l3 l4 h (cb + 9000) (kb + 100000) (by omega) (by omega) hk) hK412) else have hk := hk.2 hc5
if hc6 : (x476 &&& (63:Int32)) = (6:Int32) then (have hk := hk.1 hc6
g_tableIn (tgt := 414) (off := 374) F dL_law_40 (by rw [hc6]; decide) (by rw [hc6]; decide) (by rw [hc6]; rfl) rfl <|
s_L_law_j414 F hL hM hM2 hS hS2 l0 l1 l2 l3 l4 h hk (fun l0 l1 l2 l3 l4 h hk => ih l0 l1 l2 l3 l4 h (cb + 9000) (kb + 100000) (by omega) (by omega) hk) hK460 hK477) else have hk := hk.2 hc6
if hc7 : (x476 &&& (63:Int32)) = (7:Int32) then (have hk := hk.1 hc7
g_tableIn (tgt := 482) (off := 442) F dL_law_40 (by rw [hc7]; decide) (by rw [hc7]; decide) (by rw [hc7]; rfl) rfl <|
s_L_law_j482 F hL hM hM2 hS hS2 l0 l1 l2 l3 l4 h hk (fun l0 l1 l2 l3 l4 h hk => ih l0 l1 l2 l3 l4 h (cb + 9000) (kb + 100000) (by omega) (by omega) hk) hK505) else have hk := hk.2 hc7
if hc8 : (x476 &&& (63:Int32)) = (8:Int32) then (have hk := hk.1 hc8
g_tableIn (tgt := 507) (off := 467) F dL_law_40 (by rw [hc8]; decide) (by rw [hc8]; decide) (by rw [hc8]; rfl) rfl <|
s_L_law_j507 F hL hM hM2 hS hS2 l0 l1 l2 l3 l4 h hk (fun l0 l1 l2 l3 l4 h hk => ih l0 l1 l2 l3 l4 h (cb + 9000) (kb + 100000) (by omega) (by omega) hk) hK553 hK570) else have hk := hk.2 hc8
if hc9 : (x476 &&& (63:Int32)) = (9:Int32) then (have hk := hk.1 hc9
g_tableIn (tgt := 575) (off := 535) F dL_law_40 (by rw [hc9]; decide) (by rw [hc9]; decide) (by rw [hc9]; rfl) rfl <|
s_L_law_j575 F hL hM hM2 hS hS2 l0 l1 l2 l3 l4 h hk (fun l0 l1 l2 l3 l4 h hk => ih l0 l1 l2 l3 l4 h (cb + 9000) (kb + 100000) (by omega) (by omega) hk) hK609 hK626) else have hk := hk.2 hc9
if hc10 : (x476 &&& (63:Int32)) = (10:Int32) then (have hk := hk.1 hc10
g_tableIn (tgt := 631) (off := 591) F dL_law_40 (by rw [hc10]; decide) (by rw [hc10]; decide) (by rw [hc10]; rfl) rfl <|
s_L_law_j631 F hL hM hM2 hS hS2 l0 l1 l2 l3 l4 h hk (fun l0 l1 l2 l3 l4 h hk => ih l0 l1 l2 l3 l4 h (cb + 9000) (kb + 100000) (by omega) (by omega) hk) hK689 hK706) else have hk := hk.2 hc10
if hc11 : (x476 &&& (63:Int32)) = (11:Int32) then (have hk := hk.1 hc11
g_tableIn (tgt := 711) (off := 671) F dL_law_40 (by rw [hc11]; decide) (by rw [hc11]; decide) (by rw [hc11]; rfl) rfl <|
s_L_law_j711 F hL hM hM2 hS hS2 l0 l1 l2 l3 l4 h hk (fun l0 l1 l2 l3 l4 h hk => ih l0 l1 l2 l3 l4 h (cb + 9000) (kb + 100000) (by omega) (by omega) hk) hK757 hK774) else have hk := hk.2 hc11
if hc12 : (x476 &&& (63:Int32)) = (12:Int32) then (have hk := hk.1 hc12
g_tableIn (tgt := 779) (off := 739) F dL_law_40 (by rw [hc12]; decide) (by rw [hc12]; decide) (by rw [hc12]; rfl) rfl <|
s_L_law_j779 F hL hM hM2 hS hS2 l0 l1 l2 l3 l4 h hk (fun l0 l1 l2 l3 l4 h hk => ih l0 l1 l2 l3 l4 h (cb + 9000) (kb + 100000) (by omega) (by omega) hk) hK825 hK842) else have hk := hk.2 hc12
if hc13 : (x476 &&& (63:Int32)) = (13:Int32) then (have hk := hk.1 hc13
g_tableIn (tgt := 847) (off := 807) F dL_law_40 (by rw [hc13]; decide) (by rw [hc13]; decide) (by rw [hc13]; rfl) rfl <|
s_L_law_j847 F hL hM hM2 hS hS2 l0 l1 l2 l3 l4 h hk (fun l0 l1 l2 l3 l4 h hk => ih l0 l1 l2 l3 l4 h (cb + 9000) (kb + 100000) (by omega) (by omega) hk) hK893 hK910) else have hk := hk.2 hc13
if hc14 : (x476 &&& (63:Int32)) = (14:Int32) then (have hk := hk.1 hc14
g_tableIn (tgt := 915) (off := 875) F dL_law_40 (by rw [hc14]; decide) (by rw [hc14]; decide) (by rw [hc14]; rfl) rfl <|
s_L_law_j915 F hL hM hM2 hS hS2 l0 l1 l2 l3 l4 h hk (fun l0 l1 l2 l3 l4 h hk => ih l0 l1 l2 l3 l4 h (cb + 9000) (kb + 100000) (by omega) (by omega) hk) hK961 hK978) else have hk := hk.2 hc14
if hc15 : (x476 &&& (63:Int32)) = (15:Int32) then (have hk := hk.1 hc15
g_tableIn (tgt := 983) (off := 943) F dL_law_40 (by rw [hc15]; decide) (by rw [hc15]; decide) (by rw [hc15]; rfl) rfl <|
s_L_law_j983 F hL hM hM2 hS hS2 l0 l1 l2 l3 l4 h hk (fun l0 l1 l2 l3 l4 h hk => ih l0 l1 l2 l3 l4 h (cb + 9000) (kb + 100000) (by omega) (by omega) hk) hK1029 hK1046) else have hk := hk.2 hc15
if hc16 : (x476 &&& (63:Int32)) = (16:Int32) then (have hk := hk.1 hc16
g_tableIn (tgt := 1051) (off := 1011) F dL_law_40 (by rw [hc16]; decide) (by rw [hc16]; decide) (by rw [hc16]; rfl) rfl <|
s_L_law_j1051 F hL hM hM2 hS hS2 l0 l1 l2 l3 l4 h hk (fun l0 l1 l2 l3 l4 h hk => ih l0 l1 l2 l3 l4 h (cb + 9000) (kb + 100000) (by omega) (by omega) hk) hK1097 hK1121) else have hk := hk.2 hc16
if hc17 : (x476 &&& (63:Int32)) = (17:Int32) then (have hk := hk.1 hc17
g_tableIn (tgt := 1126) (off := 1086) F dL_law_40 (by rw [hc17]; decide) (by rw [hc17]; decide) (by rw [hc17]; rfl) rfl <|
s_L_law_j1126 F hL hM hM2 hS hS2 l0 l1 l2 l3 l4 h hk (fun l0 l1 l2 l3 l4 h hk => ih l0 l1 l2 l3 l4 h (cb + 9000) (kb + 100000) (by omega) (by omega) hk) hK1172 hK1189) else have hk := hk.2 hc17
if hc18 : (x476 &&& (63:Int32)) = (18:Int32) then (have hk := hk.1 hc18
g_tableIn (tgt := 1194) (off := 1154) F dL_law_40 (by rw [hc18]; decide) (by rw [hc18]; decide) (by rw [hc18]; rfl) rfl <|
s_L_law_j1194 F hL hM hM2 hS hS2 l0 l1 l2 l3 l4 h hk (fun l0 l1 l2 l3 l4 h hk => ih l0 l1 l2 l3 l4 h (cb + 9000) (kb + 100000) (by omega) (by omega) hk) hK1240 hK1257) else have hk := hk.2 hc18
if hc19 : (x476 &&& (63:Int32)) = (19:Int32) then (have hk := hk.1 hc19
g_tableIn (tgt := 1262) (off := 1222) F dL_law_40 (by rw [hc19]; decide) (by rw [hc19]; decide) (by rw [hc19]; rfl) rfl <|
s_L_law_j1262 F hL hM hM2 hS hS2 l0 l1 l2 l3 l4 h hk (fun l0 l1 l2 l3 l4 h hk => ih l0 l1 l2 l3 l4 h (cb + 9000) (kb + 100000) (by omega) (by omega) hk) hK1308 hK1325) else have hk := hk.2 hc19
if hc20 : (x476 &&& (63:Int32)) = (20:Int32) then (have hk := hk.1 hc20
g_tableIn (tgt := 1330) (off := 1290) F dL_law_40 (by rw [hc20]; decide) (by rw [hc20]; decide) (by rw [hc20]; rfl) rfl <|
s_L_law_j1330 F hL hM hM2 hS hS2 l0 l1 l2 l3 l4 h hk (fun l0 l1 l2 l3 l4 h hk => ih l0 l1 l2 l3 l4 h (cb + 9000) (kb + 100000) (by omega) (by omega) hk) hK1376 hK1393) else have hk := hk.2 hc20
if hc21 : (x476 &&& (63:Int32)) = (21:Int32) then (have hk := hk.1 hc21
g_tableIn (tgt := 1398) (off := 1358) F dL_law_40 (by rw [hc21]; decide) (by rw [hc21]; decide) (by rw [hc21]; rfl) rfl <|
s_L_law_j1398 F hL hM hM2 hS hS2 l0 l1 l2 l3 l4 h hk (fun l0 l1 l2 l3 l4 h hk => ih l0 l1 l2 l3 l4 h (cb + 9000) (kb + 100000) (by omega) (by omega) hk) hK1421) else have hk := hk.2 hc21
if hc22 : (x476 &&& (63:Int32)) = (22:Int32) then (have hk := hk.1 hc22
g_tableIn (tgt := 1423) (off := 1383) F dL_law_40 (by rw [hc22]; decide) (by rw [hc22]; decide) (by rw [hc22]; rfl) rfl <|
s_L_law_j1423 F hL hM hM2 hS hS2 l0 l1 l2 l3 l4 h hk (fun l0 l1 l2 l3 l4 h hk => ih l0 l1 l2 l3 l4 h (cb + 9000) (kb + 100000) (by omega) (by omega) hk) hK1457 hK1481) else have hk := hk.2 hc22
if hc23 : (x476 &&& (63:Int32)) = (23:Int32) then (have hk := hk.1 hc23
g_tableIn (tgt := 1486) (off := 1446) F dL_law_40 (by rw [hc23]; decide) (by rw [hc23]; decide) (by rw [hc23]; rfl) rfl <|
s_L_law_j1486 F hL hM hM2 hS hS2 l0 l1 l2 l3 l4 h hk (fun l0 l1 l2 l3 l4 h hk => ih l0 l1 l2 l3 l4 h (cb + 9000) (kb + 100000) (by omega) (by omega) hk) hK1497) else have hk := hk.2 hc23
if hc24 : (x476 &&& (63:Int32)) = (24:Int32) then (have hk := hk.1 hc24
g_tableIn (tgt := 1499) (off := 1459) F dL_law_40 (by rw [hc24]; decide) (by rw [hc24]; decide) (by rw [hc24]; rfl) rfl <|
s_L_law_j1499 F hL hM hM2 hS hS2 l0 l1 l2 l3 l4 h hk (fun l0 l1 l2 l3 l4 h hk => ih l0 l1 l2 l3 l4 h (cb + 9000) (kb + 100000) (by omega) (by omega) hk) hK1533 hK1550) else have hk := hk.2 hc24
if hc25 : (x476 &&& (63:Int32)) = (25:Int32) then (have hk := hk.1 hc25
g_tableIn (tgt := 1555) (off := 1515) F dL_law_40 (by rw [hc25]; decide) (by rw [hc25]; decide) (by rw [hc25]; rfl) rfl <|
s_L_law_j1555 F hL hM hM2 hS hS2 l0 l1 l2 l3 l4 h hk (fun l0 l1 l2 l3 l4 h hk => ih l0 l1 l2 l3 l4 h (cb + 9000) (kb + 100000) (by omega) (by omega) hk) hK1589 hK1606) else have hk := hk.2 hc25
if hc26 : (x476 &&& (63:Int32)) = (26:Int32) then (have hk := hk.1 hc26
g_tableIn (tgt := 1611) (off := 1571) F dL_law_40 (by rw [hc26]; decide) (by rw [hc26]; decide) (by rw [hc26]; rfl) rfl <|
s_L_law_j1611 F hL hM hM2 hS hS2 l0 l1 l2 l3 l4 h hk (fun l0 l1 l2 l3 l4 h hk => ih l0 l1 l2 l3 l4 h (cb + 9000) (kb + 100000) (by omega) (by omega) hk) hK1650) else have hk := hk.2 hc26
if hc27 : (x476 &&& (63:Int32)) = (27:Int32) then (have hk := hk.1 hc27
g_tableIn (tgt := 1652) (off := 1612) F dL_law_40 (by rw [hc27]; decide) (by rw [hc27]; decide) (by rw [hc27]; rfl) rfl <|
s_L_law_j1652 F hL hM hM2 hS hS2 l0 l1 l2 l3 l4 h hk (fun l0 l1 l2 l3 l4 h hk => ih l0 l1 l2 l3 l4 h (cb + 9000) (kb + 100000) (by omega) (by omega) hk) hK1686 hK1703) else have hk := hk.2 hc27
if hc28 : (x476 &&& (63:Int32)) = (28:Int32) then (have hk := hk.1 hc28
g_tableIn (tgt := 1708) (off := 1668) F dL_law_40 (by rw [hc28]; decide) (by rw [hc28]; decide) (by rw [hc28]; rfl) rfl <|
s_L_law_j1708 F hL hM hM2 hS hS2 l0 l1 l2 l3 l4 h hk (fun l0 l1 l2 l3 l4 h hk => ih l0 l1 l2 l3 l4 h (cb + 9000) (kb + 100000) (by omega) (by omega) hk) hK1744) else have hk := hk.2 hc28
if hc29 : (x476 &&& (63:Int32)) = (29:Int32) then (have hk := hk.1 hc29
g_tableIn (tgt := 1749) (off := 1709) F dL_law_40 (by rw [hc29]; decide) (by rw [hc29]; decide) (by rw [hc29]; rfl) rfl <|
s_L_law_j1749 F hL hM hM2 hS hS2 l0 l1 l2 l3 l4 h hk (fun l0 l1 l2 l3 l4 h hk => ih l0 l1 l2 l3 l4 h (cb + 9000) (kb + 100000) (by omega) (by omega) hk) hK1795 hK1812) else have hk := hk.2 hc29
if hc30 : (x476 &&& (63:Int32)) = (30:Int32) then (have hk := hk.1 hc30
g_tableIn (tgt := 1817) (off := 1777) F dL_law_40 (by rw [hc30]; decide) (by rw [hc30]; decide) (by rw [hc30]; rfl) rfl <|
s_L_law_j1817 F hL hM hM2 hS hS2 l0 l1 l2 l3 l4 h hk (fun l0 l1 l2 l3 l4 h hk => ih l0 l1 l2 l3 l4 h (cb + 9000) (kb + 100000) (by omega) (by omega) hk) hK1828) else have hk := hk.2 hc30
if hc31 : (x476 &&& (63:Int32)) = (31:Int32) then (have hk := hk.1 hc31
g_tableIn (tgt := 1830) (off := 1790) F dL_law_40 (by rw [hc31]; decide) (by rw [hc31]; decide) (by rw [hc31]; rfl) rfl <|
s_L_law_j1830 F hL hM hM2 hS hS2 l0 l1 l2 l3 l4 h hk (fun l0 l1 l2 l3 l4 h hk => ih l0 l1 l2 l3 l4 h (cb + 9000) (kb + 100000) (by omega) (by omega) hk) hK1876 hK1893) else have hk := hk.2 hc31
if hc32 : (x476 &&& (63:Int32)) = (32:Int32) then (have hk := hk.1 hc32
g_tableIn (tgt := 1898) (off := 1858) F dL_law_40 (by rw [hc32]; decide) (by rw [hc32]; decide) (by rw [hc32]; rfl) rfl <|
s_L_law_j1898 F hL hM hM2 hS hS2 l0 l1 l2 l3 l4 h hk (fun l0 l1 l2 l3 l4 h hk => ih l0 l1 l2 l3 l4 h (cb + 9000) (kb + 100000) (by omega) (by omega) hk) hK1944 hK1961) else have hk := hk.2 hc32
if hc33 : (x476 &&& (63:Int32)) = (33:Int32) then (have hk := hk.1 hc33
g_tableIn (tgt := 1966) (off := 1926) F dL_law_40 (by rw [hc33]; decide) (by rw [hc33]; decide) (by rw [hc33]; rfl) rfl <|
s_L_law_j1966 F hL hM hM2 hS hS2 l0 l1 l2 l3 l4 h hk (fun l0 l1 l2 l3 l4 h hk => ih l0 l1 l2 l3 l4 h (cb + 9000) (kb + 100000) (by omega) (by omega) hk) hK2025) else have hk := hk.2 hc33
if hc34 : (x476 &&& (63:Int32)) = (34:Int32) then (have hk := hk.1 hc34
g_tableIn (tgt := 2027) (off := 1987) F dL_law_40 (by rw [hc34]; decide) (by rw [hc34]; decide) (by rw [hc34]; rfl) rfl <|
s_L_law_j2027 F hL hM hM2 hS hS2 l0 l1 l2 l3 l4 h hk (fun l0 l1 l2 l3 l4 h hk => ih l0 l1 l2 l3 l4 h (cb + 9000) (kb + 100000) (by omega) (by omega) hk) hK2038) else have hk := hk.2 hc34
if hc35 : (x476 &&& (63:Int32)) = (35:Int32) then (have hk := hk.1 hc35
g_tableIn (tgt := 2040) (off := 2000) F dL_law_40 (by rw [hc35]; decide) (by rw [hc35]; decide) (by rw [hc35]; rfl) rfl <|
s_L_law_j2040 F hL hM hM2 hS hS2 l0 l1 l2 l3 l4 h hk (fun l0 l1 l2 l3 l4 h hk => ih l0 l1 l2 l3 l4 h (cb + 9000) (kb + 100000) (by omega) (by omega) hk) hK2075) else have hk := hk.2 hc35
if hc36 : (x476 &&& (63:Int32)) = (36:Int32) then (have hk := hk.1 hc36
g_tableIn (tgt := 2077) (off := 2037) F dL_law_40 (by rw [hc36]; decide) (by rw [hc36]; decide) (by rw [hc36]; rfl) rfl <|
s_L_law_j2077 F hL hM hM2 hS hS2 l0 l1 l2 l3 l4 h hk (fun l0 l1 l2 l3 l4 h hk => ih l0 l1 l2 l3 l4 h (cb + 9000) (kb + 100000) (by omega) (by omega) hk) hK2088) else have hk := hk.2 hc36
if hc37 : (x476 &&& (63:Int32)) = (37:Int32) then (have hk := hk.1 hc37
g_tableIn (tgt := 2090) (off := 2050) F dL_law_40 (by rw [hc37]; decide) (by rw [hc37]; decide) (by rw [hc37]; rfl) rfl <|
s_L_law_j2090 F hL hM hM2 hS hS2 l0 l1 l2 l3 l4 h hk (fun l0 l1 l2 l3 l4 h hk => ih l0 l1 l2 l3 l4 h (cb + 9000) (kb + 100000) (by omega) (by omega) hk) hK2149) else have hk := hk.2 hc37
if hc38 : (x476 &&& (63:Int32)) = (38:Int32) then (have hk := hk.1 hc38
g_tableIn (tgt := 2151) (off := 2111) F dL_law_40 (by rw [hc38]; decide) (by rw [hc38]; decide) (by rw [hc38]; rfl) rfl <|
s_L_law_j2151 F hL hM hM2 hS hS2 l0 l1 l2 l3 l4 h hk (fun l0 l1 l2 l3 l4 h hk => ih l0 l1 l2 l3 l4 h (cb + 9000) (kb + 100000) (by omega) (by omega) hk) hK2174) else have hk := hk.2 hc38
if hc39 : (x476 &&& (63:Int32)) = (39:Int32) then (have hk := hk.1 hc39
g_tableIn (tgt := 2176) (off := 2136) F dL_law_40 (by rw [hc39]; decide) (by rw [hc39]; decide) (by rw [hc39]; rfl) rfl <|
s_L_law_j2176 F hL hM hM2 hS hS2 l0 l1 l2 l3 l4 h hk (fun l0 l1 l2 l3 l4 h hk => ih l0 l1 l2 l3 l4 h (cb + 9000) (kb + 100000) (by omega) (by omega) hk) hK2187) else have hk := hk.2 hc39
if hc40 : (x476 &&& (63:Int32)) = (40:Int32) then (have hk := hk.1 hc40
g_tableIn (tgt := 2189) (off := 2149) F dL_law_40 (by rw [hc40]; decide) (by rw [hc40]; decide) (by rw [hc40]; rfl) rfl <|
s_L_law_j2189 F hL hM hM2 hS hS2 l0 l1 l2 l3 l4 h hk (fun l0 l1 l2 l3 l4 h hk => ih l0 l1 l2 l3 l4 h (cb + 9000) (kb + 100000) (by omega) (by omega) hk) hK2212) else have hk := hk.2 hc40
if hc41 : (x476 &&& (63:Int32)) = (41:Int32) then (have hk := hk.1 hc41
g_tableIn (tgt := 2214) (off := 2174) F dL_law_40 (by rw [hc41]; decide) (by rw [hc41]; decide) (by rw [hc41]; rfl) rfl <|
s_L_law_j2214 F hL hM hM2 hS hS2 l0 l1 l2 l3 l4 h hk (fun l0 l1 l2 l3 l4 h hk => ih l0 l1 l2 l3 l4 h (cb + 9000) (kb + 100000) (by omega) (by omega) hk) hK2237) else have hk := hk.2 hc41
if hc42 : (x476 &&& (63:Int32)) = (42:Int32) then (have hk := hk.1 hc42
g_tableIn (tgt := 2239) (off := 2199) F dL_law_40 (by rw [hc42]; decide) (by rw [hc42]; decide) (by rw [hc42]; rfl) rfl <|
s_L_law_j2239 F hL hM hM2 hS hS2 l0 l1 l2 l3 l4 h hk (fun l0 l1 l2 l3 l4 h hk => ih l0 l1 l2 l3 l4 h (cb + 9000) (kb + 100000) (by omega) (by omega) hk) hK2274) else have hk := hk.2 hc42
if hc43 : (x476 &&& (63:Int32)) = (43:Int32) then (have hk := hk.1 hc43
g_tableIn (tgt := 2276) (off := 2236) F dL_law_40 (by rw [hc43]; decide) (by rw [hc43]; decide) (by rw [hc43]; rfl) rfl <|
s_L_law_j2276 F hL hM hM2 hS hS2 l0 l1 l2 l3 l4 h hk (fun l0 l1 l2 l3 l4 h hk => ih l0 l1 l2 l3 l4 h (cb + 9000) (kb + 100000) (by omega) (by omega) hk) hK2287) else have hk := hk.2 hc43
if hc44 : (x476 &&& (63:Int32)) = (44:Int32) then (have hk := hk.1 hc44
g_tableIn (tgt := 2289) (off := 2249) F dL_law_40 (by rw [hc44]; decide) (by rw [hc44]; decide) (by rw [hc44]; rfl) rfl <|
s_L_law_j2289 F hL hM hM2 hS hS2 l0 l1 l2 l3 l4 h hk (fun l0 l1 l2 l3 l4 h hk => ih l0 l1 l2 l3 l4 h (cb + 9000) (kb + 100000) (by omega) (by omega) hk) hK2323 hK2340) else have hk := hk.2 hc44
if hc45 : (x476 &&& (63:Int32)) = (45:Int32) then (have hk := hk.1 hc45
g_tableIn (tgt := 2345) (off := 2305) F dL_law_40 (by rw [hc45]; decide) (by rw [hc45]; decide) (by rw [hc45]; rfl) rfl <|
s_L_law_j2345 F hL hM hM2 hS hS2 l0 l1 l2 l3 l4 h hk (fun l0 l1 l2 l3 l4 h hk => ih l0 l1 l2 l3 l4 h (cb + 9000) (kb + 100000) (by omega) (by omega) hk) hK2368) else have hk := hk.2 hc45
g_tableOut (tgt := 2370) F dL_law_40 (sw_out_0_to_45 hc0 hc1 hc2 hc3 hc4 hc5 hc6 hc7 hc8 hc9 hc10 hc11 hc12 hc13 hc14 hc15 hc16 hc17 hc18 hc19 hc20 hc21 hc22 hc23 hc24 hc25 hc26 hc27 hc28 hc29 hc30 hc31 hc32 hc33 hc34 hc35 hc36 hc37 hc38 hc39 hc40 hc41 hc42 hc43 hc44 hc45) rfl <|
g_iinc (v := (l4 + (6:Int32))) F dL_law_2370 (j := 4) rfl (iinc_6 l4) (Nat.le_of_ble_eq_true rfl) rfl <|
g_goto F dL_law_2373 (tgt := 23) rfl <|
G.fewer [1, 2, 3, 4, 0] rfl <| G.widen (show cb + 0 ≤ cb + 9000 by omega) (show kb + 0 ≤ kb + 100000 by omega) <| (fun l0 l1 l2 l3 l4 h hk => ih l0 l1 l2 l3 l4 h (cb + 9000) (kb + 100000) (by omega) (by omega) hk) l0 l1 l2 l3 (l4 + (6:Int32)) h hk)
theorem m_L_law {x : Cx} (F : Fx x cL_law "LockstepRoomLaw" 9 (some .boolean) rmL_law) (v0 : Option Nat) (h : hH) (Q : Int32 → hH → Prop) (hL : lawX x Q) (hk : f_L_law x.S.E v0 h Q) : G x (lw_Z x.below x.args x.s) 0 (aArgs 0 [aR v0]) [] h 0 0 := by
  unfold f_L_law at hk
  have hM : 0 + 603072 ≤ 603072 := by omega
  have hS : 0 + 7178346 ≤ 7178346 := by omega
  refine G.widen (c' := 0 + 0) (k' := 0 + 0) (Nat.le_refl 0) (Nat.le_refl 0) ?_
  exact g_new (fs := [va_rf none, va_rf none, va_rf none, .int 0, .int 0, va_rf none]) F dL_law_0 ck_X1 ct_X1 q176 q177 q111 df_X1 (show 0 + 0 + 1 ≤ 603072 by omega) (show 0 + 0 + 6 ≤ 7178346 by omega) hk fun q477 h478 hk =>
g_dup F dL_law_3 rfl <|
g_callv (g_I F dL_law_4 q178 mc_X1_init (rm' := rmX1_init) ⟨Nat.le_of_ble_eq_true rfl, Nat.le_of_ble_eq_true rfl⟩ ⟨show 0 + 0 + 1 + 20 ≤ 603072 by omega, show 0 + 0 + 6 + 999 ≤ 7178346 by omega⟩ (As := []) (rest := [aR (some q477)]) rfl rfl (Nat.le_of_ble_eq_true rfl) (m_X1_init F.ok q477 h478 _ hk)) fun h479 hk =>
g_astore_n F dL_law_7 rfl (Nat.le_of_ble_eq_true rfl) rfl <|
g_new (fs := [.int 0, va_rf none, .int 0, va_rf none, va_rf none, va_rf none, va_rf none, va_rf none, .int 0, va_rf none, va_rf none, va_rf none, .int 0, .int 0, .int 0, .int 0, .int 0, .int 0, .int 0, .int 0, .int 0, .int 0, .int 0, .int 0, .int 0, va_rf none, .int 0]) F dL_law_8 ck_X5 ct_X5 q2993 q2994 q125 df_X5 (show 0 + 0 + 1 + 20 + 1 ≤ 603072 by omega) (show 0 + 0 + 6 + 999 + 27 ≤ 7178346 by omega) hk fun q480 h481 hk =>
g_dup F dL_law_11 rfl <|
g_callv (g_I F dL_law_12 q2995 mc_X5_init (rm' := rmX5_init) ⟨Nat.le_of_ble_eq_true rfl, Nat.le_of_ble_eq_true rfl⟩ ⟨show 0 + 0 + 1 + 20 + 1 + 10 ≤ 603072 by omega, show 0 + 0 + 6 + 999 + 27 + 22498 ≤ 7178346 by omega⟩ (As := []) (rest := [aR (some q480)]) rfl rfl (Nat.le_of_ble_eq_true rfl) (m_X5_init F.ok q480 h481 _ hk)) fun h482 hk =>
g_astore_n F dL_law_15 rfl (Nat.le_of_ble_eq_true rfl) rfl <|
g_iconst F dL_law_16 ic_1 <|
g_newL F dL_law_17 q3568 (Nat.le_of_ble_eq_true rfl) (Nat.le_of_ble_eq_true rfl) (show 0 + 0 + 1 + 20 + 1 + 10 + 1 ≤ 603072 by omega) (show 0 + 0 + 6 + 999 + 27 + 22498 + 1 ≤ 7178346 by omega) hk fun q483 h484 hk =>
g_astore_n F dL_law_19 rfl (Nat.le_of_ble_eq_true rfl) rfl <|
g_iconst F dL_law_20 ic_0 <|
g_istore F dL_law_21 (Nat.le_of_ble_eq_true rfl) rfl <|
G.fewer [4, 3, 2, 1, 0] rfl <| G.widen (show 0 + 0 + 1 + 20 + 1 + 10 + 1 ≤ 0 + 33 by omega) (show 0 + 0 + 6 + 999 + 27 + 22498 + 1 ≤ 0 + 23531 by omega) <| s_L_law_l23 F hL (ce := 0 + 585033) (ke := 0 + 6523531) (show 0 + 585033 ≤ 603072 by omega) (show 0 + 6523531 ≤ 7178346 by omega) 65 v0 (some q477) (some q480) (some q483) (0:Int32) h484 (0 + 33) (0 + 23531) (show 0 + 33 + 65 * 9000 ≤ 0 + 585033 by omega) (show 0 + 23531 + 65 * 100000 ≤ 0 + 6523531 by omega) hk ((fun h hk => g_iconst F dL_law_311 ic_0 <|
g_lawret F hL dL_law_312 (show 0 + 585033 ≤ 603072 by omega) (show 0 + 6523531 ≤ 7178346 by omega) hk)) ((fun h hk => g_iconst F dL_law_336 ic_0 <|
g_lawret F hL dL_law_337 (show 0 + 585033 ≤ 603072 by omega) (show 0 + 6523531 ≤ 7178346 by omega) hk)) ((fun h hk => g_iconst F dL_law_349 ic_0 <|
g_lawret F hL dL_law_350 (show 0 + 585033 ≤ 603072 by omega) (show 0 + 6523531 ≤ 7178346 by omega) hk)) ((fun h hk => g_iconst F dL_law_374 ic_0 <|
g_lawret F hL dL_law_375 (show 0 + 585033 ≤ 603072 by omega) (show 0 + 6523531 ≤ 7178346 by omega) hk)) ((fun h hk => g_iconst F dL_law_387 ic_0 <|
g_lawret F hL dL_law_388 (show 0 + 585033 ≤ 603072 by omega) (show 0 + 6523531 ≤ 7178346 by omega) hk)) ((fun h hk => g_iconst F dL_law_412 ic_0 <|
g_lawret F hL dL_law_413 (show 0 + 585033 ≤ 603072 by omega) (show 0 + 6523531 ≤ 7178346 by omega) hk)) ((fun h hk => g_iconst F dL_law_460 ic_0 <|
g_lawret F hL dL_law_461 (show 0 + 585033 ≤ 603072 by omega) (show 0 + 6523531 ≤ 7178346 by omega) hk)) ((fun h hk => g_iconst F dL_law_477 ic_0 <|
g_lawret F hL dL_law_478 (show 0 + 585033 ≤ 603072 by omega) (show 0 + 6523531 ≤ 7178346 by omega) hk)) ((fun h hk => g_iconst F dL_law_505 ic_0 <|
g_lawret F hL dL_law_506 (show 0 + 585033 ≤ 603072 by omega) (show 0 + 6523531 ≤ 7178346 by omega) hk)) ((fun h hk => g_iconst F dL_law_553 ic_0 <|
g_lawret F hL dL_law_554 (show 0 + 585033 ≤ 603072 by omega) (show 0 + 6523531 ≤ 7178346 by omega) hk)) ((fun h hk => g_iconst F dL_law_570 ic_0 <|
g_lawret F hL dL_law_571 (show 0 + 585033 ≤ 603072 by omega) (show 0 + 6523531 ≤ 7178346 by omega) hk)) ((fun h hk => g_iconst F dL_law_609 ic_0 <|
g_lawret F hL dL_law_610 (show 0 + 585033 ≤ 603072 by omega) (show 0 + 6523531 ≤ 7178346 by omega) hk)) ((fun h hk => g_iconst F dL_law_626 ic_0 <|
g_lawret F hL dL_law_627 (show 0 + 585033 ≤ 603072 by omega) (show 0 + 6523531 ≤ 7178346 by omega) hk)) ((fun h hk => g_iconst F dL_law_689 ic_0 <|
g_lawret F hL dL_law_690 (show 0 + 585033 ≤ 603072 by omega) (show 0 + 6523531 ≤ 7178346 by omega) hk)) ((fun h hk => g_iconst F dL_law_706 ic_0 <|
g_lawret F hL dL_law_707 (show 0 + 585033 ≤ 603072 by omega) (show 0 + 6523531 ≤ 7178346 by omega) hk)) ((fun h hk => g_iconst F dL_law_757 ic_0 <|
g_lawret F hL dL_law_758 (show 0 + 585033 ≤ 603072 by omega) (show 0 + 6523531 ≤ 7178346 by omega) hk)) ((fun h hk => g_iconst F dL_law_774 ic_0 <|
g_lawret F hL dL_law_775 (show 0 + 585033 ≤ 603072 by omega) (show 0 + 6523531 ≤ 7178346 by omega) hk)) ((fun h hk => g_iconst F dL_law_825 ic_0 <|
g_lawret F hL dL_law_826 (show 0 + 585033 ≤ 603072 by omega) (show 0 + 6523531 ≤ 7178346 by omega) hk)) ((fun h hk => g_iconst F dL_law_842 ic_0 <|
g_lawret F hL dL_law_843 (show 0 + 585033 ≤ 603072 by omega) (show 0 + 6523531 ≤ 7178346 by omega) hk)) ((fun h hk => g_iconst F dL_law_893 ic_0 <|
g_lawret F hL dL_law_894 (show 0 + 585033 ≤ 603072 by omega) (show 0 + 6523531 ≤ 7178346 by omega) hk)) ((fun h hk => g_iconst F dL_law_910 ic_0 <|
g_lawret F hL dL_law_911 (show 0 + 585033 ≤ 603072 by omega) (show 0 + 6523531 ≤ 7178346 by omega) hk)) ((fun h hk => g_iconst F dL_law_961 ic_0 <|
g_lawret F hL dL_law_962 (show 0 + 585033 ≤ 603072 by omega) (show 0 + 6523531 ≤ 7178346 by omega) hk)) ((fun h hk => g_iconst F dL_law_978 ic_0 <|
g_lawret F hL dL_law_979 (show 0 + 585033 ≤ 603072 by omega) (show 0 + 6523531 ≤ 7178346 by omega) hk)) ((fun h hk => g_iconst F dL_law_1029 ic_0 <|
g_lawret F hL dL_law_1030 (show 0 + 585033 ≤ 603072 by omega) (show 0 + 6523531 ≤ 7178346 by omega) hk)) ((fun h hk => g_iconst F dL_law_1046 ic_0 <|
g_lawret F hL dL_law_1047 (show 0 + 585033 ≤ 603072 by omega) (show 0 + 6523531 ≤ 7178346 by omega) hk)) ((fun h hk => g_iconst F dL_law_1097 ic_0 <|
g_lawret F hL dL_law_1098 (show 0 + 585033 ≤ 603072 by omega) (show 0 + 6523531 ≤ 7178346 by omega) hk)) ((fun h hk => g_iconst F dL_law_1121 ic_0 <|
g_lawret F hL dL_law_1122 (show 0 + 585033 ≤ 603072 by omega) (show 0 + 6523531 ≤ 7178346 by omega) hk)) ((fun h hk => g_iconst F dL_law_1172 ic_0 <|
g_lawret F hL dL_law_1173 (show 0 + 585033 ≤ 603072 by omega) (show 0 + 6523531 ≤ 7178346 by omega) hk)) ((fun h hk => g_iconst F dL_law_1189 ic_0 <|
g_lawret F hL dL_law_1190 (show 0 + 585033 ≤ 603072 by omega) (show 0 + 6523531 ≤ 7178346 by omega) hk)) ((fun h hk => g_iconst F dL_law_1240 ic_0 <|
g_lawret F hL dL_law_1241 (show 0 + 585033 ≤ 603072 by omega) (show 0 + 6523531 ≤ 7178346 by omega) hk)) ((fun h hk => g_iconst F dL_law_1257 ic_0 <|
g_lawret F hL dL_law_1258 (show 0 + 585033 ≤ 603072 by omega) (show 0 + 6523531 ≤ 7178346 by omega) hk)) ((fun h hk => g_iconst F dL_law_1308 ic_0 <|
g_lawret F hL dL_law_1309 (show 0 + 585033 ≤ 603072 by omega) (show 0 + 6523531 ≤ 7178346 by omega) hk)) ((fun h hk => g_iconst F dL_law_1325 ic_0 <|
g_lawret F hL dL_law_1326 (show 0 + 585033 ≤ 603072 by omega) (show 0 + 6523531 ≤ 7178346 by omega) hk)) ((fun h hk => g_iconst F dL_law_1376 ic_0 <|
g_lawret F hL dL_law_1377 (show 0 + 585033 ≤ 603072 by omega) (show 0 + 6523531 ≤ 7178346 by omega) hk)) ((fun h hk => g_iconst F dL_law_1393 ic_0 <|
g_lawret F hL dL_law_1394 (show 0 + 585033 ≤ 603072 by omega) (show 0 + 6523531 ≤ 7178346 by omega) hk)) ((fun h hk => g_iconst F dL_law_1421 ic_0 <|
g_lawret F hL dL_law_1422 (show 0 + 585033 ≤ 603072 by omega) (show 0 + 6523531 ≤ 7178346 by omega) hk)) ((fun h hk => g_iconst F dL_law_1457 ic_0 <|
g_lawret F hL dL_law_1458 (show 0 + 585033 ≤ 603072 by omega) (show 0 + 6523531 ≤ 7178346 by omega) hk)) ((fun h hk => g_iconst F dL_law_1481 ic_0 <|
g_lawret F hL dL_law_1482 (show 0 + 585033 ≤ 603072 by omega) (show 0 + 6523531 ≤ 7178346 by omega) hk)) ((fun h hk => g_iconst F dL_law_1497 ic_0 <|
g_lawret F hL dL_law_1498 (show 0 + 585033 ≤ 603072 by omega) (show 0 + 6523531 ≤ 7178346 by omega) hk)) ((fun h hk => g_iconst F dL_law_1533 ic_0 <|
g_lawret F hL dL_law_1534 (show 0 + 585033 ≤ 603072 by omega) (show 0 + 6523531 ≤ 7178346 by omega) hk)) ((fun h hk => g_iconst F dL_law_1550 ic_0 <|
g_lawret F hL dL_law_1551 (show 0 + 585033 ≤ 603072 by omega) (show 0 + 6523531 ≤ 7178346 by omega) hk)) ((fun h hk => g_iconst F dL_law_1589 ic_0 <|
g_lawret F hL dL_law_1590 (show 0 + 585033 ≤ 603072 by omega) (show 0 + 6523531 ≤ 7178346 by omega) hk)) ((fun h hk => g_iconst F dL_law_1606 ic_0 <|
g_lawret F hL dL_law_1607 (show 0 + 585033 ≤ 603072 by omega) (show 0 + 6523531 ≤ 7178346 by omega) hk)) ((fun h hk => g_iconst F dL_law_1650 ic_0 <|
g_lawret F hL dL_law_1651 (show 0 + 585033 ≤ 603072 by omega) (show 0 + 6523531 ≤ 7178346 by omega) hk)) ((fun h hk => g_iconst F dL_law_1686 ic_0 <|
g_lawret F hL dL_law_1687 (show 0 + 585033 ≤ 603072 by omega) (show 0 + 6523531 ≤ 7178346 by omega) hk)) ((fun h hk => g_iconst F dL_law_1703 ic_0 <|
g_lawret F hL dL_law_1704 (show 0 + 585033 ≤ 603072 by omega) (show 0 + 6523531 ≤ 7178346 by omega) hk)) ((fun h hk => g_iconst F dL_law_1744 ic_0 <|
g_lawret F hL dL_law_1745 (show 0 + 585033 ≤ 603072 by omega) (show 0 + 6523531 ≤ 7178346 by omega) hk)) ((fun h hk => g_iconst F dL_law_1795 ic_0 <|
g_lawret F hL dL_law_1796 (show 0 + 585033 ≤ 603072 by omega) (show 0 + 6523531 ≤ 7178346 by omega) hk)) ((fun h hk => g_iconst F dL_law_1812 ic_0 <|
g_lawret F hL dL_law_1813 (show 0 + 585033 ≤ 603072 by omega) (show 0 + 6523531 ≤ 7178346 by omega) hk)) ((fun h hk => g_iconst F dL_law_1828 ic_0 <|
g_lawret F hL dL_law_1829 (show 0 + 585033 ≤ 603072 by omega) (show 0 + 6523531 ≤ 7178346 by omega) hk)) ((fun h hk => g_iconst F dL_law_1876 ic_0 <|
g_lawret F hL dL_law_1877 (show 0 + 585033 ≤ 603072 by omega) (show 0 + 6523531 ≤ 7178346 by omega) hk)) ((fun h hk => g_iconst F dL_law_1893 ic_0 <|
g_lawret F hL dL_law_1894 (show 0 + 585033 ≤ 603072 by omega) (show 0 + 6523531 ≤ 7178346 by omega) hk)) ((fun h hk => g_iconst F dL_law_1944 ic_0 <|
g_lawret F hL dL_law_1945 (show 0 + 585033 ≤ 603072 by omega) (show 0 + 6523531 ≤ 7178346 by omega) hk)) ((fun h hk => g_iconst F dL_law_1961 ic_0 <|
g_lawret F hL dL_law_1962 (show 0 + 585033 ≤ 603072 by omega) (show 0 + 6523531 ≤ 7178346 by omega) hk)) ((fun h hk => g_iconst F dL_law_2025 ic_0 <|
g_lawret F hL dL_law_2026 (show 0 + 585033 ≤ 603072 by omega) (show 0 + 6523531 ≤ 7178346 by omega) hk)) ((fun h hk => g_iconst F dL_law_2038 ic_0 <|
g_lawret F hL dL_law_2039 (show 0 + 585033 ≤ 603072 by omega) (show 0 + 6523531 ≤ 7178346 by omega) hk)) ((fun h hk => g_iconst F dL_law_2075 ic_0 <|
g_lawret F hL dL_law_2076 (show 0 + 585033 ≤ 603072 by omega) (show 0 + 6523531 ≤ 7178346 by omega) hk)) ((fun h hk => g_iconst F dL_law_2088 ic_0 <|
g_lawret F hL dL_law_2089 (show 0 + 585033 ≤ 603072 by omega) (show 0 + 6523531 ≤ 7178346 by omega) hk)) ((fun h hk => g_iconst F dL_law_2149 ic_0 <|
g_lawret F hL dL_law_2150 (show 0 + 585033 ≤ 603072 by omega) (show 0 + 6523531 ≤ 7178346 by omega) hk)) ((fun h hk => g_iconst F dL_law_2174 ic_0 <|
g_lawret F hL dL_law_2175 (show 0 + 585033 ≤ 603072 by omega) (show 0 + 6523531 ≤ 7178346 by omega) hk)) ((fun h hk => g_iconst F dL_law_2187 ic_0 <|
g_lawret F hL dL_law_2188 (show 0 + 585033 ≤ 603072 by omega) (show 0 + 6523531 ≤ 7178346 by omega) hk)) ((fun h hk => g_iconst F dL_law_2212 ic_0 <|
g_lawret F hL dL_law_2213 (show 0 + 585033 ≤ 603072 by omega) (show 0 + 6523531 ≤ 7178346 by omega) hk)) ((fun h hk => g_iconst F dL_law_2237 ic_0 <|
g_lawret F hL dL_law_2238 (show 0 + 585033 ≤ 603072 by omega) (show 0 + 6523531 ≤ 7178346 by omega) hk)) ((fun h hk => g_iconst F dL_law_2274 ic_0 <|
g_lawret F hL dL_law_2275 (show 0 + 585033 ≤ 603072 by omega) (show 0 + 6523531 ≤ 7178346 by omega) hk)) ((fun h hk => g_iconst F dL_law_2287 ic_0 <|
g_lawret F hL dL_law_2288 (show 0 + 585033 ≤ 603072 by omega) (show 0 + 6523531 ≤ 7178346 by omega) hk)) ((fun h hk => g_iconst F dL_law_2323 ic_0 <|
g_lawret F hL dL_law_2324 (show 0 + 585033 ≤ 603072 by omega) (show 0 + 6523531 ≤ 7178346 by omega) hk)) ((fun h hk => g_iconst F dL_law_2340 ic_0 <|
g_lawret F hL dL_law_2341 (show 0 + 585033 ≤ 603072 by omega) (show 0 + 6523531 ≤ 7178346 by omega) hk)) ((fun h hk => g_iconst F dL_law_2368 ic_0 <|
g_lawret F hL dL_law_2369 (show 0 + 585033 ≤ 603072 by omega) (show 0 + 6523531 ≤ 7178346 by omega) hk)) ((fun h hk => g_iconst F dL_law_2376 ic_1 <|
g_lawret F hL dL_law_2377 (show 0 + 585033 ≤ 603072 by omega) (show 0 + 6523531 ≤ 7178346 by omega) hk))
