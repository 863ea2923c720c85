set_option maxRecDepth 100000
set_option maxHeartbeats 10000000
theorem sp_1782 : (Int16.ofInt (1782)).toInt32 = (1782 : Int32) := by decide
theorem ct_X5 : CL[3]? = some (RX5, TX5, 27) := rfl
theorem ck_X5 : ClsOk RX5 TX5 27 tyX5 := ⟨in_X5, tyX5_ok, nmX5⟩
theorem fo_X5_5_LockstepRoomModel : FieldOk "LockstepRoomModel" 3 5 RX5 TX5 27 := ⟨ct_X5, Nat.le_of_ble_eq_true rfl, Or.inl rfl⟩
theorem fl_LockstepRoomModel_19_X5 : Cond.fieldLink "LockstepRoomModel" 19 "LockstepRoomModel" (TX5 5).2.1 (TX5 5).2.2.1 ∈ lw_all ∨ ∃ host, Cond.fieldLinkNest "LockstepRoomModel" 19 "LockstepRoomModel" (TX5 5).2.1 (TX5 5).2.2.1 host ∈ lw_tbl := Or.inl q3008
theorem fo_X5_3_LockstepRoomModel : FieldOk "LockstepRoomModel" 3 3 RX5 TX5 27 := ⟨ct_X5, Nat.le_of_ble_eq_true rfl, Or.inl rfl⟩
theorem fl_LockstepRoomModel_13_X5 : Cond.fieldLink "LockstepRoomModel" 13 "LockstepRoomModel" (TX5 3).2.1 (TX5 3).2.2.1 ∈ lw_all ∨ ∃ host, Cond.fieldLinkNest "LockstepRoomModel" 13 "LockstepRoomModel" (TX5 3).2.1 (TX5 3).2.2.1 host ∈ lw_tbl := Or.inl q3006
theorem fo_X5_1_LockstepRoomModel : FieldOk "LockstepRoomModel" 3 1 RX5 TX5 27 := ⟨ct_X5, Nat.le_of_ble_eq_true rfl, Or.inl rfl⟩
theorem fl_LockstepRoomModel_7_X5 : Cond.fieldLink "LockstepRoomModel" 7 "LockstepRoomModel" (TX5 1).2.1 (TX5 1).2.2.1 ∈ lw_all ∨ ∃ host, Cond.fieldLinkNest "LockstepRoomModel" 7 "LockstepRoomModel" (TX5 1).2.1 (TX5 1).2.2.1 host ∈ lw_tbl := Or.inl q3004
theorem bp_22 : (Int8.ofInt (22)).toInt32 = (22 : Int32) := by decide
theorem fo_X5_4_LockstepRoomModel : FieldOk "LockstepRoomModel" 3 4 RX5 TX5 27 := ⟨ct_X5, Nat.le_of_ble_eq_true rfl, Or.inl rfl⟩
theorem fl_LockstepRoomModel_16_X5 : Cond.fieldLink "LockstepRoomModel" 16 "LockstepRoomModel" (TX5 4).2.1 (TX5 4).2.2.1 ∈ lw_all ∨ ∃ host, Cond.fieldLinkNest "LockstepRoomModel" 16 "LockstepRoomModel" (TX5 4).2.1 (TX5 4).2.2.1 host ∈ lw_tbl := Or.inl q3007
theorem fo_X5_6_LockstepRoomModel : FieldOk "LockstepRoomModel" 3 6 RX5 TX5 27 := ⟨ct_X5, Nat.le_of_ble_eq_true rfl, Or.inl rfl⟩
theorem fl_LockstepRoomModel_22_X5 : Cond.fieldLink "LockstepRoomModel" 22 "LockstepRoomModel" (TX5 6).2.1 (TX5 6).2.2.1 ∈ lw_all ∨ ∃ host, Cond.fieldLinkNest "LockstepRoomModel" 22 "LockstepRoomModel" (TX5 6).2.1 (TX5 6).2.2.1 host ∈ lw_tbl := Or.inl q3009
theorem sp_17820 : (Int16.ofInt (17820)).toInt32 = (17820 : Int32) := by decide
theorem fo_X5_7_LockstepRoomModel : FieldOk "LockstepRoomModel" 3 7 RX5 TX5 27 := ⟨ct_X5, Nat.le_of_ble_eq_true rfl, Or.inl rfl⟩
theorem fl_LockstepRoomModel_25_X5 : Cond.fieldLink "LockstepRoomModel" 25 "LockstepRoomModel" (TX5 7).2.1 (TX5 7).2.2.1 ∈ lw_all ∨ ∃ host, Cond.fieldLinkNest "LockstepRoomModel" 25 "LockstepRoomModel" (TX5 7).2.1 (TX5 7).2.2.1 host ∈ lw_tbl := Or.inl q3010
theorem fo_X5_9_LockstepRoomModel : FieldOk "LockstepRoomModel" 3 9 RX5 TX5 27 := ⟨ct_X5, Nat.le_of_ble_eq_true rfl, Or.inl rfl⟩
theorem fl_LockstepRoomModel_28_X5 : Cond.fieldLink "LockstepRoomModel" 28 "LockstepRoomModel" (TX5 9).2.1 (TX5 9).2.2.1 ∈ lw_all ∨ ∃ host, Cond.fieldLinkNest "LockstepRoomModel" 28 "LockstepRoomModel" (TX5 9).2.1 (TX5 9).2.2.1 host ∈ lw_tbl := Or.inl q3012
theorem fo_X5_10_LockstepRoomModel : FieldOk "LockstepRoomModel" 3 10 RX5 TX5 27 := ⟨ct_X5, Nat.le_of_ble_eq_true rfl, Or.inl rfl⟩
theorem fl_LockstepRoomModel_31_X5 : Cond.fieldLink "LockstepRoomModel" 31 "LockstepRoomModel" (TX5 10).2.1 (TX5 10).2.2.1 ∈ lw_all ∨ ∃ host, Cond.fieldLinkNest "LockstepRoomModel" 31 "LockstepRoomModel" (TX5 10).2.1 (TX5 10).2.2.1 host ∈ lw_tbl := Or.inl q3013
theorem fo_X5_11_LockstepRoomModel : FieldOk "LockstepRoomModel" 3 11 RX5 TX5 27 := ⟨ct_X5, Nat.le_of_ble_eq_true rfl, Or.inl rfl⟩
theorem fl_LockstepRoomModel_34_X5 : Cond.fieldLink "LockstepRoomModel" 34 "LockstepRoomModel" (TX5 11).2.1 (TX5 11).2.2.1 ∈ lw_all ∨ ∃ host, Cond.fieldLinkNest "LockstepRoomModel" 34 "LockstepRoomModel" (TX5 11).2.1 (TX5 11).2.2.1 host ∈ lw_tbl := Or.inl q3014
theorem fo_X5_21_LockstepRoomModel : FieldOk "LockstepRoomModel" 3 21 RX5 TX5 27 := ⟨ct_X5, Nat.le_of_ble_eq_true rfl, Or.inl rfl⟩
theorem fl_LockstepRoomModel_37_X5 : Cond.fieldLink "LockstepRoomModel" 37 "LockstepRoomModel" (TX5 21).2.1 (TX5 21).2.2.1 ∈ lw_all ∨ ∃ host, Cond.fieldLinkNest "LockstepRoomModel" 37 "LockstepRoomModel" (TX5 21).2.1 (TX5 21).2.2.1 host ∈ lw_tbl := Or.inl q3024
theorem bp_90 : (Int8.ofInt (90)).toInt32 = (90 : Int32) := by decide
theorem fo_X5_25_LockstepRoomModel : FieldOk "LockstepRoomModel" 3 25 RX5 TX5 27 := ⟨ct_X5, Nat.le_of_ble_eq_true rfl, Or.inl rfl⟩
theorem fl_LockstepRoomModel_41_X5 : Cond.fieldLink "LockstepRoomModel" 41 "LockstepRoomModel" (TX5 25).2.1 (TX5 25).2.2.1 ∈ lw_all ∨ ∃ host, Cond.fieldLinkNest "LockstepRoomModel" 41 "LockstepRoomModel" (TX5 25).2.1 (TX5 25).2.2.1 host ∈ lw_tbl := Or.inl q3028
theorem mo_X5_newRoom : MOk yX5_newRoom 0 := by decide +kernel
theorem mi_X5_newRoom : MI yX5_newRoom "LockstepRoomModel" cX5_newRoom 2 none 0 := ⟨q3001, qs45, q125, q3002, rfl, mo_X5_newRoom⟩
theorem fo_X5_0_LockstepRoomModel : FieldOk "LockstepRoomModel" 3 0 RX5 TX5 27 := ⟨ct_X5, Nat.le_of_ble_eq_true rfl, Or.inl rfl⟩
theorem fl_LockstepRoomModel_47_X5 : Cond.fieldLink "LockstepRoomModel" 47 "LockstepRoomModel" (TX5 0).2.1 (TX5 0).2.2.1 ∈ lw_all ∨ ∃ host, Cond.fieldLinkNest "LockstepRoomModel" 47 "LockstepRoomModel" (TX5 0).2.1 (TX5 0).2.2.1 host ∈ lw_tbl := Or.inl q3003
theorem fo_X5_2_LockstepRoomModel : FieldOk "LockstepRoomModel" 3 2 RX5 TX5 27 := ⟨ct_X5, Nat.le_of_ble_eq_true rfl, Or.inl rfl⟩
theorem fl_LockstepRoomModel_50_X5 : Cond.fieldLink "LockstepRoomModel" 50 "LockstepRoomModel" (TX5 2).2.1 (TX5 2).2.2.1 ∈ lw_all ∨ ∃ host, Cond.fieldLinkNest "LockstepRoomModel" 50 "LockstepRoomModel" (TX5 2).2.1 (TX5 2).2.2.1 host ∈ lw_tbl := Or.inl q3005
theorem nz_4_Int32 : ¬ (4 : Int32) = 0 := by decide
theorem bp_12 : (Int8.ofInt (12)).toInt32 = (12 : Int32) := by decide
theorem fo_X5_15_LockstepRoomModel : FieldOk "LockstepRoomModel" 3 15 RX5 TX5 27 := ⟨ct_X5, Nat.le_of_ble_eq_true rfl, Or.inl rfl⟩
theorem fl_LockstepRoomModel_161_X5 : Cond.fieldLink "LockstepRoomModel" 161 "LockstepRoomModel" (TX5 15).2.1 (TX5 15).2.2.1 ∈ lw_all ∨ ∃ host, Cond.fieldLinkNest "LockstepRoomModel" 161 "LockstepRoomModel" (TX5 15).2.1 (TX5 15).2.2.1 host ∈ lw_tbl := Or.inl q3018
theorem fo_X5_14_LockstepRoomModel : FieldOk "LockstepRoomModel" 3 14 RX5 TX5 27 := ⟨ct_X5, Nat.le_of_ble_eq_true rfl, Or.inl rfl⟩
theorem fl_LockstepRoomModel_164_X5 : Cond.fieldLink "LockstepRoomModel" 164 "LockstepRoomModel" (TX5 14).2.1 (TX5 14).2.2.1 ∈ lw_all ∨ ∃ host, Cond.fieldLinkNest "LockstepRoomModel" 164 "LockstepRoomModel" (TX5 14).2.1 (TX5 14).2.2.1 host ∈ lw_tbl := Or.inl q3017
theorem bp_122 : (Int8.ofInt (122)).toInt32 = (122 : Int32) := by decide
theorem bp_57 : (Int8.ofInt (57)).toInt32 = (57 : Int32) := by decide
theorem fo_X5_18_LockstepRoomModel : FieldOk "LockstepRoomModel" 3 18 RX5 TX5 27 := ⟨ct_X5, Nat.le_of_ble_eq_true rfl, Or.inl rfl⟩
theorem fl_LockstepRoomModel_182_X5 : Cond.fieldLink "LockstepRoomModel" 182 "LockstepRoomModel" (TX5 18).2.1 (TX5 18).2.2.1 ∈ lw_all ∨ ∃ host, Cond.fieldLinkNest "LockstepRoomModel" 182 "LockstepRoomModel" (TX5 18).2.1 (TX5 18).2.2.1 host ∈ lw_tbl := Or.inl q3021
theorem mo_X5_here : MOk yX5_here 0 := by decide +kernel
theorem mi_X5_here : MI yX5_here "LockstepRoomModel" cX5_here 1 (some .int) 0 := ⟨q3106, qs47, q125, q3107, rfl, mo_X5_here⟩
theorem mo_X5_isDigit : MOk yX5_isDigit 1 := by decide +kernel
theorem ms_X5_isDigit : MS yX5_isDigit cX5_isDigit 1 (some .boolean) 1 := ⟨q3112, q125, q3113, mo_X5_isDigit⟩
theorem mo_X5_isSmall : MOk yX5_isSmall 1 := by decide +kernel
theorem ms_X5_isSmall : MS yX5_isSmall cX5_isSmall 1 (some .boolean) 1 := ⟨q3109, q125, q3110, mo_X5_isSmall⟩
theorem fo_X5_17_LockstepRoomModel : FieldOk "LockstepRoomModel" 3 17 RX5 TX5 27 := ⟨ct_X5, Nat.le_of_ble_eq_true rfl, Or.inl rfl⟩
theorem fl_LockstepRoomModel_173_X5 : Cond.fieldLink "LockstepRoomModel" 173 "LockstepRoomModel" (TX5 17).2.1 (TX5 17).2.2.1 ∈ lw_all ∨ ∃ host, Cond.fieldLinkNest "LockstepRoomModel" 173 "LockstepRoomModel" (TX5 17).2.1 (TX5 17).2.2.1 host ∈ lw_tbl := Or.inl q3020
theorem fo_X5_16_LockstepRoomModel : FieldOk "LockstepRoomModel" 3 16 RX5 TX5 27 := ⟨ct_X5, Nat.le_of_ble_eq_true rfl, Or.inl rfl⟩
theorem fl_LockstepRoomModel_170_X5 : Cond.fieldLink "LockstepRoomModel" 170 "LockstepRoomModel" (TX5 16).2.1 (TX5 16).2.2.1 ∈ lw_all ∨ ∃ host, Cond.fieldLinkNest "LockstepRoomModel" 170 "LockstepRoomModel" (TX5 16).2.1 (TX5 16).2.2.1 host ∈ lw_tbl := Or.inl q3019
theorem fo_X5_19_LockstepRoomModel : FieldOk "LockstepRoomModel" 3 19 RX5 TX5 27 := ⟨ct_X5, Nat.le_of_ble_eq_true rfl, Or.inl rfl⟩
theorem fl_LockstepRoomModel_194_X5 : Cond.fieldLink "LockstepRoomModel" 194 "LockstepRoomModel" (TX5 19).2.1 (TX5 19).2.2.1 ∈ lw_all ∨ ∃ host, Cond.fieldLinkNest "LockstepRoomModel" 194 "LockstepRoomModel" (TX5 19).2.1 (TX5 19).2.2.1 host ∈ lw_tbl := Or.inl q3022
theorem fo_X5_20_LockstepRoomModel : FieldOk "LockstepRoomModel" 3 20 RX5 TX5 27 := ⟨ct_X5, Nat.le_of_ble_eq_true rfl, Or.inl rfl⟩
theorem fl_LockstepRoomModel_197_X5 : Cond.fieldLink "LockstepRoomModel" 197 "LockstepRoomModel" (TX5 20).2.1 (TX5 20).2.2.1 ∈ lw_all ∨ ∃ host, Cond.fieldLinkNest "LockstepRoomModel" 197 "LockstepRoomModel" (TX5 20).2.1 (TX5 20).2.2.1 host ∈ lw_tbl := Or.inl q3023
theorem mo_X5_next : MOk yX5_next 0 := by decide +kernel
theorem mi_X5_next : MI yX5_next "LockstepRoomModel" cX5_next 2 none 0 := ⟨q3102, qs46, q125, q3103, rfl, mo_X5_next⟩
theorem mo_X5_goOn : MOk yX5_goOn 0 := by decide +kernel
theorem mi_X5_goOn : MI yX5_goOn "LockstepRoomModel" cX5_goOn 1 none 0 := ⟨q3136, qs52, q125, q3137, rfl, mo_X5_goOn⟩
theorem mo_X5_failsIf : MOk yX5_failsIf 2 := by decide +kernel
theorem mi_X5_failsIf : MI yX5_failsIf "LockstepRoomModel" cX5_failsIf 3 none 2 := ⟨q3132, qs51, q125, q3133, rfl, mo_X5_failsIf⟩
theorem fo_X5_23_LockstepRoomModel : FieldOk "LockstepRoomModel" 3 23 RX5 TX5 27 := ⟨ct_X5, Nat.le_of_ble_eq_true rfl, Or.inl rfl⟩
theorem fl_LockstepRoomModel_247_X5 : Cond.fieldLink "LockstepRoomModel" 247 "LockstepRoomModel" (TX5 23).2.1 (TX5 23).2.2.1 ∈ lw_all ∨ ∃ host, Cond.fieldLinkNest "LockstepRoomModel" 247 "LockstepRoomModel" (TX5 23).2.1 (TX5 23).2.2.1 host ∈ lw_tbl := Or.inl q3026
theorem mo_X5_low : MOk yX5_low 1 := by decide +kernel
theorem ms_X5_low : MS yX5_low cX5_low 1 (some .int) 1 := ⟨q3201, q125, q3202, mo_X5_low⟩
theorem mo_X5_top : MOk yX5_top 1 := by decide +kernel
theorem ms_X5_top : MS yX5_top cX5_top 1 (some .int) 1 := ⟨q3204, q125, q3205, mo_X5_top⟩
theorem mo_X5_integer : MOk yX5_integer 2 := by decide +kernel
theorem mi_X5_integer : MI yX5_integer "LockstepRoomModel" cX5_integer 4 (some .int) 2 := ⟨q3140, qs53, q125, q3141, rfl, mo_X5_integer⟩
theorem sk_36 (E : Nat → Nat) : ("LockstepRoomModel", 245, "lag quorum ", E 36) ∈ SK E := List.mem_of_getElem? (i := 16) rfl
theorem mo_X5_wordOf : MOk yX5_wordOf 1 := by decide +kernel
theorem mi_X5_wordOf : MI yX5_wordOf "LockstepRoomModel" cX5_wordOf 5 (some .int) 1 := ⟨q3122, qs49, q125, q3123, rfl, mo_X5_wordOf⟩
theorem mo_X5_members : MOk yX5_members 0 := by decide +kernel
theorem mi_X5_members : MI yX5_members "LockstepRoomModel" cX5_members 1 (some .int) 0 := ⟨q3148, qs55, q125, q3149, rfl, mo_X5_members⟩
theorem mo_X5_nameHere : MOk yX5_nameHere 0 := by decide +kernel
theorem mi_X5_nameHere : MI yX5_nameHere "LockstepRoomModel" cX5_nameHere 3 (some .int) 0 := ⟨q3152, qs56, q125, q3153, rfl, mo_X5_nameHere⟩
theorem mo_X5_found : MOk yX5_found 1 := by decide +kernel
theorem mi_X5_found : MI yX5_found "LockstepRoomModel" cX5_found 3 (some .int) 1 := ⟨q3156, qs57, q125, q3157, rfl, mo_X5_found⟩
theorem sp_1742 : (Int16.ofInt (1742)).toInt32 = (1742 : Int32) := by decide
theorem sp_1741 : (Int16.ofInt (1741)).toInt32 = (1741 : Int32) := by decide
theorem mo_X5_known : MOk yX5_known 0 := by decide +kernel
theorem mi_X5_known : MI yX5_known "LockstepRoomModel" cX5_known 3 (some .int) 0 := ⟨q3172, qs61, q125, q3173, rfl, mo_X5_known⟩
theorem mo_X5_faults : MOk yX5_faults 4 := by decide +kernel
theorem mi_X5_faults : MI yX5_faults "LockstepRoomModel" cX5_faults 6 none 4 := ⟨q3193, qs66, q125, q3194, rfl, mo_X5_faults⟩
theorem bp_33 : (Int8.ofInt (33)).toInt32 = (33 : Int32) := by decide
theorem sp_1708 : (Int16.ofInt (1708)).toInt32 = (1708 : Int32) := by decide
theorem sp_1709 : (Int16.ofInt (1709)).toInt32 = (1709 : Int32) := by decide
theorem sp_388 : (Int16.ofInt (388)).toInt32 = (388 : Int32) := by decide
theorem sp_387 : (Int16.ofInt (387)).toInt32 = (387 : Int32) := by decide
theorem mo_X5_seals : MOk yX5_seals 0 := by decide +kernel
theorem mi_X5_seals : MI yX5_seals "LockstepRoomModel" cX5_seals 6 none 0 := ⟨q3185, qs64, q125, q3186, rfl, mo_X5_seals⟩
theorem mo_X5_gives : MOk yX5_gives 4 := by decide +kernel
theorem mi_X5_gives : MI yX5_gives "LockstepRoomModel" cX5_gives 6 none 4 := ⟨q3177, qs62, q125, q3178, rfl, mo_X5_gives⟩
theorem sk_35 (E : Nat → Nat) : ("LockstepRoomModel", 229, "put add copy sum swap mul ", E 35) ∈ SK E := List.mem_of_getElem? (i := 15) rfl
theorem mo_X5_sets : MOk yX5_sets 3 := by decide +kernel
theorem mi_X5_sets : MI yX5_sets "LockstepRoomModel" cX5_sets 4 none 3 := ⟨q3164, qs59, q125, q3165, rfl, mo_X5_sets⟩
theorem mo_X5_comes : MOk yX5_comes 2 := by decide +kernel
theorem mi_X5_comes : MI yX5_comes "LockstepRoomModel" cX5_comes 5 none 2 := ⟨q3160, qs58, q125, q3161, rfl, mo_X5_comes⟩
theorem fo_X5_24_LockstepRoomModel : FieldOk "LockstepRoomModel" 3 24 RX5 TX5 27 := ⟨ct_X5, Nat.le_of_ble_eq_true rfl, Or.inl rfl⟩
theorem fl_LockstepRoomModel_216_X5 : Cond.fieldLink "LockstepRoomModel" 216 "LockstepRoomModel" (TX5 24).2.1 (TX5 24).2.2.1 ∈ lw_all ∨ ∃ host, Cond.fieldLinkNest "LockstepRoomModel" 216 "LockstepRoomModel" (TX5 24).2.1 (TX5 24).2.2.1 host ∈ lw_tbl := Or.inl q3027
theorem fo_X5_22_LockstepRoomModel : FieldOk "LockstepRoomModel" 3 22 RX5 TX5 27 := ⟨ct_X5, Nat.le_of_ble_eq_true rfl, Or.inl rfl⟩
theorem fl_LockstepRoomModel_276_X5 : Cond.fieldLink "LockstepRoomModel" 276 "LockstepRoomModel" (TX5 22).2.1 (TX5 22).2.2.1 ∈ lw_all ∨ ∃ host, Cond.fieldLinkNest "LockstepRoomModel" 276 "LockstepRoomModel" (TX5 22).2.1 (TX5 22).2.2.1 host ∈ lw_tbl := Or.inl q3025
theorem sk_37 (E : Nat → Nat) : ("LockstepRoomModel", 256, "start member do seal fault set ", E 37) ∈ SK E := List.mem_of_getElem? (i := 17) rfl
theorem mo_X5_readStart : MOk yX5_readStart 0 := by decide +kernel
theorem mi_X5_readStart : MI yX5_readStart "LockstepRoomModel" cX5_readStart 3 none 0 := ⟨q3128, qs50, q125, q3129, rfl, mo_X5_readStart⟩
theorem mo_X5_readMember : MOk yX5_readMember 0 := by decide +kernel
theorem mi_X5_readMember : MI yX5_readMember "LockstepRoomModel" cX5_readMember 3 none 0 := ⟨q3144, qs54, q125, q3145, rfl, mo_X5_readMember⟩
theorem mo_X5_readCommand : MOk yX5_readCommand 0 := by decide +kernel
theorem mi_X5_readCommand : MI yX5_readCommand "LockstepRoomModel" cX5_readCommand 5 none 0 := ⟨q3168, qs60, q125, q3169, rfl, mo_X5_readCommand⟩
theorem mo_X5_readSeal : MOk yX5_readSeal 0 := by decide +kernel
theorem mi_X5_readSeal : MI yX5_readSeal "LockstepRoomModel" cX5_readSeal 1 none 0 := ⟨q3181, qs63, q125, q3182, rfl, mo_X5_readSeal⟩
theorem mo_X5_readFault : MOk yX5_readFault 0 := by decide +kernel
theorem mi_X5_readFault : MI yX5_readFault "LockstepRoomModel" cX5_readFault 5 none 0 := ⟨q3189, qs65, q125, q3190, rfl, mo_X5_readFault⟩
theorem mo_X5_readSetting : MOk yX5_readSetting 0 := by decide +kernel
theorem mi_X5_readSetting : MI yX5_readSetting "LockstepRoomModel" cX5_readSetting 3 none 0 := ⟨q3197, qs67, q125, q3198, rfl, mo_X5_readSetting⟩
theorem mo_X5_of : MOk yX5_of 2 := by decide +kernel
theorem mi_X5_of : MI yX5_of "LockstepRoomModel" cX5_of 3 (some .int) 2 := ⟨q3216, qs70, q125, q3217, rfl, mo_X5_of⟩
theorem mo_X5_takesCells : MOk yX5_takesCells 1 := by decide +kernel
theorem mi_X5_takesCells : MI yX5_takesCells "LockstepRoomModel" cX5_takesCells 3 none 1 := ⟨q3224, qs72, q125, q3225, rfl, mo_X5_takesCells⟩
theorem mo_X5_laysTree : MOk yX5_laysTree 1 := by decide +kernel
theorem mi_X5_laysTree : MI yX5_laysTree "LockstepRoomModel" cX5_laysTree 3 none 1 := ⟨q3228, qs73, q125, q3229, rfl, mo_X5_laysTree⟩
theorem bp_23 : (Int8.ofInt (23)).toInt32 = (23 : Int32) := by decide
theorem mo_X5_turnsDone : MOk yX5_turnsDone 1 := by decide +kernel
theorem mi_X5_turnsDone : MI yX5_turnsDone "LockstepRoomModel" cX5_turnsDone 2 (some .int) 1 := ⟨q3212, qs69, q125, q3213, rfl, mo_X5_turnsDone⟩
theorem mo_X5_rootOf : MOk yX5_rootOf 1 := by decide +kernel
theorem mi_X5_rootOf : MI yX5_rootOf "LockstepRoomModel" cX5_rootOf 2 (some .int) 1 := ⟨q3220, qs71, q125, q3221, rfl, mo_X5_rootOf⟩
theorem mo_X5_writesRecord : MOk yX5_writesRecord 1 := by decide +kernel
theorem mi_X5_writesRecord : MI yX5_writesRecord "LockstepRoomModel" cX5_writesRecord 2 none 1 := ⟨q3208, qs68, q125, q3209, rfl, mo_X5_writesRecord⟩
theorem mo_X5_readStatement : MOk yX5_readStatement 0 := by decide +kernel
theorem mi_X5_readStatement : MI yX5_readStatement "LockstepRoomModel" cX5_readStatement 1 none 0 := ⟨q3117, qs48, q125, q3118, rfl, mo_X5_readStatement⟩
theorem fo_X5_8_LockstepRoomModel : FieldOk "LockstepRoomModel" 3 8 RX5 TX5 27 := ⟨ct_X5, Nat.le_of_ble_eq_true rfl, Or.inl rfl⟩
theorem fl_LockstepRoomModel_286_X5 : Cond.fieldLink "LockstepRoomModel" 286 "LockstepRoomModel" (TX5 8).2.1 (TX5 8).2.2.1 ∈ lw_all ∨ ∃ host, Cond.fieldLinkNest "LockstepRoomModel" 286 "LockstepRoomModel" (TX5 8).2.1 (TX5 8).2.2.1 host ∈ lw_tbl := Or.inl q3011
theorem mo_X5_copies : MOk yX5_copies 2 := by decide +kernel
theorem ms_X5_copies : MS yX5_copies cX5_copies 3 none 2 := ⟨q3098, q125, q3099, mo_X5_copies⟩
theorem mo_X5_isMember : MOk yX5_isMember 1 := by decide +kernel
theorem mi_X5_isMember : MI yX5_isMember "LockstepRoomModel" cX5_isMember 2 (some .boolean) 1 := ⟨q3256, qs74, q125, q3257, rfl, mo_X5_isMember⟩
theorem mo_X5_checks : MOk yX5_checks 1 := by decide +kernel
theorem mi_X5_checks : MI yX5_checks "LockstepRoomModel" cX5_checks 2 (some .boolean) 1 := ⟨q3260, qs75, q125, q3261, rfl, mo_X5_checks⟩
theorem mo_X5_isSetting : MOk yX5_isSetting 1 := by decide +kernel
theorem ms_X5_isSetting : MS yX5_isSetting cX5_isSetting 1 (some .boolean) 1 := ⟨q3267, q125, q3268, mo_X5_isSetting⟩
theorem mo_X5_isCell : MOk yX5_isCell 1 := by decide +kernel
theorem ms_X5_isCell : MS yX5_isCell cX5_isCell 1 (some .boolean) 1 := ⟨q3274, q125, q3275, mo_X5_isCell⟩
theorem mo_X5_isTurn : MOk yX5_isTurn 1 := by decide +kernel
theorem mi_X5_isTurn : MI yX5_isTurn "LockstepRoomModel" cX5_isTurn 2 (some .boolean) 1 := ⟨q3282, qs76, q125, q3283, rfl, mo_X5_isTurn⟩
theorem mo_X5_fault : MOk yX5_fault 2 := by decide +kernel
theorem mi_X5_fault : MI yX5_fault "LockstepRoomModel" cX5_fault 3 (some .int) 2 := ⟨q3294, qs77, q125, q3295, rfl, mo_X5_fault⟩
theorem mo_X5_hasAt : MOk yX5_hasAt 2 := by decide +kernel
theorem mi_X5_hasAt : MI yX5_hasAt "LockstepRoomModel" cX5_hasAt 3 (some .boolean) 2 := ⟨q3306, qs78, q125, q3307, rfl, mo_X5_hasAt⟩
theorem mo_X5_record : MOk yX5_record 2 := by decide +kernel
theorem mi_X5_record : MI yX5_record "LockstepRoomModel" cX5_record 3 (some .int) 2 := ⟨q3310, qs79, q125, q3311, rfl, mo_X5_record⟩
theorem mo_X5_highCommon : MOk yX5_highCommon 2 := by decide +kernel
theorem mi_X5_highCommon : MI yX5_highCommon "LockstepRoomModel" cX5_highCommon 3 (some .int) 2 := ⟨q3331, qs83, q125, q3332, rfl, mo_X5_highCommon⟩
theorem mo_X5_differ : MOk yX5_differ 3 := by decide +kernel
theorem mi_X5_differ : MI yX5_differ "LockstepRoomModel" cX5_differ 4 (some .boolean) 3 := ⟨q3336, qs84, q125, q3337, rfl, mo_X5_differ⟩
theorem mo_X5_lowCommon : MOk yX5_lowCommon 2 := by decide +kernel
theorem mi_X5_lowCommon : MI yX5_lowCommon "LockstepRoomModel" cX5_lowCommon 3 (some .int) 2 := ⟨q3326, qs82, q125, q3327, rfl, mo_X5_lowCommon⟩
theorem mo_X5_checksBoth : MOk yX5_checksBoth 2 := by decide +kernel
theorem mi_X5_checksBoth : MI yX5_checksBoth "LockstepRoomModel" cX5_checksBoth 3 (some .boolean) 2 := ⟨q3318, qs80, q125, q3319, rfl, mo_X5_checksBoth⟩
theorem mo_X5_linear : MOk yX5_linear 2 := by decide +kernel
theorem mi_X5_linear : MI yX5_linear "LockstepRoomModel" cX5_linear 4 (some .int) 2 := ⟨q3322, qs81, q125, q3323, rfl, mo_X5_linear⟩
theorem mo_X5_halved : MOk yX5_halved 2 := by decide +kernel
theorem mi_X5_halved : MI yX5_halved "LockstepRoomModel" cX5_halved 6 (some .int) 2 := ⟨q3344, qs85, q125, q3345, rfl, mo_X5_halved⟩
theorem fo_X5_13_LockstepRoomModel : FieldOk "LockstepRoomModel" 3 13 RX5 TX5 27 := ⟨ct_X5, Nat.le_of_ble_eq_true rfl, Or.inl rfl⟩
theorem fl_LockstepRoomModel_79_X5 : Cond.fieldLink "LockstepRoomModel" 79 "LockstepRoomModel" (TX5 13).2.1 (TX5 13).2.2.1 ∈ lw_all ∨ ∃ host, Cond.fieldLinkNest "LockstepRoomModel" 79 "LockstepRoomModel" (TX5 13).2.1 (TX5 13).2.2.1 host ∈ lw_tbl := Or.inl q3016
theorem mo_X5_goesDown : MOk yX5_goesDown 1 := by decide +kernel
theorem mi_X5_goesDown : MI yX5_goesDown "LockstepRoomModel" cX5_goesDown 2 none 1 := ⟨q3364, qs88, q125, q3365, rfl, mo_X5_goesDown⟩
theorem fo_X5_12_LockstepRoomModel : FieldOk "LockstepRoomModel" 3 12 RX5 TX5 27 := ⟨ct_X5, Nat.le_of_ble_eq_true rfl, Or.inl rfl⟩
theorem fl_LockstepRoomModel_82_X5 : Cond.fieldLink "LockstepRoomModel" 82 "LockstepRoomModel" (TX5 12).2.1 (TX5 12).2.2.1 ∈ lw_all ∨ ∃ host, Cond.fieldLinkNest "LockstepRoomModel" 82 "LockstepRoomModel" (TX5 12).2.1 (TX5 12).2.2.1 host ∈ lw_tbl := Or.inl q3015
theorem mo_X5_laysBoth : MOk yX5_laysBoth 2 := by decide +kernel
theorem mi_X5_laysBoth : MI yX5_laysBoth "LockstepRoomModel" cX5_laysBoth 3 none 2 := ⟨q3360, qs87, q125, q3361, rfl, mo_X5_laysBoth⟩
theorem mo_X5_compares : MOk yX5_compares 2 := by decide +kernel
theorem mi_X5_compares : MI yX5_compares "LockstepRoomModel" cX5_compares 3 none 2 := ⟨q3356, qs86, q125, q3357, rfl, mo_X5_compares⟩
theorem mo_X5_isActive : MOk yX5_isActive 1 := by decide +kernel
theorem mi_X5_isActive : MI yX5_isActive "LockstepRoomModel" cX5_isActive 2 (some .boolean) 1 := ⟨q3384, qs90, q125, q3385, rfl, mo_X5_isActive⟩
theorem mo_X5_votesFor : MOk yX5_votesFor 2 := by decide +kernel
theorem mi_X5_votesFor : MI yX5_votesFor "LockstepRoomModel" cX5_votesFor 5 (some .int) 2 := ⟨q3380, qs89, q125, q3381, rfl, mo_X5_votesFor⟩
theorem mo_X5_wins : MOk yX5_wins 1 := by decide +kernel
theorem mi_X5_wins : MI yX5_wins "LockstepRoomModel" cX5_wins 6 (some .int) 1 := ⟨q3392, qs91, q125, q3393, rfl, mo_X5_wins⟩
theorem mo_X5_isOff : MOk yX5_isOff 1 := by decide +kernel
theorem mi_X5_isOff : MI yX5_isOff "LockstepRoomModel" cX5_isOff 4 (some .boolean) 1 := ⟨q3400, qs92, q125, q3401, rfl, mo_X5_isOff⟩
theorem mo_X5_giver : MOk yX5_giver 2 := by decide +kernel
theorem mi_X5_giver : MI yX5_giver "LockstepRoomModel" cX5_giver 6 (some .int) 2 := ⟨q3412, qs93, q125, q3413, rfl, mo_X5_giver⟩
theorem mo_X5_stops : MOk yX5_stops 1 := by decide +kernel
theorem mi_X5_stops : MI yX5_stops "LockstepRoomModel" cX5_stops 2 (some .int) 1 := ⟨q3420, qs94, q125, q3421, rfl, mo_X5_stops⟩
theorem mo_X5_extreme : MOk yX5_extreme 1 := by decide +kernel
theorem mi_X5_extreme : MI yX5_extreme "LockstepRoomModel" cX5_extreme 5 (some .int) 1 := ⟨q3428, qs95, q125, q3429, rfl, mo_X5_extreme⟩
theorem mo_X5_may : MOk yX5_may 2 := by decide +kernel
theorem mi_X5_may : MI yX5_may "LockstepRoomModel" cX5_may 3 (some .int) 2 := ⟨q3436, qs96, q125, q3437, rfl, mo_X5_may⟩
theorem sw_out_0_1_2_3_4 {a : Int32} (h0 : ¬ a = 0) (h1 : ¬ a = 1) (h2 : ¬ a = 2) (h3 : ¬ a = 3) (h4 : ¬ a = 4) : a.toInt < 0 ∨ 4 < a.toInt := by
  have g0 : a.toInt ≠ 0 := sw_ne h0
  have g1 : a.toInt ≠ 1 := sw_ne h1
  have g2 : a.toInt ≠ 2 := sw_ne h2
  have g3 : a.toInt ≠ 3 := sw_ne h3
  have g4 : a.toInt ≠ 4 := sw_ne h4
  omega
theorem mo_X5_does : MOk yX5_does 3 := by decide +kernel
theorem mi_X5_does : MI yX5_does "LockstepRoomModel" cX5_does 5 none 3 := ⟨q3460, qs100, q125, q3461, rfl, mo_X5_does⟩
theorem mo_X5_doesTurn : MOk yX5_doesTurn 1 := by decide +kernel
theorem mi_X5_doesTurn : MI yX5_doesTurn "LockstepRoomModel" cX5_doesTurn 5 none 1 := ⟨q3456, qs99, q125, q3457, rfl, mo_X5_doesTurn⟩
theorem mo_X5_takesStart : MOk yX5_takesStart 0 := by decide +kernel
theorem mi_X5_takesStart : MI yX5_takesStart "LockstepRoomModel" cX5_takesStart 2 none 0 := ⟨q3452, qs98, q125, q3453, rfl, mo_X5_takesStart⟩
theorem mo_X5_laysTruth : MOk yX5_laysTruth 1 := by decide +kernel
theorem mi_X5_laysTruth : MI yX5_laysTruth "LockstepRoomModel" cX5_laysTruth 3 none 1 := ⟨q3448, qs97, q125, q3449, rfl, mo_X5_laysTruth⟩
theorem mo_X5_errs : MOk yX5_errs 2 := by decide +kernel
theorem mi_X5_errs : MI yX5_errs "LockstepRoomModel" cX5_errs 4 none 2 := ⟨q3472, qs101, q125, q3473, rfl, mo_X5_errs⟩
theorem mo_X5_changes : MOk yX5_changes 2 := by decide +kernel
theorem mi_X5_changes : MI yX5_changes "LockstepRoomModel" cX5_changes 6 (some .boolean) 2 := ⟨q3480, qs102, q125, q3481, rfl, mo_X5_changes⟩
theorem mo_X5_isOperand : MOk yX5_isOperand 2 := by decide +kernel
theorem ms_X5_isOperand : MS yX5_isOperand cX5_isOperand 2 (some .boolean) 2 := ⟨q3491, q125, q3492, mo_X5_isOperand⟩
theorem mo_X5_keeps : MOk yX5_keeps 0 := by decide +kernel
theorem mi_X5_keeps : MI yX5_keeps "LockstepRoomModel" cX5_keeps 2 none 0 := ⟨q3495, qs103, q125, q3496, rfl, mo_X5_keeps⟩
theorem mo_X5_forgets : MOk yX5_forgets 2 := by decide +kernel
theorem mi_X5_forgets : MI yX5_forgets "LockstepRoomModel" cX5_forgets 6 none 2 := ⟨q3515, qs106, q125, q3516, rfl, mo_X5_forgets⟩
theorem mo_X5_executes : MOk yX5_executes 1 := by decide +kernel
theorem mi_X5_executes : MI yX5_executes "LockstepRoomModel" cX5_executes 4 none 1 := ⟨q3511, qs105, q125, q3512, rfl, mo_X5_executes⟩
theorem mo_X5_runs : MOk yX5_runs 3 := by decide +kernel
theorem mi_X5_runs : MI yX5_runs "LockstepRoomModel" cX5_runs 6 (some .int) 3 := ⟨q3507, qs104, q125, q3508, rfl, mo_X5_runs⟩
theorem mo_X5_bits : MOk yX5_bits 1 := by decide +kernel
theorem ms_X5_bits : MS yX5_bits cX5_bits 3 (some .int) 1 := ⟨q3534, q125, q3535, mo_X5_bits⟩
theorem mo_X5_heals : MOk yX5_heals 1 := by decide +kernel
theorem mi_X5_heals : MI yX5_heals "LockstepRoomModel" cX5_heals 5 (some .int) 1 := ⟨q3531, qs107, q125, q3532, rfl, mo_X5_heals⟩
theorem fo_X5_26_LockstepRoomModel : FieldOk "LockstepRoomModel" 3 26 RX5 TX5 27 := ⟨ct_X5, Nat.le_of_ble_eq_true rfl, Or.inl rfl⟩
theorem fl_LockstepRoomModel_353_X5 : Cond.fieldLink "LockstepRoomModel" 353 "LockstepRoomModel" (TX5 26).2.1 (TX5 26).2.2.1 ∈ lw_all ∨ ∃ host, Cond.fieldLinkNest "LockstepRoomModel" 353 "LockstepRoomModel" (TX5 26).2.1 (TX5 26).2.2.1 host ∈ lw_tbl := Or.inl q3029
theorem nz_10_Int32 : ¬ (10 : Int32) = 0 := by decide
theorem mo_X5_writes : MOk yX5_writes 1 := by decide +kernel
theorem mi_X5_writes : MI yX5_writes "LockstepRoomModel" cX5_writes 2 none 1 := ⟨q3558, qs108, q125, q3559, rfl, mo_X5_writes⟩
theorem bp_9 : (Int8.ofInt (9)).toInt32 = (9 : Int32) := by decide
theorem mo_X5_writesNumber : MOk yX5_writesNumber 1 := by decide +kernel
theorem mi_X5_writesNumber : MI yX5_writesNumber "LockstepRoomModel" cX5_writesNumber 3 none 1 := ⟨q3562, qs109, q125, q3563, rfl, mo_X5_writesNumber⟩
theorem bp_96 : (Int8.ofInt (96)).toInt32 = (96 : Int32) := by decide
abbrev rmX5_newRoom : Room := { frames := 2, cells := 0, slots := 0, locals := 40 }
theorem s_X5_newRoom_l26 {x : Cx} (F : Fx x cX5_newRoom "LockstepRoomModel" 2 none rmX5_newRoom) {v0 : Nat} {Q : hH → Prop} {K46 : hH → Prop} (n : Nat) (l1 : Int32) (h : hH) (hk : f_X5_newRoom_l26 x.S.E v0 Q K46 n l1 h) (hK46 : ∀ (h : hH), K46 h → G x (xQ x rmX5_newRoom (qV Q)) 46 [(0, aR (some v0))] [] h 0 0) : G x (xQ x rmX5_newRoom (qV Q)) 26 [(0, aR (some v0)), (1, aI l1)] [] h 0 0 := by
  induction n generalizing l1 h with
  | zero => exact False.elim hk
  | succ n ih =>
    unfold f_X5_newRoom_l26 at hk
    exact g_iload_n F dX5_newRoom_26 rfl 1 rfl <|
g_sipush F dX5_newRoom_27 sp_1782 <|
g_icmp_ge F dX5_newRoom_30 (tgt := 46) rfl (fun hc => have hk := hk.1 hc
G.fewer [0] rfl <| hK46 h hk) (fun hc => have hk := hk.2 hc
g_aload_n F dX5_newRoom_33 rfl 0 rfl <|
g_getR F dX5_newRoom_34 fo_X5_5_LockstepRoomModel in_X5 fl_LockstepRoomModel_19_X5 hk fun x1 hk =>
g_iload_n F dX5_newRoom_37 rfl 1 rfl <|
g_iconst F dX5_newRoom_38 ic_0 <|
g_iast F dX5_newRoom_39 hk fun h2 hk =>
g_iinc (v := (l1 + (1:Int32))) F dX5_newRoom_40 (j := 1) rfl (iinc_1 l1) (Nat.le_of_ble_eq_true rfl) rfl <|
g_goto F dX5_newRoom_43 (tgt := 26) rfl <|
G.fewer [1, 0] rfl <| ih (l1 + (1:Int32)) h2 hk)
theorem s_X5_newRoom_l2 {x : Cx} (F : Fx x cX5_newRoom "LockstepRoomModel" 2 none rmX5_newRoom) {v0 : Nat} {Q : hH → Prop} {K24 : hH → Prop} (n : Nat) (l1 : Int32) (h : hH) (hk : f_X5_newRoom_l2 x.S.E v0 Q K24 n l1 h) (hK24 : ∀ (h : hH), K24 h → G x (xQ x rmX5_newRoom (qV Q)) 24 [(0, aR (some v0))] [] h 0 0) : G x (xQ x rmX5_newRoom (qV Q)) 2 [(0, aR (some v0)), (1, aI l1)] [] h 0 0 := by
  induction n generalizing l1 h with
  | zero => exact False.elim hk
  | succ n ih =>
    unfold f_X5_newRoom_l2 at hk
    exact g_iload_n F dX5_newRoom_2 rfl 1 rfl <|
g_aload_n F dX5_newRoom_3 rfl 0 rfl <|
g_getR F dX5_newRoom_4 fo_X5_3_LockstepRoomModel in_X5 fl_LockstepRoomModel_13_X5 hk fun x3 hk =>
g_alen (t := 0) F dX5_newRoom_7 rfl hk fun x4 hk =>
g_icmp_ge F dX5_newRoom_8 (tgt := 24) rfl (fun hc => have hk := hk.1 hc
G.fewer [0] rfl <| hK24 h hk) (fun hc => have hk := hk.2 hc
g_aload_n F dX5_newRoom_11 rfl 0 rfl <|
g_getR F dX5_newRoom_12 fo_X5_3_LockstepRoomModel in_X5 fl_LockstepRoomModel_13_X5 hk fun x5 hk =>
g_iload_n F dX5_newRoom_15 rfl 1 rfl <|
g_iconst F dX5_newRoom_16 ic_0 <|
g_iast F dX5_newRoom_17 hk fun h6 hk =>
g_iinc (v := (l1 + (1:Int32))) F dX5_newRoom_18 (j := 1) rfl (iinc_1 l1) (Nat.le_of_ble_eq_true rfl) rfl <|
g_goto F dX5_newRoom_21 (tgt := 2) rfl <|
G.fewer [1, 0] rfl <| ih (l1 + (1:Int32)) h6 hk)
theorem m_X5_newRoom {S : Sx} (hS0 : Sok S) (v0 : Nat) (h : hH) (Q : hH → Prop) (hk : f_X5_newRoom S.E v0 h Q) : Ct S yX5_newRoom (ws_ yX5_newRoom cX5_newRoom 2 none) rmX5_newRoom ([aR (some v0)].map vv) h (qV Q) := by
  refine Ct.of hS0 (by decide +kernel) rfl (Nat.le_of_ble_eq_true rfl) fun x hxS F hnm => ?_
  subst hxS
  unfold f_X5_newRoom at hk
  exact g_iconst F dX5_newRoom_0 ic_0 <|
g_istore_n F dX5_newRoom_1 rfl (Nat.le_of_ble_eq_true rfl) rfl <|
G.fewer [1, 0] rfl <| s_X5_newRoom_l2 F 1000000 (0:Int32) h hk ((fun h hk => g_iconst F dX5_newRoom_24 ic_0 <|
g_istore_n F dX5_newRoom_25 rfl (Nat.le_of_ble_eq_true rfl) rfl <|
G.fewer [1, 0] rfl <| s_X5_newRoom_l26 F 1000000 (0:Int32) h hk ((fun h hk => g_aload_n F dX5_newRoom_46 rfl 0 rfl <|
g_getR F dX5_newRoom_47 fo_X5_5_LockstepRoomModel in_X5 fl_LockstepRoomModel_19_X5 hk fun x7 hk =>
g_iconst F dX5_newRoom_50 ic_0 <|
g_bipush F dX5_newRoom_51 bp_40 <|
g_iast F dX5_newRoom_53 hk fun h8 hk =>
g_aload_n F dX5_newRoom_54 rfl 0 rfl <|
g_getR F dX5_newRoom_55 fo_X5_5_LockstepRoomModel in_X5 fl_LockstepRoomModel_19_X5 hk fun x9 hk =>
g_iconst F dX5_newRoom_58 ic_1 <|
g_iconst F dX5_newRoom_59 ic_2 <|
g_iast F dX5_newRoom_60 hk fun h10 hk =>
g_vret F dX5_newRoom_61 (Nat.le_refl 0) (Nat.le_refl 0) hk))))
abbrev rmX5_init : Room := { frames := 3, cells := 10, slots := 22498, locals := 61 }
theorem m_X5_init {S : Sx} (hS0 : Sok S) (v0 : Nat) (h : hH) (Q : hH → Prop) (hk : f_X5_init S.E v0 h Q) : Ct S yX5_init (ws_ yX5_init cX5_init 1 none) rmX5_init ([aR (some v0)].map vv) h (qV Q) := by
  refine Ct.of hS0 (by decide +kernel) rfl (Nat.le_of_ble_eq_true rfl) fun x hxS F hnm => ?_
  subst hxS
  unfold f_X5_init at hk
  have hM : 0 + 10 ≤ 10 := by omega
  have hS : 0 + 22498 ≤ 22498 := by omega
  refine G.widen (c' := 0 + 0) (k' := 0 + 0) (Nat.le_refl 0) (Nat.le_refl 0) ?_
  exact g_aload_n F dX5_init_0 rfl 0 rfl <|
g_objInit (rest := []) F dX5_init_1 q2998 q182 q_objcode (Nat.le_of_ble_eq_true rfl) (Nat.le_of_ble_eq_true rfl) <|
g_aload_n F dX5_init_4 rfl 0 rfl <|
g_sipush F dX5_init_5 sp_900 <|
g_newI (t := 0) F dX5_init_8 q256 rfl rfl rfl (Nat.le_of_ble_eq_true rfl) (Nat.le_of_ble_eq_true rfl) (show 0 + 0 + 1 ≤ 10 by omega) (show 0 + 0 + 900 ≤ 22498 by omega) hk fun q1 h2 hk =>
g_putF F dX5_init_10 fo_X5_1_LockstepRoomModel ck_X5 q3004 rfl hnm rfl (v := aR (some q1)) (fit_ra .int (some q1)) hk fun h3 hk =>
g_aload_n F dX5_init_13 rfl 0 rfl <|
g_bipush F dX5_init_14 bp_22 <|
g_newI (t := 0) F dX5_init_16 q256 rfl rfl rfl (Nat.le_of_ble_eq_true rfl) (Nat.le_of_ble_eq_true rfl) (show 0 + 0 + 1 + 1 ≤ 10 by omega) (show 0 + 0 + 900 + 22 ≤ 22498 by omega) hk fun q4 h5 hk =>
g_putF F dX5_init_18 fo_X5_3_LockstepRoomModel ck_X5 q3006 rfl hnm rfl (v := aR (some q4)) (fit_ra .int (some q4)) hk fun h6 hk =>
g_aload_n F dX5_init_21 rfl 0 rfl <|
g_bipush F dX5_init_22 bp_22 <|
g_newI (t := 0) F dX5_init_24 q256 rfl rfl rfl (Nat.le_of_ble_eq_true rfl) (Nat.le_of_ble_eq_true rfl) (show 0 + 0 + 1 + 1 + 1 ≤ 10 by omega) (show 0 + 0 + 900 + 22 + 22 ≤ 22498 by omega) hk fun q7 h8 hk =>
g_putF F dX5_init_26 fo_X5_4_LockstepRoomModel ck_X5 q3007 rfl hnm rfl (v := aR (some q7)) (fit_ra .int (some q7)) hk fun h9 hk =>
g_aload_n F dX5_init_29 rfl 0 rfl <|
g_sipush F dX5_init_30 sp_1782 <|
g_newI (t := 0) F dX5_init_33 q256 rfl rfl rfl (Nat.le_of_ble_eq_true rfl) (Nat.le_of_ble_eq_true rfl) (show 0 + 0 + 1 + 1 + 1 + 1 ≤ 10 by omega) (show 0 + 0 + 900 + 22 + 22 + 1782 ≤ 22498 by omega) hk fun q10 h11 hk =>
g_putF F dX5_init_35 fo_X5_5_LockstepRoomModel ck_X5 q3008 rfl hnm rfl (v := aR (some q10)) (fit_ra .int (some q10)) hk fun h12 hk =>
g_aload_n F dX5_init_38 rfl 0 rfl <|
g_sipush F dX5_init_39 sp_1782 <|
g_newI (t := 0) F dX5_init_42 q256 rfl rfl rfl (Nat.le_of_ble_eq_true rfl) (Nat.le_of_ble_eq_true rfl) (show 0 + 0 + 1 + 1 + 1 + 1 + 1 ≤ 10 by omega) (show 0 + 0 + 900 + 22 + 22 + 1782 + 1782 ≤ 22498 by omega) hk fun q13 h14 hk =>
g_putF F dX5_init_44 fo_X5_6_LockstepRoomModel ck_X5 q3009 rfl hnm rfl (v := aR (some q13)) (fit_ra .int (some q13)) hk fun h15 hk =>
g_aload_n F dX5_init_47 rfl 0 rfl <|
g_sipush F dX5_init_48 sp_17820 <|
g_newI (t := 0) F dX5_init_51 q256 rfl rfl rfl (Nat.le_of_ble_eq_true rfl) (Nat.le_of_ble_eq_true rfl) (show 0 + 0 + 1 + 1 + 1 + 1 + 1 + 1 ≤ 10 by omega) (show 0 + 0 + 900 + 22 + 22 + 1782 + 1782 + 17820 ≤ 22498 by omega) hk fun q16 h17 hk =>
g_putF F dX5_init_53 fo_X5_7_LockstepRoomModel ck_X5 q3010 rfl hnm rfl (v := aR (some q16)) (fit_ra .int (some q16)) hk fun h18 hk =>
g_aload_n F dX5_init_56 rfl 0 rfl <|
g_bipush F dX5_init_57 bp_16 <|
g_newI (t := 0) F dX5_init_59 q256 rfl rfl rfl (Nat.le_of_ble_eq_true rfl) (Nat.le_of_ble_eq_true rfl) (show 0 + 0 + 1 + 1 + 1 + 1 + 1 + 1 + 1 ≤ 10 by omega) (show 0 + 0 + 900 + 22 + 22 + 1782 + 1782 + 17820 + 16 ≤ 22498 by omega) hk fun q19 h20 hk =>
g_putF F dX5_init_61 fo_X5_9_LockstepRoomModel ck_X5 q3012 rfl hnm rfl (v := aR (some q19)) (fit_ra .int (some q19)) hk fun h21 hk =>
g_aload_n F dX5_init_64 rfl 0 rfl <|
g_bipush F dX5_init_65 bp_32 <|
g_newI (t := 0) F dX5_init_67 q256 rfl rfl rfl (Nat.le_of_ble_eq_true rfl) (Nat.le_of_ble_eq_true rfl) (show 0 + 0 + 1 + 1 + 1 + 1 + 1 + 1 + 1 + 1 ≤ 10 by omega) (show 0 + 0 + 900 + 22 + 22 + 1782 + 1782 + 17820 + 16 + 32 ≤ 22498 by omega) hk fun q22 h23 hk =>
g_putF F dX5_init_69 fo_X5_10_LockstepRoomModel ck_X5 q3013 rfl hnm rfl (v := aR (some q22)) (fit_ra .int (some q22)) hk fun h24 hk =>
g_aload_n F dX5_init_72 rfl 0 rfl <|
g_bipush F dX5_init_73 bp_32 <|
g_newI (t := 0) F dX5_init_75 q256 rfl rfl rfl (Nat.le_of_ble_eq_true rfl) (Nat.le_of_ble_eq_true rfl) (show 0 + 0 + 1 + 1 + 1 + 1 + 1 + 1 + 1 + 1 + 1 ≤ 10 by omega) (show 0 + 0 + 900 + 22 + 22 + 1782 + 1782 + 17820 + 16 + 32 + 32 ≤ 22498 by omega) hk fun q25 h26 hk =>
g_putF F dX5_init_77 fo_X5_11_LockstepRoomModel ck_X5 q3014 rfl hnm rfl (v := aR (some q25)) (fit_ra .int (some q25)) hk fun h27 hk =>
g_aload_n F dX5_init_80 rfl 0 rfl <|
g_iconst F dX5_init_81 ic_m1 <|
g_putV F dX5_init_82 fo_X5_21_LockstepRoomModel ck_X5 fl_LockstepRoomModel_37_X5 rfl (v := aI (-1:Int32)) (fit_i (-1:Int32)) hk fun h28 hk =>
g_aload_n F dX5_init_85 rfl 0 rfl <|
g_bipush F dX5_init_86 bp_90 <|
g_newI (t := 0) F dX5_init_88 q256 rfl rfl rfl (Nat.le_of_ble_eq_true rfl) (Nat.le_of_ble_eq_true rfl) (show 0 + 0 + 1 + 1 + 1 + 1 + 1 + 1 + 1 + 1 + 1 + 1 ≤ 10 by omega) (show 0 + 0 + 900 + 22 + 22 + 1782 + 1782 + 17820 + 16 + 32 + 32 + 90 ≤ 22498 by omega) hk fun q29 h30 hk =>
g_putF F dX5_init_90 fo_X5_25_LockstepRoomModel ck_X5 q3028 rfl hnm rfl (v := aR (some q29)) (fit_ra .int (some q29)) hk fun h31 hk =>
g_aload_n F dX5_init_93 rfl 0 rfl <|
g_callv0 (g_V F dX5_init_94 q2999 mi_X5_newRoom ct_X5 (rm' := rmX5_newRoom) ⟨Nat.le_of_ble_eq_true rfl, Nat.le_of_ble_eq_true rfl⟩ ⟨show 0 + 0 + 1 + 1 + 1 + 1 + 1 + 1 + 1 + 1 + 1 + 1 + 0 ≤ 10 by omega, show 0 + 0 + 900 + 22 + 22 + 1782 + 1782 + 17820 + 16 + 32 + 32 + 90 + 0 ≤ 22498 by omega⟩ (As := []) (rest := []) rfl rfl (Nat.le_of_ble_eq_true rfl) hk (fun a33 hk => m_X5_newRoom F.ok a33 h31 _ hk)) ⟨rfl, rfl⟩ fun h32 hk =>
g_vret F dX5_init_97 (show 0 + 0 + 1 + 1 + 1 + 1 + 1 + 1 + 1 + 1 + 1 + 1 ≤ 10 by omega) (show 0 + 0 + 900 + 22 + 22 + 1782 + 1782 + 17820 + 16 + 32 + 32 + 90 ≤ 22498 by omega) hk
abbrev rmX5_thrown : Room := { frames := 2, cells := 0, slots := 0, locals := 40 }
theorem m_X5_thrown {S : Sx} (hS0 : Sok S) (v0 : Nat) (h : hH) (Q : Int32 → hH → Prop) (hk : f_X5_thrown S.E v0 h Q) : Ct S yX5_thrown (ws_ yX5_thrown cX5_thrown 1 (some .int)) rmX5_thrown ([aR (some v0)].map vv) h (qI Q) := by
  refine Ct.of hS0 (by decide +kernel) rfl (Nat.le_of_ble_eq_true rfl) fun x hxS F hnm => ?_
  subst hxS
  unfold f_X5_thrown at hk
  exact g_aload_n F dX5_thrown_0 rfl 0 rfl <|
g_getI F dX5_thrown_1 fo_X5_0_LockstepRoomModel in_X5 fl_LockstepRoomModel_47_X5 hk fun x1 hk =>
g_iret F dX5_thrown_4 (Nat.le_refl 0) (Nat.le_refl 0) hk
abbrev rmX5_feed : Room := { frames := 2, cells := 0, slots := 0, locals := 40 }
theorem s_X5_feed_j77 {x : Cx} (F : Fx x cX5_feed "LockstepRoomModel" 8 (some .int) rmX5_feed) {v0 : Nat} {Q : Int32 → hH → Prop} {K24 : Int32 → Int32 → Int32 → Int32 → Int32 → Int32 → hH → Prop} (s0 : Int32) (l1 : Int32) (l2 : Int32) (l3 : Int32) (l4 : Int32) (l5 : Int32) (l6 : Int32) (h : hH) (hk : f_X5_feed_j77 x.S.E v0 Q K24 s0 l1 l2 l3 l4 l5 l6 h) (hK24 : ∀ (l1 : Int32) (l2 : Int32) (l3 : Int32) (l4 : Int32) (l5 : Int32) (l6 : Int32) (h : hH), K24 l1 l2 l3 l4 l5 l6 h → G x (xQ x rmX5_feed (qI Q)) 24 [(0, aR (some v0)), (1, aI l1), (2, aI l2), (3, aI l3), (4, aI l4), (5, aI l5), (6, aI l6)] [] h 0 0) : G x (xQ x rmX5_feed (qI Q)) 77 [(0, aR (some v0)), (1, aI l1), (2, aI l2), (3, aI l3), (4, aI l4), (5, aI l5), (6, aI l6)] [aI s0] h 0 0 := by
  unfold f_X5_feed_j77 at hk
  exact g_istore F dX5_feed_77 (Nat.le_of_ble_eq_true rfl) rfl <|
g_aload_n F dX5_feed_79 rfl 1 rfl <|
g_getR F dX5_feed_80 fo_X5_1_LockstepRoomModel in_X5 fl_LockstepRoomModel_7_X5 hk fun x1 hk =>
g_aload_n F dX5_feed_83 rfl 1 rfl <|
g_getI F dX5_feed_84 fo_X5_2_LockstepRoomModel in_X5 fl_LockstepRoomModel_50_X5 hk fun x2 hk =>
g_iload F dX5_feed_87 7 rfl <|
g_iadd F dX5_feed_89 <|
g_iload F dX5_feed_90 0 rfl <|
g_bipush F dX5_feed_92 bp_24 <|
g_bipush F dX5_feed_94 bp_8 <|
g_iload F dX5_feed_96 7 rfl <|
g_iconst F dX5_feed_98 ic_4 <|
g_irem F dX5_feed_99 nz_4_Int32 <|
g_imul F dX5_feed_100 <|
g_isub F dX5_feed_101 <|
g_ishr F dX5_feed_102 <|
g_sipush F dX5_feed_103 sp_255 <|
g_iand F dX5_feed_106 <|
g_iast F dX5_feed_107 hk fun h3 hk =>
g_iinc (v := (l6 + (1:Int32))) F dX5_feed_108 (j := 7) rfl (iinc_1 l6) (Nat.le_of_ble_eq_true rfl) rfl <|
g_goto F dX5_feed_111 (tgt := 24) rfl <|
G.fewer [2, 3, 4, 5, 6, 7, 0] rfl <| hK24 l1 l2 l3 l4 l5 (l6 + (1:Int32)) h3 hk
theorem s_X5_feed_l24 {x : Cx} (F : Fx x cX5_feed "LockstepRoomModel" 8 (some .int) rmX5_feed) {v0 : Nat} {Q : Int32 → hH → Prop} {K114 : hH → Prop} (n : Nat) (l1 : Int32) (l2 : Int32) (l3 : Int32) (l4 : Int32) (l5 : Int32) (l6 : Int32) (h : hH) (hk : f_X5_feed_l24 x.S.E v0 Q K114 n l1 l2 l3 l4 l5 l6 h) (hK114 : ∀ (h : hH), K114 h → G x (xQ x rmX5_feed (qI Q)) 114 [(0, aR (some v0))] [] h 0 0) : G x (xQ x rmX5_feed (qI Q)) 24 [(0, aR (some v0)), (1, aI l1), (2, aI l2), (3, aI l3), (4, aI l4), (5, aI l5), (6, aI l6)] [] h 0 0 := by
  induction n generalizing l1 l2 l3 l4 l5 l6 h with
  | zero => exact False.elim hk
  | succ n ih =>
    unfold f_X5_feed_l24 at hk
    exact g_iload F dX5_feed_24 6 rfl <|
g_bipush F dX5_feed_26 bp_20 <|
g_icmp_ge F dX5_feed_28 (tgt := 114) rfl (fun hc => have hk := hk.1 hc
G.fewer [0] rfl <| hK114 h hk) (fun hc => have hk := hk.2 hc
g_iload F dX5_feed_31 6 rfl <|
g_iconst F dX5_feed_33 ic_4 <|
g_icmp_ge F dX5_feed_34 (tgt := 41) rfl (fun hc => have hk := hk.1 hc
g_iload F dX5_feed_41 6 rfl <|
g_bipush F dX5_feed_43 bp_8 <|
g_icmp_ge F dX5_feed_45 (tgt := 52) rfl (fun hc => have hk := hk.1 hc
g_iload F dX5_feed_52 6 rfl <|
g_bipush F dX5_feed_54 bp_12 <|
g_icmp_ge F dX5_feed_56 (tgt := 63) rfl (fun hc => have hk := hk.1 hc
g_iload F dX5_feed_63 6 rfl <|
g_bipush F dX5_feed_65 bp_16 <|
g_icmp_ge F dX5_feed_67 (tgt := 75) rfl (fun hc => have hk := hk.1 hc
g_iload F dX5_feed_75 5 rfl <|
s_X5_feed_j77 F l5 l1 l2 l3 l4 l5 l6 h hk ih) (fun hc => have hk := hk.2 hc
g_iload F dX5_feed_70 4 rfl <|
g_goto F dX5_feed_72 (tgt := 77) rfl <|
s_X5_feed_j77 F l4 l1 l2 l3 l4 l5 l6 h hk ih)) (fun hc => have hk := hk.2 hc
g_iload_n F dX5_feed_59 rfl 3 rfl <|
g_goto F dX5_feed_60 (tgt := 77) rfl <|
s_X5_feed_j77 F l3 l1 l2 l3 l4 l5 l6 h hk ih)) (fun hc => have hk := hk.2 hc
g_iload_n F dX5_feed_48 rfl 2 rfl <|
g_goto F dX5_feed_49 (tgt := 77) rfl <|
s_X5_feed_j77 F l2 l1 l2 l3 l4 l5 l6 h hk ih)) (fun hc => have hk := hk.2 hc
g_iload_n F dX5_feed_37 rfl 1 rfl <|
g_goto F dX5_feed_38 (tgt := 77) rfl <|
s_X5_feed_j77 F l1 l1 l2 l3 l4 l5 l6 h hk ih))
theorem m_X5_feed {S : Sx} (hS0 : Sok S) (v0 : Nat) (v1 : Int32) (v2 : Int32) (v3 : Int32) (v4 : Int32) (v5 : Int32) (h : hH) (Q : Int32 → hH → Prop) (hk : f_X5_feed S.E v0 v1 v2 v3 v4 v5 h Q) : Ct S yX5_feed (ws_ yX5_feed cX5_feed 8 (some .int)) rmX5_feed ([aR (some v0), aI v1, aI v2, aI v3, aI v4, aI v5].map vv) h (qI Q) := by
  refine Ct.of hS0 (by decide +kernel) rfl (Nat.le_of_ble_eq_true rfl) fun x hxS F hnm => ?_
  subst hxS
  unfold f_X5_feed at hk
  exact g_aload_n F dX5_feed_0 rfl 0 rfl <|
g_iconst F dX5_feed_1 ic_0 <|
g_putV F dX5_feed_2 fo_X5_0_LockstepRoomModel ck_X5 fl_LockstepRoomModel_47_X5 rfl (v := aI (0:Int32)) (fit_i (0:Int32)) hk fun h4 hk =>
g_aload_n F dX5_feed_5 rfl 0 rfl <|
g_getI F dX5_feed_6 fo_X5_2_LockstepRoomModel in_X5 fl_LockstepRoomModel_50_X5 hk fun x5 hk =>
g_bipush F dX5_feed_9 bp_20 <|
g_iadd F dX5_feed_11 <|
g_sipush F dX5_feed_12 sp_900 <|
g_icmp_le F dX5_feed_15 (tgt := 21) rfl (fun hc => have hk := hk.1 hc
g_iconst F dX5_feed_21 ic_0 <|
g_istore F dX5_feed_22 (Nat.le_of_ble_eq_true rfl) rfl <|
G.fewer [1, 2, 3, 4, 5, 6, 0] rfl <| s_X5_feed_l24 F 1000000 v1 v2 v3 v4 v5 (0:Int32) h4 hk ((fun h hk => g_aload_n F dX5_feed_114 rfl 0 rfl <|
g_dup F dX5_feed_115 rfl <|
g_getI F dX5_feed_116 fo_X5_2_LockstepRoomModel in_X5 fl_LockstepRoomModel_50_X5 hk fun x6 hk =>
g_bipush F dX5_feed_119 bp_20 <|
g_iadd F dX5_feed_121 <|
g_putV F dX5_feed_122 fo_X5_2_LockstepRoomModel ck_X5 fl_LockstepRoomModel_50_X5 rfl (v := aI (x6 + (20:Int32))) (fit_i (x6 + (20:Int32))) hk fun h7 hk =>
g_aload_n F dX5_feed_125 rfl 0 rfl <|
g_getI F dX5_feed_126 fo_X5_2_LockstepRoomModel in_X5 fl_LockstepRoomModel_50_X5 hk fun x8 hk =>
g_iret F dX5_feed_129 (Nat.le_refl 0) (Nat.le_refl 0) hk))) (fun hc => have hk := hk.2 hc
g_bipush F dX5_feed_18 bp_m3 <|
g_iret F dX5_feed_20 (Nat.le_refl 0) (Nat.le_refl 0) hk)
abbrev rmX5_copies : Room := { frames := 2, cells := 0, slots := 0, locals := 40 }
theorem s_X5_copies_l2 {x : Cx} (F : Fx x cX5_copies "LockstepRoomModel" 3 none rmX5_copies) {Q : hH → Prop} {K20 : hH → Prop} (n : Nat) (l0 : Option Nat) (l1 : Option Nat) (l2 : Int32) (h : hH) (hk : f_X5_copies_l2 x.S.E Q K20 n l0 l1 l2 h) (hK20 : ∀ (h : hH), K20 h → G x (xQ x rmX5_copies (qV Q)) 20 [] [] h 0 0) : G x (xQ x rmX5_copies (qV Q)) 2 [(0, aR l0), (1, aR l1), (2, aI l2)] [] h 0 0 := by
  induction n generalizing l0 l1 l2 h with
  | zero => exact False.elim hk
  | succ n ih =>
    unfold f_X5_copies_l2 at hk
    exact g_iload_n F dX5_copies_2 rfl 2 rfl <|
g_aload_n F dX5_copies_3 rfl 0 rfl <|
g_alen (t := 0) F dX5_copies_4 rfl hk fun x1 hk =>
g_icmp_ge F dX5_copies_5 (tgt := 20) rfl (fun hc => have hk := hk.1 hc
G.fewer [] rfl <| hK20 h hk) (fun hc => have hk := hk.2 hc
g_aload_n F dX5_copies_8 rfl 1 rfl <|
g_iload_n F dX5_copies_9 rfl 2 rfl <|
g_aload_n F dX5_copies_10 rfl 0 rfl <|
g_iload_n F dX5_copies_11 rfl 2 rfl <|
g_iald F dX5_copies_12 hk fun x2 hk =>
g_iast F dX5_copies_13 hk fun h3 hk =>
g_iinc (v := (l2 + (1:Int32))) F dX5_copies_14 (j := 2) rfl (iinc_1 l2) (Nat.le_of_ble_eq_true rfl) rfl <|
g_goto F dX5_copies_17 (tgt := 2) rfl <|
G.fewer [1, 2, 0] rfl <| ih l0 l1 (l2 + (1:Int32)) h3 hk)
theorem m_X5_copies {S : Sx} (hS0 : Sok S) (v0 : Option Nat) (v1 : Option Nat) (h : hH) (Q : hH → Prop) (hk : f_X5_copies S.E v0 v1 h Q) : Ct S yX5_copies (ws_ yX5_copies cX5_copies 3 none) rmX5_copies ([aR v0, aR v1].map vv) h (qV Q) := by
  refine Ct.of hS0 (by decide +kernel) rfl (Nat.le_of_ble_eq_true rfl) fun x hxS F hnm => ?_
  subst hxS
  unfold f_X5_copies at hk
  exact g_iconst F dX5_copies_0 ic_0 <|
g_istore_n F dX5_copies_1 rfl (Nat.le_of_ble_eq_true rfl) rfl <|
G.fewer [1, 2, 0] rfl <| s_X5_copies_l2 F 1000000 v0 v1 (0:Int32) h hk ((fun h hk => g_vret F dX5_copies_20 (Nat.le_refl 0) (Nat.le_refl 0) hk))
abbrev rmX5_here : Room := { frames := 2, cells := 0, slots := 0, locals := 40 }
theorem m_X5_here {S : Sx} (hS0 : Sok S) (v0 : Nat) (h : hH) (Q : Int32 → hH → Prop) (hk : f_X5_here S.E v0 h Q) : Ct S yX5_here (ws_ yX5_here cX5_here 1 (some .int)) rmX5_here ([aR (some v0)].map vv) h (qI Q) := by
  refine Ct.of hS0 (by decide +kernel) rfl (Nat.le_of_ble_eq_true rfl) fun x hxS F hnm => ?_
  subst hxS
  unfold f_X5_here at hk
  exact g_aload_n F dX5_here_0 rfl 0 rfl <|
g_getI F dX5_here_1 fo_X5_15_LockstepRoomModel in_X5 fl_LockstepRoomModel_161_X5 hk fun x1 hk =>
g_aload_n F dX5_here_4 rfl 0 rfl <|
g_getI F dX5_here_5 fo_X5_14_LockstepRoomModel in_X5 fl_LockstepRoomModel_164_X5 hk fun x2 hk =>
g_icmp_ge F dX5_here_8 (tgt := 23) rfl (fun hc => have hk := hk.1 hc
g_iconst F dX5_here_23 ic_m1 <|
g_iret F dX5_here_24 (Nat.le_refl 0) (Nat.le_refl 0) hk) (fun hc => have hk := hk.2 hc
g_aload_n F dX5_here_11 rfl 0 rfl <|
g_getR F dX5_here_12 fo_X5_1_LockstepRoomModel in_X5 fl_LockstepRoomModel_7_X5 hk fun x3 hk =>
g_aload_n F dX5_here_15 rfl 0 rfl <|
g_getI F dX5_here_16 fo_X5_15_LockstepRoomModel in_X5 fl_LockstepRoomModel_161_X5 hk fun x4 hk =>
g_iald F dX5_here_19 hk fun x5 hk =>
g_goto F dX5_here_20 (tgt := 24) rfl <|
g_iret F dX5_here_24 (Nat.le_refl 0) (Nat.le_refl 0) hk)
abbrev rmX5_isSmall : Room := { frames := 2, cells := 0, slots := 0, locals := 40 }
theorem m_X5_isSmall {S : Sx} (hS0 : Sok S) (v0 : Int32) (h : hH) (Q : Int32 → hH → Prop) (hk : f_X5_isSmall S.E v0 h Q) : Ct S yX5_isSmall (ws_ yX5_isSmall cX5_isSmall 1 (some .boolean)) rmX5_isSmall ([aI v0].map vv) h (qI Q) := by
  refine Ct.of hS0 (by decide +kernel) rfl (Nat.le_of_ble_eq_true rfl) fun x hxS F hnm => ?_
  subst hxS
  unfold f_X5_isSmall at hk
  exact g_iload_n F dX5_isSmall_0 rfl 0 rfl <|
g_bipush F dX5_isSmall_1 bp_97 <|
g_icmp_lt F dX5_isSmall_3 (tgt := 16) rfl (fun hc => have hk := hk.1 hc
g_iconst F dX5_isSmall_16 ic_0 <|
g_zret F dX5_isSmall_17 (Nat.le_refl 0) (Nat.le_refl 0) rfl hk) (fun hc => have hk := hk.2 hc
g_iload_n F dX5_isSmall_6 rfl 0 rfl <|
g_bipush F dX5_isSmall_7 bp_122 <|
g_icmp_gt F dX5_isSmall_9 (tgt := 16) rfl (fun hc => have hk := hk.1 hc
g_iconst F dX5_isSmall_16 ic_0 <|
g_zret F dX5_isSmall_17 (Nat.le_refl 0) (Nat.le_refl 0) rfl hk) (fun hc => have hk := hk.2 hc
g_iconst F dX5_isSmall_12 ic_1 <|
g_goto F dX5_isSmall_13 (tgt := 17) rfl <|
g_zret F dX5_isSmall_17 (Nat.le_refl 0) (Nat.le_refl 0) rfl hk))
abbrev rmX5_isDigit : Room := { frames := 2, cells := 0, slots := 0, locals := 40 }
theorem m_X5_isDigit {S : Sx} (hS0 : Sok S) (v0 : Int32) (h : hH) (Q : Int32 → hH → Prop) (hk : f_X5_isDigit S.E v0 h Q) : Ct S yX5_isDigit (ws_ yX5_isDigit cX5_isDigit 1 (some .boolean)) rmX5_isDigit ([aI v0].map vv) h (qI Q) := by
  refine Ct.of hS0 (by decide +kernel) rfl (Nat.le_of_ble_eq_true rfl) fun x hxS F hnm => ?_
  subst hxS
  unfold f_X5_isDigit at hk
  exact g_iload_n F dX5_isDigit_0 rfl 0 rfl <|
g_bipush F dX5_isDigit_1 bp_48 <|
g_icmp_lt F dX5_isDigit_3 (tgt := 16) rfl (fun hc => have hk := hk.1 hc
g_iconst F dX5_isDigit_16 ic_0 <|
g_zret F dX5_isDigit_17 (Nat.le_refl 0) (Nat.le_refl 0) rfl hk) (fun hc => have hk := hk.2 hc
g_iload_n F dX5_isDigit_6 rfl 0 rfl <|
g_bipush F dX5_isDigit_7 bp_57 <|
g_icmp_gt F dX5_isDigit_9 (tgt := 16) rfl (fun hc => have hk := hk.1 hc
g_iconst F dX5_isDigit_16 ic_0 <|
g_zret F dX5_isDigit_17 (Nat.le_refl 0) (Nat.le_refl 0) rfl hk) (fun hc => have hk := hk.2 hc
g_iconst F dX5_isDigit_12 ic_1 <|
g_goto F dX5_isDigit_13 (tgt := 17) rfl <|
g_zret F dX5_isDigit_17 (Nat.le_refl 0) (Nat.le_refl 0) rfl hk))
abbrev rmX5_next : Room := { frames := 3, cells := 0, slots := 0, locals := 60 }
theorem s_X5_next_j154 {x : Cx} (F : Fx x cX5_next "LockstepRoomModel" 2 none rmX5_next) {v0 : Nat} {Q : hH → Prop} {K112 : hH → Prop} (s0 : Option Nat) (s1 : Int32) (h : hH) (hk : f_X5_next_j154 x.S.E v0 Q K112 s0 s1 h) (hK112 : ∀ (h : hH), K112 h → G x (xQ x rmX5_next (qV Q)) 112 [(0, aR (some v0))] [] h 0 0) : G x (xQ x rmX5_next (qV Q)) 154 [(0, aR (some v0))] [aI s1, aR s0] h 0 0 := by
  unfold f_X5_next_j154 at hk
  exact g_putV F dX5_next_154 fo_X5_18_LockstepRoomModel ck_X5 fl_LockstepRoomModel_182_X5 rfl (v := aI s1) (fit_i s1) hk fun h1 hk =>
g_aload_n F dX5_next_157 rfl 0 rfl <|
g_dup F dX5_next_158 rfl <|
g_getI F dX5_next_159 fo_X5_15_LockstepRoomModel in_X5 fl_LockstepRoomModel_161_X5 hk fun x2 hk =>
g_iconst F dX5_next_162 ic_1 <|
g_iadd F dX5_next_163 <|
g_putV F dX5_next_164 fo_X5_15_LockstepRoomModel ck_X5 fl_LockstepRoomModel_161_X5 rfl (v := aI (x2 + (1:Int32))) (fit_i (x2 + (1:Int32))) hk fun h3 hk =>
g_goto F dX5_next_167 (tgt := 112) rfl <|
hK112 h3 hk
theorem s_X5_next_l112 {x : Cx} (F : Fx x cX5_next "LockstepRoomModel" 2 none rmX5_next) {v0 : Nat} {Q : hH → Prop} {K195 : hH → Prop} (n : Nat) (h : hH) (hk : f_X5_next_l112 x.S.E v0 Q K195 n h) (hK195 : ∀ (h : hH), K195 h → G x (xQ x rmX5_next (qV Q)) 195 [] [] h 0 0) : G x (xQ x rmX5_next (qV Q)) 112 [(0, aR (some v0))] [] h 0 0 := by
  induction n generalizing h with
  | zero => exact False.elim hk
  | succ n ih =>
    unfold f_X5_next_l112 at hk
    exact g_aload_n F dX5_next_112 rfl 0 rfl <|
g_calli0 (g_V F dX5_next_113 q3104 mi_X5_here ct_X5 (rm' := rmX5_here) ⟨Nat.le_of_ble_eq_true rfl, Nat.le_of_ble_eq_true rfl⟩ ⟨Nat.le_refl 0, Nat.le_refl 0⟩ (As := []) (rest := []) rfl rfl (Nat.le_of_ble_eq_true rfl) hk (fun a6 hk => m_X5_here F.ok a6 h _ hk)) ⟨rfl, rfl⟩ fun x5 h4 hk =>
g_calli0 (g_S F dX5_next_116 q3111 ms_X5_isDigit (rm' := rmX5_isDigit) ⟨Nat.le_of_ble_eq_true rfl, Nat.le_of_ble_eq_true rfl⟩ ⟨Nat.le_refl 0, Nat.le_refl 0⟩ (As := [aI x5]) (rest := []) rfl rfl (Nat.le_of_ble_eq_true rfl) (m_X5_isDigit F.ok x5 h4 _ hk)) ⟨rfl, rfl⟩ fun x8 h7 hk =>
g_if_eq F dX5_next_119 (tgt := 195) rfl (fun hc => have hk := hk.1 hc
G.fewer [] rfl <| hK195 h7 hk) (fun hc => have hk := hk.2 hc
g_aload_n F dX5_next_122 rfl 0 rfl <|
g_aload_n F dX5_next_123 rfl 0 rfl <|
g_getI F dX5_next_124 fo_X5_18_LockstepRoomModel in_X5 fl_LockstepRoomModel_182_X5 hk fun x9 hk =>
g_ldc F dX5_next_127 q3114 <|
g_icmp_le F dX5_next_129 (tgt := 139) rfl (fun hc => have hk := hk.1 hc
g_bipush F dX5_next_139 bp_10 <|
g_aload_n F dX5_next_141 rfl 0 rfl <|
g_getI F dX5_next_142 fo_X5_18_LockstepRoomModel in_X5 fl_LockstepRoomModel_182_X5 hk fun x10 hk =>
g_imul F dX5_next_145 <|
g_aload_n F dX5_next_146 rfl 0 rfl <|
g_calli0 (g_V F dX5_next_147 q3104 mi_X5_here ct_X5 (rm' := rmX5_here) ⟨Nat.le_of_ble_eq_true rfl, Nat.le_of_ble_eq_true rfl⟩ ⟨Nat.le_refl 0, Nat.le_refl 0⟩ (As := []) (rest := [aI ((10:Int32) * x10), aR (some v0)]) rfl rfl (Nat.le_of_ble_eq_true rfl) hk (fun a13 hk => m_X5_here F.ok a13 h7 _ hk)) ⟨rfl, rfl⟩ fun x12 h11 hk =>
g_iadd F dX5_next_150 <|
g_bipush F dX5_next_151 bp_48 <|
g_isub F dX5_next_153 <|
s_X5_next_j154 F (some v0) ((((10:Int32) * x10) + x12) - (48:Int32)) h11 hk ih) (fun hc => have hk := hk.2 hc
g_aload_n F dX5_next_132 rfl 0 rfl <|
g_getI F dX5_next_133 fo_X5_18_LockstepRoomModel in_X5 fl_LockstepRoomModel_182_X5 hk fun x14 hk =>
g_goto F dX5_next_136 (tgt := 154) rfl <|
s_X5_next_j154 F (some v0) x14 h7 hk ih))
theorem s_X5_next_l64 {x : Cx} (F : Fx x cX5_next "LockstepRoomModel" 2 none rmX5_next) {v0 : Nat} {Q : hH → Prop} {K87 : hH → Prop} (n : Nat) (h : hH) (hk : f_X5_next_l64 x.S.E v0 Q K87 n h) (hK87 : ∀ (h : hH), K87 h → G x (xQ x rmX5_next (qV Q)) 87 [(0, aR (some v0))] [] h 0 0) : G x (xQ x rmX5_next (qV Q)) 64 [(0, aR (some v0))] [] h 0 0 := by
  induction n generalizing h with
  | zero => exact False.elim hk
  | succ n ih =>
    unfold f_X5_next_l64 at hk
    exact g_aload_n F dX5_next_64 rfl 0 rfl <|
g_calli0 (g_V F dX5_next_65 q3104 mi_X5_here ct_X5 (rm' := rmX5_here) ⟨Nat.le_of_ble_eq_true rfl, Nat.le_of_ble_eq_true rfl⟩ ⟨Nat.le_refl 0, Nat.le_refl 0⟩ (As := []) (rest := []) rfl rfl (Nat.le_of_ble_eq_true rfl) hk (fun a17 hk => m_X5_here F.ok a17 h _ hk)) ⟨rfl, rfl⟩ fun x16 h15 hk =>
g_calli0 (g_S F dX5_next_68 q3108 ms_X5_isSmall (rm' := rmX5_isSmall) ⟨Nat.le_of_ble_eq_true rfl, Nat.le_of_ble_eq_true rfl⟩ ⟨Nat.le_refl 0, Nat.le_refl 0⟩ (As := [aI x16]) (rest := []) rfl rfl (Nat.le_of_ble_eq_true rfl) (m_X5_isSmall F.ok x16 h15 _ hk)) ⟨rfl, rfl⟩ fun x19 h18 hk =>
g_if_eq F dX5_next_71 (tgt := 87) rfl (fun hc => have hk := hk.1 hc
hK87 h18 hk) (fun hc => have hk := hk.2 hc
g_aload_n F dX5_next_74 rfl 0 rfl <|
g_dup F dX5_next_75 rfl <|
g_getI F dX5_next_76 fo_X5_15_LockstepRoomModel in_X5 fl_LockstepRoomModel_161_X5 hk fun x20 hk =>
g_iconst F dX5_next_79 ic_1 <|
g_iadd F dX5_next_80 <|
g_putV F dX5_next_81 fo_X5_15_LockstepRoomModel ck_X5 fl_LockstepRoomModel_161_X5 rfl (v := aI (x20 + (1:Int32))) (fit_i (x20 + (1:Int32))) hk fun h21 hk =>
g_goto F dX5_next_84 (tgt := 64) rfl <|
ih h21 hk)
theorem s_X5_next_j18 {x : Cx} (F : Fx x cX5_next "LockstepRoomModel" 2 none rmX5_next) {v0 : Nat} {Q : hH → Prop} {K0 : hH → Prop} (h : hH) (hk : f_X5_next_j18 x.S.E v0 Q K0 h) (hK0 : ∀ (h : hH), K0 h → G x (xQ x rmX5_next (qV Q)) 0 [(0, aR (some v0))] [] h 0 0) : G x (xQ x rmX5_next (qV Q)) 18 [(0, aR (some v0))] [] h 0 0 := by
  unfold f_X5_next_j18 at hk
  exact g_aload_n F dX5_next_18 rfl 0 rfl <|
g_dup F dX5_next_19 rfl <|
g_getI F dX5_next_20 fo_X5_15_LockstepRoomModel in_X5 fl_LockstepRoomModel_161_X5 hk fun x22 hk =>
g_iconst F dX5_next_23 ic_1 <|
g_iadd F dX5_next_24 <|
g_putV F dX5_next_25 fo_X5_15_LockstepRoomModel ck_X5 fl_LockstepRoomModel_161_X5 rfl (v := aI (x22 + (1:Int32))) (fit_i (x22 + (1:Int32))) hk fun h23 hk =>
g_goto F dX5_next_28 (tgt := 0) rfl <|
hK0 h23 hk
theorem s_X5_next_l0 {x : Cx} (F : Fx x cX5_next "LockstepRoomModel" 2 none rmX5_next) {v0 : Nat} {Q : hH → Prop} {K31 : hH → Prop} (n : Nat) (h : hH) (hk : f_X5_next_l0 x.S.E v0 Q K31 n h) (hK31 : ∀ (h : hH), K31 h → G x (xQ x rmX5_next (qV Q)) 31 [(0, aR (some v0))] [] h 0 0) : G x (xQ x rmX5_next (qV Q)) 0 [(0, aR (some v0))] [] h 0 0 := by
  induction n generalizing h with
  | zero => exact False.elim hk
  | succ n ih =>
    unfold f_X5_next_l0 at hk
    exact g_aload_n F dX5_next_0 rfl 0 rfl <|
g_calli0 (g_V F dX5_next_1 q3104 mi_X5_here ct_X5 (rm' := rmX5_here) ⟨Nat.le_of_ble_eq_true rfl, Nat.le_of_ble_eq_true rfl⟩ ⟨Nat.le_refl 0, Nat.le_refl 0⟩ (As := []) (rest := []) rfl rfl (Nat.le_of_ble_eq_true rfl) hk (fun a26 hk => m_X5_here F.ok a26 h _ hk)) ⟨rfl, rfl⟩ fun x25 h24 hk =>
g_bipush F dX5_next_4 bp_10 <|
g_icmp_eq F dX5_next_6 (tgt := 18) rfl (fun hc => have hk := hk.1 hc
s_X5_next_j18 F h24 hk ih) (fun hc => have hk := hk.2 hc
g_aload_n F dX5_next_9 rfl 0 rfl <|
g_calli0 (g_V F dX5_next_10 q3104 mi_X5_here ct_X5 (rm' := rmX5_here) ⟨Nat.le_of_ble_eq_true rfl, Nat.le_of_ble_eq_true rfl⟩ ⟨Nat.le_refl 0, Nat.le_refl 0⟩ (As := []) (rest := []) rfl rfl (Nat.le_of_ble_eq_true rfl) hk (fun a29 hk => m_X5_here F.ok a29 h24 _ hk)) ⟨rfl, rfl⟩ fun x28 h27 hk =>
g_bipush F dX5_next_13 bp_32 <|
g_icmp_ne F dX5_next_15 (tgt := 31) rfl (fun hc => have hk := hk.2 hc
hK31 h27 hk) (fun hc => have hk := hk.1 hc
s_X5_next_j18 F h27 hk ih))
theorem s_X5_next_j182 {x : Cx} (F : Fx x cX5_next "LockstepRoomModel" 2 none rmX5_next) {v0 : Nat} {Q : hH → Prop} (s0 : Option Nat) (s1 : Int32) (h : hH) (hk : f_X5_next_j182 x.S.E v0 Q s0 s1 h) : G x (xQ x rmX5_next (qV Q)) 182 [(0, aR (some v0))] [aI s1, aR s0] h 0 0 := by
  unfold f_X5_next_j182 at hk
  exact g_putV F dX5_next_182 fo_X5_17_LockstepRoomModel ck_X5 fl_LockstepRoomModel_173_X5 rfl (v := aI s1) (fit_i s1) hk fun h30 hk =>
g_aload_n F dX5_next_185 rfl 0 rfl <|
g_dup F dX5_next_186 rfl <|
g_getI F dX5_next_187 fo_X5_15_LockstepRoomModel in_X5 fl_LockstepRoomModel_161_X5 hk fun x31 hk =>
g_iconst F dX5_next_190 ic_1 <|
g_iadd F dX5_next_191 <|
g_putV F dX5_next_192 fo_X5_15_LockstepRoomModel ck_X5 fl_LockstepRoomModel_161_X5 rfl (v := aI (x31 + (1:Int32))) (fit_i (x31 + (1:Int32))) hk fun h32 hk =>
g_vret F dX5_next_195 (Nat.le_refl 0) (Nat.le_refl 0) hk
theorem m_X5_next {S : Sx} (hS0 : Sok S) (v0 : Nat) (h : hH) (Q : hH → Prop) (hk : f_X5_next S.E v0 h Q) : Ct S yX5_next (ws_ yX5_next cX5_next 2 none) rmX5_next ([aR (some v0)].map vv) h (qV Q) := by
  refine Ct.of hS0 (by decide +kernel) rfl (Nat.le_of_ble_eq_true rfl) fun x hxS F hnm => ?_
  subst hxS
  unfold f_X5_next at hk
  exact s_X5_next_l0 F 1000000 h hk ((fun h hk => g_aload_n F dX5_next_31 rfl 0 rfl <|
g_aload_n F dX5_next_32 rfl 0 rfl <|
g_getI F dX5_next_33 fo_X5_15_LockstepRoomModel in_X5 fl_LockstepRoomModel_161_X5 hk fun x33 hk =>
g_putV F dX5_next_36 fo_X5_16_LockstepRoomModel ck_X5 fl_LockstepRoomModel_170_X5 rfl (v := aI x33) (fit_i x33) hk fun h34 hk =>
g_aload_n F dX5_next_39 rfl 0 rfl <|
g_calli0 (g_V F dX5_next_40 q3104 mi_X5_here ct_X5 (rm' := rmX5_here) ⟨Nat.le_of_ble_eq_true rfl, Nat.le_of_ble_eq_true rfl⟩ ⟨Nat.le_refl 0, Nat.le_refl 0⟩ (As := []) (rest := []) rfl rfl (Nat.le_of_ble_eq_true rfl) hk (fun a37 hk => m_X5_here F.ok a37 h34 _ hk)) ⟨rfl, rfl⟩ fun x36 h35 hk =>
g_istore_n F dX5_next_43 rfl (Nat.le_of_ble_eq_true rfl) rfl <|
g_iload_n F dX5_next_44 rfl 0 rfl <|
g_iconst F dX5_next_45 ic_m1 <|
g_icmp_ne F dX5_next_46 (tgt := 57) rfl (fun hc => have hk := hk.2 hc
g_iload_n F dX5_next_57 rfl 0 rfl <|
g_calli0 (g_S F dX5_next_58 q3108 ms_X5_isSmall (rm' := rmX5_isSmall) ⟨Nat.le_of_ble_eq_true rfl, Nat.le_of_ble_eq_true rfl⟩ ⟨Nat.le_refl 0, Nat.le_refl 0⟩ (As := [aI x36]) (rest := []) rfl rfl (Nat.le_of_ble_eq_true rfl) (m_X5_isSmall F.ok x36 h35 _ hk)) ⟨rfl, rfl⟩ fun x39 h38 hk =>
g_if_eq F dX5_next_61 (tgt := 95) rfl (fun hc => have hk := hk.1 hc
g_iload_n F dX5_next_95 rfl 0 rfl <|
g_calli0 (g_S F dX5_next_96 q3111 ms_X5_isDigit (rm' := rmX5_isDigit) ⟨Nat.le_of_ble_eq_true rfl, Nat.le_of_ble_eq_true rfl⟩ ⟨Nat.le_refl 0, Nat.le_refl 0⟩ (As := [aI x36]) (rest := []) rfl rfl (Nat.le_of_ble_eq_true rfl) (m_X5_isDigit F.ok x36 h38 _ hk)) ⟨rfl, rfl⟩ fun x41 h40 hk =>
g_if_eq F dX5_next_99 (tgt := 170) rfl (fun hc => have hk := hk.1 hc
g_aload_n F dX5_next_170 rfl 1 rfl <|
g_iload_n F dX5_next_171 rfl 0 rfl <|
g_bipush F dX5_next_172 bp_59 <|
g_icmp_ne F dX5_next_174 (tgt := 181) rfl (fun hc => have hk := hk.2 hc
g_iconst F dX5_next_181 ic_4 <|
G.fewer [1] rfl <| s_X5_next_j182 F (some v0) (4:Int32) h40 hk ) (fun hc => have hk := hk.1 hc
g_iconst F dX5_next_177 ic_2 <|
g_goto F dX5_next_178 (tgt := 182) rfl <|
G.fewer [1] rfl <| s_X5_next_j182 F (some v0) (2:Int32) h40 hk )) (fun hc => have hk := hk.2 hc
g_aload_n F dX5_next_102 rfl 1 rfl <|
g_iconst F dX5_next_103 ic_1 <|
g_putV F dX5_next_104 fo_X5_17_LockstepRoomModel ck_X5 fl_LockstepRoomModel_173_X5 rfl (v := aI (1:Int32)) (fit_i (1:Int32)) hk fun h42 hk =>
g_aload_n F dX5_next_107 rfl 1 rfl <|
g_iconst F dX5_next_108 ic_0 <|
g_putV F dX5_next_109 fo_X5_18_LockstepRoomModel ck_X5 fl_LockstepRoomModel_182_X5 rfl (v := aI (0:Int32)) (fit_i (0:Int32)) hk fun h43 hk =>
G.fewer [1] rfl <| s_X5_next_l112 F 1000000 h43 hk ((fun h hk => g_vret F dX5_next_195 (Nat.le_refl 0) (Nat.le_refl 0) hk)))) (fun hc => have hk := hk.2 hc
G.fewer [1] rfl <| s_X5_next_l64 F 1000000 h38 hk ((fun h hk => g_aload_n F dX5_next_87 rfl 0 rfl <|
g_iconst F dX5_next_88 ic_0 <|
g_putV F dX5_next_89 fo_X5_17_LockstepRoomModel ck_X5 fl_LockstepRoomModel_173_X5 rfl (v := aI (0:Int32)) (fit_i (0:Int32)) hk fun h44 hk =>
g_goto F dX5_next_92 (tgt := 195) rfl <|
g_vret F dX5_next_195 (Nat.le_refl 0) (Nat.le_refl 0) hk)))) (fun hc => have hk := hk.1 hc
g_aload_n F dX5_next_49 rfl 1 rfl <|
g_iconst F dX5_next_50 ic_3 <|
g_putV F dX5_next_51 fo_X5_17_LockstepRoomModel ck_X5 fl_LockstepRoomModel_173_X5 rfl (v := aI (3:Int32)) (fit_i (3:Int32)) hk fun h45 hk =>
g_goto F dX5_next_54 (tgt := 195) rfl <|
g_vret F dX5_next_195 (Nat.le_refl 0) (Nat.le_refl 0) hk)))
abbrev rmX5_wordOf : Room := { frames := 6, cells := 0, slots := 0, locals := 125 }
theorem s_X5_wordOf_l107 {x : Cx} (F : Fx x cX5_wordOf "LockstepRoomModel" 5 (some .int) rmX5_wordOf) {v0 : Nat} {Q : Int32 → hH → Prop} {K123 : Option Nat → Int32 → Int32 → hH → Prop} (n : Nat) (l1 : Option Nat) (l2 : Int32) (l3 : Int32) (h : hH) (hk : f_X5_wordOf_l107 x.S.E v0 Q K123 n l1 l2 l3 h) (hK123 : ∀ (l1 : Option Nat) (l2 : Int32) (l3 : Int32) (h : hH), K123 l1 l2 l3 h → G x (xQ x rmX5_wordOf (qI Q)) 123 [(0, aR (some v0)), (1, aR l1), (2, aI l2), (3, aI l3)] [] h 0 0) : G x (xQ x rmX5_wordOf (qI Q)) 107 [(0, aR (some v0)), (1, aR l1), (2, aI l2), (3, aI l3)] [] h 0 0 := by
  induction n generalizing l1 l2 l3 h with
  | zero => exact False.elim hk
  | succ n ih =>
    unfold f_X5_wordOf_l107 at hk
    exact g_aload_n F dX5_wordOf_107 rfl 1 rfl <|
g_iload_n F dX5_wordOf_108 rfl 3 rfl <|
g_calli0 (g_V F dX5_wordOf_109 q3125 mi_J8_charAt ct_J8 (rm' := rmJ8_charAt) ⟨Nat.le_of_ble_eq_true rfl, Nat.le_of_ble_eq_true rfl⟩ ⟨Nat.le_refl 0, Nat.le_refl 0⟩ (As := [aI l3]) (rest := []) rfl rfl (Nat.le_of_ble_eq_true rfl) hk (fun a3 hk => m_J8_charAt F.ok a3 l3 h _ hk)) ⟨rfl, rfl⟩ fun x2 h1 hk =>
g_bipush F dX5_wordOf_112 bp_32 <|
g_icmp_eq F dX5_wordOf_114 (tgt := 123) rfl (fun hc => have hk := hk.1 hc
hK123 l1 l2 l3 h1 hk) (fun hc => have hk := hk.2 hc
g_iinc (v := (l3 + (1:Int32))) F dX5_wordOf_117 (j := 3) rfl (iinc_1 l3) (Nat.le_of_ble_eq_true rfl) rfl <|
g_goto F dX5_wordOf_120 (tgt := 107) rfl <|
G.fewer [1, 2, 3, 0] rfl <| ih l1 l2 (l3 + (1:Int32)) h1 hk)
theorem s_X5_wordOf_l22 {x : Cx} (F : Fx x cX5_wordOf "LockstepRoomModel" 5 (some .int) rmX5_wordOf) {v0 : Nat} {Q : Int32 → hH → Prop} {K78 : Option Nat → Int32 → Int32 → Int32 → hH → Prop} (n : Nat) (l1 : Option Nat) (l2 : Int32) (l3 : Int32) (l4 : Int32) (h : hH) (hk : f_X5_wordOf_l22 x.S.E v0 Q K78 n l1 l2 l3 l4 h) (hK78 : ∀ (l1 : Option Nat) (l2 : Int32) (l3 : Int32) (l4 : Int32) (h : hH), K78 l1 l2 l3 l4 h → G x (xQ x rmX5_wordOf (qI Q)) 78 [(0, aR (some v0)), (1, aR l1), (2, aI l2), (3, aI l3), (4, aI l4)] [] h 0 0) : G x (xQ x rmX5_wordOf (qI Q)) 22 [(0, aR (some v0)), (1, aR l1), (2, aI l2), (3, aI l3), (4, aI l4)] [] h 0 0 := by
  induction n generalizing l1 l2 l3 l4 h with
  | zero => exact False.elim hk
  | succ n ih =>
    unfold f_X5_wordOf_l22 at hk
    exact g_aload_n F dX5_wordOf_22 rfl 1 rfl <|
g_iload_n F dX5_wordOf_23 rfl 3 rfl <|
g_iload F dX5_wordOf_24 4 rfl <|
g_iadd F dX5_wordOf_26 <|
g_calli0 (g_V F dX5_wordOf_27 q3125 mi_J8_charAt ct_J8 (rm' := rmJ8_charAt) ⟨Nat.le_of_ble_eq_true rfl, Nat.le_of_ble_eq_true rfl⟩ ⟨Nat.le_refl 0, Nat.le_refl 0⟩ (As := [aI (l3 + l4)]) (rest := []) rfl rfl (Nat.le_of_ble_eq_true rfl) hk (fun a6 hk => m_J8_charAt F.ok a6 (l3 + l4) h _ hk)) ⟨rfl, rfl⟩ fun x5 h4 hk =>
g_bipush F dX5_wordOf_30 bp_32 <|
g_icmp_eq F dX5_wordOf_32 (tgt := 78) rfl (fun hc => have hk := hk.1 hc
hK78 l1 l2 l3 l4 h4 hk) (fun hc => have hk := hk.2 hc
g_aload_n F dX5_wordOf_35 rfl 0 rfl <|
g_getI F dX5_wordOf_36 fo_X5_16_LockstepRoomModel in_X5 fl_LockstepRoomModel_170_X5 hk fun x7 hk =>
g_iload F dX5_wordOf_39 4 rfl <|
g_iadd F dX5_wordOf_41 <|
g_aload_n F dX5_wordOf_42 rfl 0 rfl <|
g_getI F dX5_wordOf_43 fo_X5_15_LockstepRoomModel in_X5 fl_LockstepRoomModel_161_X5 hk fun x8 hk =>
g_icmp_ge F dX5_wordOf_46 (tgt := 78) rfl (fun hc => have hk := hk.1 hc
hK78 l1 l2 l3 l4 h4 hk) (fun hc => have hk := hk.2 hc
g_aload_n F dX5_wordOf_49 rfl 0 rfl <|
g_getR F dX5_wordOf_50 fo_X5_1_LockstepRoomModel in_X5 fl_LockstepRoomModel_7_X5 hk fun x9 hk =>
g_aload_n F dX5_wordOf_53 rfl 0 rfl <|
g_getI F dX5_wordOf_54 fo_X5_16_LockstepRoomModel in_X5 fl_LockstepRoomModel_170_X5 hk fun x10 hk =>
g_iload F dX5_wordOf_57 4 rfl <|
g_iadd F dX5_wordOf_59 <|
g_iald F dX5_wordOf_60 hk fun x11 hk =>
g_aload_n F dX5_wordOf_61 rfl 1 rfl <|
g_iload_n F dX5_wordOf_62 rfl 3 rfl <|
g_iload F dX5_wordOf_63 4 rfl <|
g_iadd F dX5_wordOf_65 <|
g_calli0 (g_V F dX5_wordOf_66 q3125 mi_J8_charAt ct_J8 (rm' := rmJ8_charAt) ⟨Nat.le_of_ble_eq_true rfl, Nat.le_of_ble_eq_true rfl⟩ ⟨Nat.le_refl 0, Nat.le_refl 0⟩ (As := [aI (l3 + l4)]) (rest := [aI x11]) rfl rfl (Nat.le_of_ble_eq_true rfl) hk (fun a14 hk => m_J8_charAt F.ok a14 (l3 + l4) h4 _ hk)) ⟨rfl, rfl⟩ fun x13 h12 hk =>
g_icmp_ne F dX5_wordOf_69 (tgt := 78) rfl (fun hc => have hk := hk.2 hc
hK78 l1 l2 l3 l4 h12 hk) (fun hc => have hk := hk.1 hc
g_iinc (v := (l4 + (1:Int32))) F dX5_wordOf_72 (j := 4) rfl (iinc_1 l4) (Nat.le_of_ble_eq_true rfl) rfl <|
g_goto F dX5_wordOf_75 (tgt := 22) rfl <|
G.fewer [1, 2, 3, 4, 0] rfl <| ih l1 l2 l3 (l4 + (1:Int32)) h12 hk)))
theorem s_X5_wordOf_j78 {x : Cx} (F : Fx x cX5_wordOf "LockstepRoomModel" 5 (some .int) rmX5_wordOf) {v0 : Nat} {Q : Int32 → hH → Prop} {K4 : Option Nat → Int32 → Int32 → hH → Prop} {K105 : Int32 → hH → Prop} (l1 : Option Nat) (l2 : Int32) (l3 : Int32) (l4 : Int32) (h : hH) (hk : f_X5_wordOf_j78 x.S.E v0 Q K4 K105 l1 l2 l3 l4 h) (hK4 : ∀ (l1 : Option Nat) (l2 : Int32) (l3 : Int32) (h : hH), K4 l1 l2 l3 h → G x (xQ x rmX5_wordOf (qI Q)) 4 [(0, aR (some v0)), (1, aR l1), (2, aI l2), (3, aI l3)] [] h 0 0) (hK105 : ∀ (l2 : Int32) (h : hH), K105 l2 h → G x (xQ x rmX5_wordOf (qI Q)) 105 [(2, aI l2)] [] h 0 0) : G x (xQ x rmX5_wordOf (qI Q)) 78 [(0, aR (some v0)), (1, aR l1), (2, aI l2), (3, aI l3), (4, aI l4)] [] h 0 0 := by
  unfold f_X5_wordOf_j78 at hk
  exact g_aload_n F dX5_wordOf_78 rfl 1 rfl <|
g_iload_n F dX5_wordOf_79 rfl 3 rfl <|
g_iload F dX5_wordOf_80 4 rfl <|
g_iadd F dX5_wordOf_82 <|
g_calli0 (g_V F dX5_wordOf_83 q3125 mi_J8_charAt ct_J8 (rm' := rmJ8_charAt) ⟨Nat.le_of_ble_eq_true rfl, Nat.le_of_ble_eq_true rfl⟩ ⟨Nat.le_refl 0, Nat.le_refl 0⟩ (As := [aI (l3 + l4)]) (rest := []) rfl rfl (Nat.le_of_ble_eq_true rfl) hk (fun a17 hk => m_J8_charAt F.ok a17 (l3 + l4) h _ hk)) ⟨rfl, rfl⟩ fun x16 h15 hk =>
g_bipush F dX5_wordOf_86 bp_32 <|
g_icmp_ne F dX5_wordOf_88 (tgt := 107) rfl (fun hc => have hk := hk.2 hc
G.fewer [0, 1, 2, 3] rfl <| s_X5_wordOf_l107 F 1000000 l1 l2 l3 h15 hk ((fun l1 l2 l3 h hk => g_iinc (v := (l3 + (1:Int32))) F dX5_wordOf_123 (j := 3) rfl (iinc_1 l3) (Nat.le_of_ble_eq_true rfl) rfl <|
g_iinc (v := (l2 + (1:Int32))) F dX5_wordOf_126 (j := 3) rfl (iinc_1 l2) (Nat.le_of_ble_eq_true rfl) rfl <|
g_goto F dX5_wordOf_129 (tgt := 4) rfl <|
G.fewer [2, 3, 0, 1] rfl <| hK4 l1 (l2 + (1:Int32)) (l3 + (1:Int32)) h hk))) (fun hc => have hk := hk.1 hc
g_aload_n F dX5_wordOf_91 rfl 0 rfl <|
g_getI F dX5_wordOf_92 fo_X5_16_LockstepRoomModel in_X5 fl_LockstepRoomModel_170_X5 hk fun x18 hk =>
g_iload F dX5_wordOf_95 4 rfl <|
g_iadd F dX5_wordOf_97 <|
g_aload_n F dX5_wordOf_98 rfl 0 rfl <|
g_getI F dX5_wordOf_99 fo_X5_15_LockstepRoomModel in_X5 fl_LockstepRoomModel_161_X5 hk fun x19 hk =>
g_icmp_ne F dX5_wordOf_102 (tgt := 107) rfl (fun hc => have hk := hk.2 hc
G.fewer [0, 1, 2, 3] rfl <| s_X5_wordOf_l107 F 1000000 l1 l2 l3 h15 hk ((fun l1 l2 l3 h hk => g_iinc (v := (l3 + (1:Int32))) F dX5_wordOf_123 (j := 3) rfl (iinc_1 l3) (Nat.le_of_ble_eq_true rfl) rfl <|
g_iinc (v := (l2 + (1:Int32))) F dX5_wordOf_126 (j := 3) rfl (iinc_1 l2) (Nat.le_of_ble_eq_true rfl) rfl <|
g_goto F dX5_wordOf_129 (tgt := 4) rfl <|
G.fewer [2, 3, 0, 1] rfl <| hK4 l1 (l2 + (1:Int32)) (l3 + (1:Int32)) h hk))) (fun hc => have hk := hk.1 hc
G.fewer [2] rfl <| hK105 l2 h15 hk))
theorem s_X5_wordOf_l4 {x : Cx} (F : Fx x cX5_wordOf "LockstepRoomModel" 5 (some .int) rmX5_wordOf) {v0 : Nat} {Q : Int32 → hH → Prop} {K105 : Int32 → hH → Prop} {K132 : hH → Prop} (n : Nat) (l1 : Option Nat) (l2 : Int32) (l3 : Int32) (h : hH) (hk : f_X5_wordOf_l4 x.S.E v0 Q K105 K132 n l1 l2 l3 h) (hK105 : ∀ (l2 : Int32) (h : hH), K105 l2 h → G x (xQ x rmX5_wordOf (qI Q)) 105 [(2, aI l2)] [] h 0 0) (hK132 : ∀ (h : hH), K132 h → G x (xQ x rmX5_wordOf (qI Q)) 132 [] [] h 0 0) : G x (xQ x rmX5_wordOf (qI Q)) 4 [(0, aR (some v0)), (1, aR l1), (2, aI l2), (3, aI l3)] [] h 0 0 := by
  induction n generalizing l1 l2 l3 h with
  | zero => exact False.elim hk
  | succ n ih =>
    unfold f_X5_wordOf_l4 at hk
    exact g_aload_n F dX5_wordOf_4 rfl 0 rfl <|
g_getI F dX5_wordOf_5 fo_X5_17_LockstepRoomModel in_X5 fl_LockstepRoomModel_173_X5 hk fun x20 hk =>
g_if_ne F dX5_wordOf_8 (tgt := 132) rfl (fun hc => have hk := hk.2 hc
G.fewer [] rfl <| hK132 h hk) (fun hc => have hk := hk.1 hc
g_iload_n F dX5_wordOf_11 rfl 3 rfl <|
g_aload_n F dX5_wordOf_12 rfl 1 rfl <|
g_calli0 (g_V F dX5_wordOf_13 q3124 mi_J8_length ct_J8 (rm' := rmJ8_length) ⟨Nat.le_of_ble_eq_true rfl, Nat.le_of_ble_eq_true rfl⟩ ⟨Nat.le_refl 0, Nat.le_refl 0⟩ (As := []) (rest := [aI l3]) rfl rfl (Nat.le_of_ble_eq_true rfl) hk (fun a23 hk => m_J8_length F.ok a23 h _ hk)) ⟨rfl, rfl⟩ fun x22 h21 hk =>
g_icmp_ge F dX5_wordOf_16 (tgt := 132) rfl (fun hc => have hk := hk.1 hc
G.fewer [] rfl <| hK132 h21 hk) (fun hc => have hk := hk.2 hc
g_iconst F dX5_wordOf_19 ic_0 <|
g_istore F dX5_wordOf_20 (Nat.le_of_ble_eq_true rfl) rfl <|
G.fewer [1, 2, 3, 4, 0] rfl <| s_X5_wordOf_l22 F 1000000 l1 l2 l3 (0:Int32) h21 hk ((fun l1 l2 l3 l4 h hk => s_X5_wordOf_j78 F l1 l2 l3 l4 h hk ih hK105))))
theorem m_X5_wordOf {S : Sx} (hS0 : Sok S) (v0 : Nat) (v1 : Option Nat) (h : hH) (Q : Int32 → hH → Prop) (hk : f_X5_wordOf S.E v0 v1 h Q) : Ct S yX5_wordOf (ws_ yX5_wordOf cX5_wordOf 5 (some .int)) rmX5_wordOf ([aR (some v0), aR v1].map vv) h (qI Q) := by
  refine Ct.of hS0 (by decide +kernel) rfl (Nat.le_of_ble_eq_true rfl) fun x hxS F hnm => ?_
  subst hxS
  unfold f_X5_wordOf at hk
  exact g_iconst F dX5_wordOf_0 ic_0 <|
g_istore_n F dX5_wordOf_1 rfl (Nat.le_of_ble_eq_true rfl) rfl <|
g_iconst F dX5_wordOf_2 ic_0 <|
g_istore_n F dX5_wordOf_3 rfl (Nat.le_of_ble_eq_true rfl) rfl <|
G.fewer [2, 3, 1, 0] rfl <| s_X5_wordOf_l4 F 1000000 v1 (0:Int32) (0:Int32) h hk ((fun l2 h hk => g_iload_n F dX5_wordOf_105 rfl 0 rfl <|
g_iret F dX5_wordOf_106 (Nat.le_refl 0) (Nat.le_refl 0) hk)) ((fun h hk => g_iconst F dX5_wordOf_132 ic_m1 <|
g_iret F dX5_wordOf_133 (Nat.le_refl 0) (Nat.le_refl 0) hk))
abbrev rmX5_failsIf : Room := { frames := 2, cells := 0, slots := 0, locals := 40 }
theorem m_X5_failsIf {S : Sx} (hS0 : Sok S) (v0 : Nat) (v1 : Int32) (v2 : Int32) (h : hH) (Q : hH → Prop) (hk : f_X5_failsIf S.E v0 v1 v2 h Q) : Ct S yX5_failsIf (ws_ yX5_failsIf cX5_failsIf 3 none) rmX5_failsIf ([aR (some v0), aI v1, aI v2].map vv) h (qV Q) := by
  refine Ct.of hS0 (by decide +kernel) rfl (Nat.le_of_ble_eq_true rfl) fun x hxS F hnm => ?_
  subst hxS
  unfold f_X5_failsIf at hk
  exact g_aload_n F dX5_failsIf_0 rfl 0 rfl <|
g_getI F dX5_failsIf_1 fo_X5_19_LockstepRoomModel in_X5 fl_LockstepRoomModel_194_X5 hk fun x1 hk =>
g_if_ne F dX5_failsIf_4 (tgt := 11) rfl (fun hc => have hk := hk.2 hc
g_vret F dX5_failsIf_11 (Nat.le_refl 0) (Nat.le_refl 0) hk) (fun hc => have hk := hk.1 hc
g_iload_n F dX5_failsIf_7 rfl 1 rfl <|
g_if_ne F dX5_failsIf_8 (tgt := 12) rfl (fun hc => have hk := hk.2 hc
g_aload_n F dX5_failsIf_12 rfl 0 rfl <|
g_iload_n F dX5_failsIf_13 rfl 2 rfl <|
g_putV F dX5_failsIf_14 fo_X5_19_LockstepRoomModel ck_X5 fl_LockstepRoomModel_194_X5 rfl (v := aI v2) (fit_i v2) hk fun h2 hk =>
g_aload_n F dX5_failsIf_17 rfl 0 rfl <|
g_aload_n F dX5_failsIf_18 rfl 0 rfl <|
g_getI F dX5_failsIf_19 fo_X5_16_LockstepRoomModel in_X5 fl_LockstepRoomModel_170_X5 hk fun x3 hk =>
g_putV F dX5_failsIf_22 fo_X5_20_LockstepRoomModel ck_X5 fl_LockstepRoomModel_197_X5 rfl (v := aI x3) (fit_i x3) hk fun h4 hk =>
g_vret F dX5_failsIf_25 (Nat.le_refl 0) (Nat.le_refl 0) hk) (fun hc => have hk := hk.1 hc
g_vret F dX5_failsIf_11 (Nat.le_refl 0) (Nat.le_refl 0) hk))
abbrev rmX5_goOn : Room := { frames := 4, cells := 0, slots := 0, locals := 81 }
theorem m_X5_goOn {S : Sx} (hS0 : Sok S) (v0 : Nat) (h : hH) (Q : hH → Prop) (hk : f_X5_goOn S.E v0 h Q) : Ct S yX5_goOn (ws_ yX5_goOn cX5_goOn 1 none) rmX5_goOn ([aR (some v0)].map vv) h (qV Q) := by
  refine Ct.of hS0 (by decide +kernel) rfl (Nat.le_of_ble_eq_true rfl) fun x hxS F hnm => ?_
  subst hxS
  unfold f_X5_goOn at hk
  exact g_aload_n F dX5_goOn_0 rfl 0 rfl <|
g_getI F dX5_goOn_1 fo_X5_19_LockstepRoomModel in_X5 fl_LockstepRoomModel_194_X5 hk fun x1 hk =>
g_if_ne F dX5_goOn_4 (tgt := 11) rfl (fun hc => have hk := hk.2 hc
g_vret F dX5_goOn_11 (Nat.le_refl 0) (Nat.le_refl 0) hk) (fun hc => have hk := hk.1 hc
g_aload_n F dX5_goOn_7 rfl 0 rfl <|
g_callv0 (g_V F dX5_goOn_8 q3100 mi_X5_next ct_X5 (rm' := rmX5_next) ⟨Nat.le_of_ble_eq_true rfl, Nat.le_of_ble_eq_true rfl⟩ ⟨Nat.le_refl 0, Nat.le_refl 0⟩ (As := []) (rest := []) rfl rfl (Nat.le_of_ble_eq_true rfl) hk (fun a3 hk => m_X5_next F.ok a3 h _ hk)) ⟨rfl, rfl⟩ fun h2 hk =>
g_vret F dX5_goOn_11 (Nat.le_refl 0) (Nat.le_refl 0) hk)
abbrev rmX5_low : Room := { frames := 2, cells := 0, slots := 0, locals := 40 }
theorem m_X5_low {S : Sx} (hS0 : Sok S) (v0 : Int32) (h : hH) (Q : Int32 → hH → Prop) (hk : f_X5_low S.E v0 h Q) : Ct S yX5_low (ws_ yX5_low cX5_low 1 (some .int)) rmX5_low ([aI v0].map vv) h (qI Q) := by
  refine Ct.of hS0 (by decide +kernel) rfl (Nat.le_of_ble_eq_true rfl) fun x hxS F hnm => ?_
  subst hxS
  unfold f_X5_low at hk
  exact g_iconst F dX5_low_0 ic_1 <|
g_iret F dX5_low_1 (Nat.le_refl 0) (Nat.le_refl 0) hk
abbrev rmX5_top : Room := { frames := 2, cells := 0, slots := 0, locals := 40 }
theorem m_X5_top {S : Sx} (hS0 : Sok S) (v0 : Int32) (h : hH) (Q : Int32 → hH → Prop) (hk : f_X5_top S.E v0 h Q) : Ct S yX5_top (ws_ yX5_top cX5_top 1 (some .int)) rmX5_top ([aI v0].map vv) h (qI Q) := by
  refine Ct.of hS0 (by decide +kernel) rfl (Nat.le_of_ble_eq_true rfl) fun x hxS F hnm => ?_
  subst hxS
  unfold f_X5_top at hk
  exact g_iload_n F dX5_top_0 rfl 0 rfl <|
g_if_ne F dX5_top_1 (tgt := 9) rfl (fun hc => have hk := hk.2 hc
g_bipush F dX5_top_9 bp_6 <|
g_iret F dX5_top_11 (Nat.le_refl 0) (Nat.le_refl 0) hk) (fun hc => have hk := hk.1 hc
g_bipush F dX5_top_4 bp_40 <|
g_goto F dX5_top_6 (tgt := 11) rfl <|
g_iret F dX5_top_11 (Nat.le_refl 0) (Nat.le_refl 0) hk)
abbrev rmX5_integer : Room := { frames := 5, cells := 0, slots := 0, locals := 101 }
theorem s_X5_integer_j61 {x : Cx} (F : Fx x cX5_integer "LockstepRoomModel" 4 (some .int) rmX5_integer) {v0 : Nat} {Q : Int32 → hH → Prop} (s0 : Int32) (h : hH) (hk : f_X5_integer_j61 x.S.E v0 Q s0 h) : G x (xQ x rmX5_integer (qI Q)) 61 [(0, aR (some v0))] [aI s0] h 0 0 := by
  unfold f_X5_integer_j61 at hk
  exact g_istore_n F dX5_integer_61 rfl (Nat.le_of_ble_eq_true rfl) rfl <|
g_aload_n F dX5_integer_62 rfl 1 rfl <|
g_callv0 (g_V F dX5_integer_63 q3134 mi_X5_goOn ct_X5 (rm' := rmX5_goOn) ⟨Nat.le_of_ble_eq_true rfl, Nat.le_of_ble_eq_true rfl⟩ ⟨Nat.le_refl 0, Nat.le_refl 0⟩ (As := []) (rest := []) rfl rfl (Nat.le_of_ble_eq_true rfl) hk (fun a2 hk => m_X5_goOn F.ok a2 h _ hk)) ⟨rfl, rfl⟩ fun h1 hk =>
g_iload_n F dX5_integer_66 rfl 0 rfl <|
g_iret F dX5_integer_67 (Nat.le_refl 0) (Nat.le_refl 0) hk
theorem s_X5_integer_j41 {x : Cx} (F : Fx x cX5_integer "LockstepRoomModel" 4 (some .int) rmX5_integer) {v0 : Nat} {Q : Int32 → hH → Prop} (s0 : Option Nat) (s1 : Int32) (l1 : Int32) (h : hH) (hk : f_X5_integer_j41 x.S.E v0 Q s0 s1 l1 h) : G x (xQ x rmX5_integer (qI Q)) 41 [(0, aR (some v0)), (1, aI l1)] [aI s1, aR s0] h 0 0 := by
  unfold f_X5_integer_j41 at hk
  exact g_bipush F dX5_integer_41 bp_m12 <|
g_callv0 (g_V F dX5_integer_43 q3130 mi_X5_failsIf ct_X5 (rm' := rmX5_failsIf) ⟨Nat.le_of_ble_eq_true rfl, Nat.le_of_ble_eq_true rfl⟩ ⟨Nat.le_refl 0, Nat.le_refl 0⟩ (As := [aI s1, aI (-12:Int32)]) (rest := []) rfl rfl (Nat.le_of_ble_eq_true rfl) hk (fun a4 hk => m_X5_failsIf F.ok a4 s1 (-12:Int32) h _ hk)) ⟨rfl, rfl⟩ fun h3 hk =>
g_aload_n F dX5_integer_46 rfl 0 rfl <|
g_getI F dX5_integer_47 fo_X5_19_LockstepRoomModel in_X5 fl_LockstepRoomModel_194_X5 hk fun x5 hk =>
g_if_ne F dX5_integer_50 (tgt := 60) rfl (fun hc => have hk := hk.2 hc
g_iload_n F dX5_integer_60 rfl 1 rfl <|
G.fewer [0] rfl <| s_X5_integer_j61 F l1 h3 hk ) (fun hc => have hk := hk.1 hc
g_aload_n F dX5_integer_53 rfl 0 rfl <|
g_getI F dX5_integer_54 fo_X5_18_LockstepRoomModel in_X5 fl_LockstepRoomModel_182_X5 hk fun x6 hk =>
g_goto F dX5_integer_57 (tgt := 61) rfl <|
G.fewer [0] rfl <| s_X5_integer_j61 F x6 h3 hk )
theorem s_X5_integer_j36 {x : Cx} (F : Fx x cX5_integer "LockstepRoomModel" 4 (some .int) rmX5_integer) {v0 : Nat} {Q : Int32 → hH → Prop} (s0 : Option Nat) (l1 : Int32) (h : hH) (hk : f_X5_integer_j36 x.S.E v0 Q s0 l1 h) : G x (xQ x rmX5_integer (qI Q)) 36 [(0, aR (some v0)), (1, aI l1)] [aR s0] h 0 0 := by
  unfold f_X5_integer_j36 at hk
  exact g_iconst F dX5_integer_36 ic_1 <|
g_goto F dX5_integer_37 (tgt := 41) rfl <|
s_X5_integer_j41 F s0 (1:Int32) l1 h hk 
theorem s_X5_integer_j14 {x : Cx} (F : Fx x cX5_integer "LockstepRoomModel" 4 (some .int) rmX5_integer) {v0 : Nat} {Q : Int32 → hH → Prop} (s0 : Option Nat) (s1 : Int32) (l1 : Int32) (l2 : Int32) (h : hH) (hk : f_X5_integer_j14 x.S.E v0 Q s0 s1 l1 l2 h) : G x (xQ x rmX5_integer (qI Q)) 14 [(0, aR (some v0)), (1, aI l1), (2, aI l2)] [aI s1, aR s0] h 0 0 := by
  unfold f_X5_integer_j14 at hk
  exact g_bipush F dX5_integer_14 bp_m11 <|
g_callv0 (g_V F dX5_integer_16 q3130 mi_X5_failsIf ct_X5 (rm' := rmX5_failsIf) ⟨Nat.le_of_ble_eq_true rfl, Nat.le_of_ble_eq_true rfl⟩ ⟨Nat.le_refl 0, Nat.le_refl 0⟩ (As := [aI s1, aI (-11:Int32)]) (rest := []) rfl rfl (Nat.le_of_ble_eq_true rfl) hk (fun a8 hk => m_X5_failsIf F.ok a8 s1 (-11:Int32) h _ hk)) ⟨rfl, rfl⟩ fun h7 hk =>
g_aload_n F dX5_integer_19 rfl 0 rfl <|
g_aload_n F dX5_integer_20 rfl 0 rfl <|
g_getI F dX5_integer_21 fo_X5_18_LockstepRoomModel in_X5 fl_LockstepRoomModel_182_X5 hk fun x9 hk =>
g_iload_n F dX5_integer_24 rfl 1 rfl <|
g_icmp_lt F dX5_integer_25 (tgt := 36) rfl (fun hc => have hk := hk.1 hc
G.fewer [0, 1] rfl <| s_X5_integer_j36 F (some v0) l1 h7 hk ) (fun hc => have hk := hk.2 hc
g_aload_n F dX5_integer_28 rfl 0 rfl <|
g_getI F dX5_integer_29 fo_X5_18_LockstepRoomModel in_X5 fl_LockstepRoomModel_182_X5 hk fun x10 hk =>
g_iload_n F dX5_integer_32 rfl 2 rfl <|
g_icmp_le F dX5_integer_33 (tgt := 40) rfl (fun hc => have hk := hk.1 hc
g_iconst F dX5_integer_40 ic_0 <|
G.fewer [0, 1] rfl <| s_X5_integer_j41 F (some v0) (0:Int32) l1 h7 hk ) (fun hc => have hk := hk.2 hc
G.fewer [0, 1] rfl <| s_X5_integer_j36 F (some v0) l1 h7 hk ))
theorem m_X5_integer {S : Sx} (hS0 : Sok S) (v0 : Nat) (v1 : Int32) (v2 : Int32) (h : hH) (Q : Int32 → hH → Prop) (hk : f_X5_integer S.E v0 v1 v2 h Q) : Ct S yX5_integer (ws_ yX5_integer cX5_integer 4 (some .int)) rmX5_integer ([aR (some v0), aI v1, aI v2].map vv) h (qI Q) := by
  refine Ct.of hS0 (by decide +kernel) rfl (Nat.le_of_ble_eq_true rfl) fun x hxS F hnm => ?_
  subst hxS
  unfold f_X5_integer at hk
  exact g_aload_n F dX5_integer_0 rfl 0 rfl <|
g_aload_n F dX5_integer_1 rfl 0 rfl <|
g_getI F dX5_integer_2 fo_X5_17_LockstepRoomModel in_X5 fl_LockstepRoomModel_173_X5 hk fun x11 hk =>
g_iconst F dX5_integer_5 ic_1 <|
g_icmp_eq F dX5_integer_6 (tgt := 13) rfl (fun hc => have hk := hk.1 hc
g_iconst F dX5_integer_13 ic_0 <|
s_X5_integer_j14 F (some v0) (0:Int32) v1 v2 h hk ) (fun hc => have hk := hk.2 hc
g_iconst F dX5_integer_9 ic_1 <|
g_goto F dX5_integer_10 (tgt := 14) rfl <|
s_X5_integer_j14 F (some v0) (1:Int32) v1 v2 h hk )
abbrev rmX5_readSetting : Room := { frames := 7, cells := 0, slots := 0, locals := 149 }
theorem s_X5_readSetting_j58 {x : Cx} (F : Fx x cX5_readSetting "LockstepRoomModel" 3 none rmX5_readSetting) {v0 : Nat} {Q : hH → Prop} (s0 : Option Nat) (s1 : Int32) (l1 : Int32) (h : hH) (hk : f_X5_readSetting_j58 x.S.E v0 Q s0 s1 l1 h) : G x (xQ x rmX5_readSetting (qV Q)) 58 [(0, aR (some v0)), (1, aI l1)] [aI s1, aR s0] h 0 0 := by
  unfold f_X5_readSetting_j58 at hk
  exact g_bipush F dX5_readSetting_58 bp_m14 <|
g_callv0 (g_V F dX5_readSetting_60 q3130 mi_X5_failsIf ct_X5 (rm' := rmX5_failsIf) ⟨Nat.le_of_ble_eq_true rfl, Nat.le_of_ble_eq_true rfl⟩ ⟨Nat.le_refl 0, Nat.le_refl 0⟩ (As := [aI s1, aI (-14:Int32)]) (rest := []) rfl rfl (Nat.le_of_ble_eq_true rfl) hk (fun a2 hk => m_X5_failsIf F.ok a2 s1 (-14:Int32) h _ hk)) ⟨rfl, rfl⟩ fun h1 hk =>
g_aload_n F dX5_readSetting_63 rfl 0 rfl <|
g_dup F dX5_readSetting_64 rfl <|
g_getI F dX5_readSetting_65 fo_X5_23_LockstepRoomModel in_X5 fl_LockstepRoomModel_247_X5 hk fun x3 hk =>
g_iconst F dX5_readSetting_68 ic_1 <|
g_iload_n F dX5_readSetting_69 rfl 1 rfl <|
g_ishl F dX5_readSetting_70 <|
g_ior F dX5_readSetting_71 <|
g_putV F dX5_readSetting_72 fo_X5_23_LockstepRoomModel ck_X5 fl_LockstepRoomModel_247_X5 rfl (v := aI (x3 ||| ((1:Int32) <<< (l1 &&& 31)))) (fit_i (x3 ||| ((1:Int32) <<< (l1 &&& 31)))) hk fun h4 hk =>
g_aload_n F dX5_readSetting_75 rfl 0 rfl <|
g_callv0 (g_V F dX5_readSetting_76 q3134 mi_X5_goOn ct_X5 (rm' := rmX5_goOn) ⟨Nat.le_of_ble_eq_true rfl, Nat.le_of_ble_eq_true rfl⟩ ⟨Nat.le_refl 0, Nat.le_refl 0⟩ (As := []) (rest := []) rfl rfl (Nat.le_of_ble_eq_true rfl) hk (fun a6 hk => m_X5_goOn F.ok a6 h4 _ hk)) ⟨rfl, rfl⟩ fun h5 hk =>
g_aload_n F dX5_readSetting_79 rfl 0 rfl <|
g_iload_n F dX5_readSetting_80 rfl 1 rfl <|
g_calli0 (g_S F dX5_readSetting_81 q3200 ms_X5_low (rm' := rmX5_low) ⟨Nat.le_of_ble_eq_true rfl, Nat.le_of_ble_eq_true rfl⟩ ⟨Nat.le_refl 0, Nat.le_refl 0⟩ (As := [aI l1]) (rest := [aR (some v0)]) rfl rfl (Nat.le_of_ble_eq_true rfl) (m_X5_low F.ok l1 h5 _ hk)) ⟨rfl, rfl⟩ fun x8 h7 hk =>
g_iload_n F dX5_readSetting_84 rfl 1 rfl <|
g_calli0 (g_S F dX5_readSetting_85 q3203 ms_X5_top (rm' := rmX5_top) ⟨Nat.le_of_ble_eq_true rfl, Nat.le_of_ble_eq_true rfl⟩ ⟨Nat.le_refl 0, Nat.le_refl 0⟩ (As := [aI l1]) (rest := [aI x8, aR (some v0)]) rfl rfl (Nat.le_of_ble_eq_true rfl) (m_X5_top F.ok l1 h7 _ hk)) ⟨rfl, rfl⟩ fun x10 h9 hk =>
g_calli0 (g_V F dX5_readSetting_88 q3138 mi_X5_integer ct_X5 (rm' := rmX5_integer) ⟨Nat.le_of_ble_eq_true rfl, Nat.le_of_ble_eq_true rfl⟩ ⟨Nat.le_refl 0, Nat.le_refl 0⟩ (As := [aI x8, aI x10]) (rest := []) rfl rfl (Nat.le_of_ble_eq_true rfl) hk (fun a13 hk => m_X5_integer F.ok a13 x8 x10 h9 _ hk)) ⟨rfl, rfl⟩ fun x12 h11 hk =>
g_istore_n F dX5_readSetting_91 rfl (Nat.le_of_ble_eq_true rfl) rfl <|
g_aload_n F dX5_readSetting_92 rfl 1 rfl <|
g_getI F dX5_readSetting_93 fo_X5_19_LockstepRoomModel in_X5 fl_LockstepRoomModel_194_X5 hk fun x14 hk =>
g_if_ne F dX5_readSetting_96 (tgt := 108) rfl (fun hc => have hk := hk.2 hc
g_vret F dX5_readSetting_108 (Nat.le_refl 0) (Nat.le_refl 0) hk) (fun hc => have hk := hk.1 hc
g_aload_n F dX5_readSetting_99 rfl 1 rfl <|
g_getR F dX5_readSetting_100 fo_X5_5_LockstepRoomModel in_X5 fl_LockstepRoomModel_19_X5 hk fun x15 hk =>
g_iconst F dX5_readSetting_103 ic_0 <|
g_iload_n F dX5_readSetting_104 rfl 2 rfl <|
g_iadd F dX5_readSetting_105 <|
g_iload_n F dX5_readSetting_106 rfl 0 rfl <|
g_iast F dX5_readSetting_107 hk fun h16 hk =>
g_vret F dX5_readSetting_108 (Nat.le_refl 0) (Nat.le_refl 0) hk)
theorem s_X5_readSetting_j39 {x : Cx} (F : Fx x cX5_readSetting "LockstepRoomModel" 3 none rmX5_readSetting) {v0 : Nat} {Q : hH → Prop} (s0 : Int32) (h : hH) (hk : f_X5_readSetting_j39 x.S.E v0 Q s0 h) : G x (xQ x rmX5_readSetting (qV Q)) 39 [(0, aR (some v0))] [aI s0] h 0 0 := by
  unfold f_X5_readSetting_j39 at hk
  exact g_istore_n F dX5_readSetting_39 rfl (Nat.le_of_ble_eq_true rfl) rfl <|
g_aload_n F dX5_readSetting_40 rfl 1 rfl <|
g_aload_n F dX5_readSetting_41 rfl 1 rfl <|
g_getI F dX5_readSetting_42 fo_X5_23_LockstepRoomModel in_X5 fl_LockstepRoomModel_247_X5 hk fun x17 hk =>
g_iload_n F dX5_readSetting_45 rfl 0 rfl <|
g_ishr F dX5_readSetting_46 <|
g_iconst F dX5_readSetting_47 ic_1 <|
g_iand F dX5_readSetting_48 <|
g_iconst F dX5_readSetting_49 ic_1 <|
g_icmp_ne F dX5_readSetting_50 (tgt := 57) rfl (fun hc => have hk := hk.2 hc
g_iconst F dX5_readSetting_57 ic_0 <|
G.fewer [1, 0] rfl <| s_X5_readSetting_j58 F (some v0) (0:Int32) s0 h hk ) (fun hc => have hk := hk.1 hc
g_iconst F dX5_readSetting_53 ic_1 <|
g_goto F dX5_readSetting_54 (tgt := 58) rfl <|
G.fewer [1, 0] rfl <| s_X5_readSetting_j58 F (some v0) (1:Int32) s0 h hk )
theorem s_X5_readSetting_j22 {x : Cx} (F : Fx x cX5_readSetting "LockstepRoomModel" 3 none rmX5_readSetting) {v0 : Nat} {Q : hH → Prop} (s0 : Option Nat) (s1 : Int32) (l1 : Int32) (h : hH) (hk : f_X5_readSetting_j22 x.S.E v0 Q s0 s1 l1 h) : G x (xQ x rmX5_readSetting (qV Q)) 22 [(0, aR (some v0)), (1, aI l1)] [aI s1, aR s0] h 0 0 := by
  unfold f_X5_readSetting_j22 at hk
  exact g_bipush F dX5_readSetting_22 bp_m11 <|
g_callv0 (g_V F dX5_readSetting_24 q3130 mi_X5_failsIf ct_X5 (rm' := rmX5_failsIf) ⟨Nat.le_of_ble_eq_true rfl, Nat.le_of_ble_eq_true rfl⟩ ⟨Nat.le_refl 0, Nat.le_refl 0⟩ (As := [aI s1, aI (-11:Int32)]) (rest := []) rfl rfl (Nat.le_of_ble_eq_true rfl) hk (fun a19 hk => m_X5_failsIf F.ok a19 s1 (-11:Int32) h _ hk)) ⟨rfl, rfl⟩ fun h18 hk =>
g_aload_n F dX5_readSetting_27 rfl 0 rfl <|
g_getI F dX5_readSetting_28 fo_X5_19_LockstepRoomModel in_X5 fl_LockstepRoomModel_194_X5 hk fun x20 hk =>
g_if_ne F dX5_readSetting_31 (tgt := 38) rfl (fun hc => have hk := hk.2 hc
g_iconst F dX5_readSetting_38 ic_0 <|
G.fewer [0] rfl <| s_X5_readSetting_j39 F (0:Int32) h18 hk ) (fun hc => have hk := hk.1 hc
g_iload_n F dX5_readSetting_34 rfl 1 rfl <|
g_goto F dX5_readSetting_35 (tgt := 39) rfl <|
G.fewer [0] rfl <| s_X5_readSetting_j39 F l1 h18 hk )
theorem m_X5_readSetting {S : Sx} (hS0 : Sok S) (v0 : Nat) (h : hH) (Q : hH → Prop) (hk : f_X5_readSetting S.E v0 h Q) : Ct S yX5_readSetting (ws_ yX5_readSetting cX5_readSetting 3 none) rmX5_readSetting ([aR (some v0)].map vv) h (qV Q) := by
  refine Ct.of hS0 (by decide +kernel) rfl (Nat.le_of_ble_eq_true rfl) fun x hxS F hnm => ?_
  subst hxS
  unfold f_X5_readSetting at hk
  exact g_aload_n F dX5_readSetting_0 rfl 0 rfl <|
g_callv0 (g_V F dX5_readSetting_1 q3134 mi_X5_goOn ct_X5 (rm' := rmX5_goOn) ⟨Nat.le_of_ble_eq_true rfl, Nat.le_of_ble_eq_true rfl⟩ ⟨Nat.le_refl 0, Nat.le_refl 0⟩ (As := []) (rest := []) rfl rfl (Nat.le_of_ble_eq_true rfl) hk (fun a22 hk => m_X5_goOn F.ok a22 h _ hk)) ⟨rfl, rfl⟩ fun h21 hk =>
g_aload_n F dX5_readSetting_4 rfl 0 rfl <|
g_ldcS F dX5_readSetting_5 (sk_36 _) <|
g_calli0 (g_V F dX5_readSetting_7 q3120 mi_X5_wordOf ct_X5 (rm' := rmX5_wordOf) ⟨Nat.le_of_ble_eq_true rfl, Nat.le_of_ble_eq_true rfl⟩ ⟨Nat.le_refl 0, Nat.le_refl 0⟩ (As := [aR (some (x.S.E 36))]) (rest := []) rfl rfl (Nat.le_of_ble_eq_true rfl) hk (fun a25 hk => m_X5_wordOf F.ok a25 (some (x.S.E 36)) h21 _ hk)) ⟨rfl, rfl⟩ fun x24 h23 hk =>
g_istore_n F dX5_readSetting_10 rfl (Nat.le_of_ble_eq_true rfl) rfl <|
g_aload_n F dX5_readSetting_11 rfl 1 rfl <|
g_iload_n F dX5_readSetting_12 rfl 0 rfl <|
g_iconst F dX5_readSetting_13 ic_m1 <|
g_icmp_ne F dX5_readSetting_14 (tgt := 21) rfl (fun hc => have hk := hk.2 hc
g_iconst F dX5_readSetting_21 ic_0 <|
G.fewer [1, 0] rfl <| s_X5_readSetting_j22 F (some v0) (0:Int32) x24 h23 hk ) (fun hc => have hk := hk.1 hc
g_iconst F dX5_readSetting_17 ic_1 <|
g_goto F dX5_readSetting_18 (tgt := 22) rfl <|
G.fewer [1, 0] rfl <| s_X5_readSetting_j22 F (some v0) (1:Int32) x24 h23 hk )
abbrev rmX5_nameHere : Room := { frames := 3, cells := 0, slots := 0, locals := 62 }
theorem s_X5_nameHere_j85 {x : Cx} (F : Fx x cX5_nameHere "LockstepRoomModel" 3 (some .int) rmX5_nameHere) {v0 : Nat} {Q : Int32 → hH → Prop} {K36 : Int32 → Int32 → hH → Prop} (s0 : Int32) (s1 : Int32) (l2 : Int32) (h : hH) (hk : f_X5_nameHere_j85 x.S.E v0 Q K36 s0 s1 l2 h) (hK36 : ∀ (l1 : Int32) (l2 : Int32) (h : hH), K36 l1 l2 h → G x (xQ x rmX5_nameHere (qI Q)) 36 [(0, aR (some v0)), (1, aI l1), (2, aI l2)] [] h 0 0) : G x (xQ x rmX5_nameHere (qI Q)) 85 [(0, aR (some v0)), (2, aI l2)] [aI s1, aI s0] h 0 0 := by
  unfold f_X5_nameHere_j85 at hk
  exact g_ior F dX5_nameHere_85 <|
g_istore_n F dX5_nameHere_86 rfl (Nat.le_of_ble_eq_true rfl) rfl <|
g_iinc (v := (l2 + (1:Int32))) F dX5_nameHere_87 (j := 2) rfl (iinc_1 l2) (Nat.le_of_ble_eq_true rfl) rfl <|
g_goto F dX5_nameHere_90 (tgt := 36) rfl <|
G.fewer [2, 1, 0] rfl <| hK36 (s0 ||| s1) (l2 + (1:Int32)) h hk
theorem s_X5_nameHere_l36 {x : Cx} (F : Fx x cX5_nameHere "LockstepRoomModel" 3 (some .int) rmX5_nameHere) {v0 : Nat} {Q : Int32 → hH → Prop} {K93 : Int32 → hH → Prop} (n : Nat) (l1 : Int32) (l2 : Int32) (h : hH) (hk : f_X5_nameHere_l36 x.S.E v0 Q K93 n l1 l2 h) (hK93 : ∀ (l1 : Int32) (h : hH), K93 l1 h → G x (xQ x rmX5_nameHere (qI Q)) 93 [(1, aI l1)] [] h 0 0) : G x (xQ x rmX5_nameHere (qI Q)) 36 [(0, aR (some v0)), (1, aI l1), (2, aI l2)] [] h 0 0 := by
  induction n generalizing l1 l2 h with
  | zero => exact False.elim hk
  | succ n ih =>
    unfold f_X5_nameHere_l36 at hk
    exact g_iload_n F dX5_nameHere_36 rfl 2 rfl <|
g_bipush F dX5_nameHere_37 bp_6 <|
g_icmp_ge F dX5_nameHere_39 (tgt := 93) rfl (fun hc => have hk := hk.1 hc
G.fewer [1] rfl <| hK93 l1 h hk) (fun hc => have hk := hk.2 hc
g_aload_n F dX5_nameHere_42 rfl 0 rfl <|
g_getI F dX5_nameHere_43 fo_X5_19_LockstepRoomModel in_X5 fl_LockstepRoomModel_194_X5 hk fun x1 hk =>
g_if_ne F dX5_nameHere_46 (tgt := 93) rfl (fun hc => have hk := hk.2 hc
G.fewer [1] rfl <| hK93 l1 h hk) (fun hc => have hk := hk.1 hc
g_iload_n F dX5_nameHere_49 rfl 1 rfl <|
g_iconst F dX5_nameHere_50 ic_5 <|
g_ishl F dX5_nameHere_51 <|
g_aload_n F dX5_nameHere_52 rfl 0 rfl <|
g_getI F dX5_nameHere_53 fo_X5_16_LockstepRoomModel in_X5 fl_LockstepRoomModel_170_X5 hk fun x2 hk =>
g_iload_n F dX5_nameHere_56 rfl 2 rfl <|
g_iadd F dX5_nameHere_57 <|
g_aload_n F dX5_nameHere_58 rfl 0 rfl <|
g_getI F dX5_nameHere_59 fo_X5_15_LockstepRoomModel in_X5 fl_LockstepRoomModel_161_X5 hk fun x3 hk =>
g_icmp_ge F dX5_nameHere_62 (tgt := 84) rfl (fun hc => have hk := hk.1 hc
g_iconst F dX5_nameHere_84 ic_0 <|
G.fewer [0, 2] rfl <| s_X5_nameHere_j85 F (l1 <<< ((5:Int32) &&& 31)) (0:Int32) l2 h hk ih) (fun hc => have hk := hk.2 hc
g_aload_n F dX5_nameHere_65 rfl 0 rfl <|
g_getR F dX5_nameHere_66 fo_X5_1_LockstepRoomModel in_X5 fl_LockstepRoomModel_7_X5 hk fun x4 hk =>
g_aload_n F dX5_nameHere_69 rfl 0 rfl <|
g_getI F dX5_nameHere_70 fo_X5_16_LockstepRoomModel in_X5 fl_LockstepRoomModel_170_X5 hk fun x5 hk =>
g_iload_n F dX5_nameHere_73 rfl 2 rfl <|
g_iadd F dX5_nameHere_74 <|
g_iald F dX5_nameHere_75 hk fun x6 hk =>
g_bipush F dX5_nameHere_76 bp_97 <|
g_isub F dX5_nameHere_78 <|
g_iconst F dX5_nameHere_79 ic_1 <|
g_iadd F dX5_nameHere_80 <|
g_goto F dX5_nameHere_81 (tgt := 85) rfl <|
G.fewer [0, 2] rfl <| s_X5_nameHere_j85 F (l1 <<< ((5:Int32) &&& 31)) ((x6 - (97:Int32)) + (1:Int32)) l2 h hk ih)))
theorem s_X5_nameHere_j27 {x : Cx} (F : Fx x cX5_nameHere "LockstepRoomModel" 3 (some .int) rmX5_nameHere) {v0 : Nat} {Q : Int32 → hH → Prop} (s0 : Option Nat) (s1 : Int32) (h : hH) (hk : f_X5_nameHere_j27 x.S.E v0 Q s0 s1 h) : G x (xQ x rmX5_nameHere (qI Q)) 27 [(0, aR (some v0))] [aI s1, aR s0] h 0 0 := by
  unfold f_X5_nameHere_j27 at hk
  exact g_bipush F dX5_nameHere_27 bp_m11 <|
g_callv0 (g_V F dX5_nameHere_29 q3130 mi_X5_failsIf ct_X5 (rm' := rmX5_failsIf) ⟨Nat.le_of_ble_eq_true rfl, Nat.le_of_ble_eq_true rfl⟩ ⟨Nat.le_refl 0, Nat.le_refl 0⟩ (As := [aI s1, aI (-11:Int32)]) (rest := []) rfl rfl (Nat.le_of_ble_eq_true rfl) hk (fun a8 hk => m_X5_failsIf F.ok a8 s1 (-11:Int32) h _ hk)) ⟨rfl, rfl⟩ fun h7 hk =>
g_iconst F dX5_nameHere_32 ic_0 <|
g_istore_n F dX5_nameHere_33 rfl (Nat.le_of_ble_eq_true rfl) rfl <|
g_iconst F dX5_nameHere_34 ic_0 <|
g_istore_n F dX5_nameHere_35 rfl (Nat.le_of_ble_eq_true rfl) rfl <|
G.fewer [2, 1, 0] rfl <| s_X5_nameHere_l36 F 1000000 (0:Int32) (0:Int32) h7 hk ((fun l1 h hk => g_iload_n F dX5_nameHere_93 rfl 0 rfl <|
g_iret F dX5_nameHere_94 (Nat.le_refl 0) (Nat.le_refl 0) hk))
theorem s_X5_nameHere_j22 {x : Cx} (F : Fx x cX5_nameHere "LockstepRoomModel" 3 (some .int) rmX5_nameHere) {v0 : Nat} {Q : Int32 → hH → Prop} (s0 : Option Nat) (h : hH) (hk : f_X5_nameHere_j22 x.S.E v0 Q s0 h) : G x (xQ x rmX5_nameHere (qI Q)) 22 [(0, aR (some v0))] [aR s0] h 0 0 := by
  unfold f_X5_nameHere_j22 at hk
  exact g_iconst F dX5_nameHere_22 ic_1 <|
g_goto F dX5_nameHere_23 (tgt := 27) rfl <|
s_X5_nameHere_j27 F s0 (1:Int32) h hk 
theorem m_X5_nameHere {S : Sx} (hS0 : Sok S) (v0 : Nat) (h : hH) (Q : Int32 → hH → Prop) (hk : f_X5_nameHere S.E v0 h Q) : Ct S yX5_nameHere (ws_ yX5_nameHere cX5_nameHere 3 (some .int)) rmX5_nameHere ([aR (some v0)].map vv) h (qI Q) := by
  refine Ct.of hS0 (by decide +kernel) rfl (Nat.le_of_ble_eq_true rfl) fun x hxS F hnm => ?_
  subst hxS
  unfold f_X5_nameHere at hk
  exact g_aload_n F dX5_nameHere_0 rfl 0 rfl <|
g_aload_n F dX5_nameHere_1 rfl 0 rfl <|
g_getI F dX5_nameHere_2 fo_X5_17_LockstepRoomModel in_X5 fl_LockstepRoomModel_173_X5 hk fun x9 hk =>
g_if_ne F dX5_nameHere_5 (tgt := 22) rfl (fun hc => have hk := hk.2 hc
s_X5_nameHere_j22 F (some v0) h hk ) (fun hc => have hk := hk.1 hc
g_aload_n F dX5_nameHere_8 rfl 0 rfl <|
g_getI F dX5_nameHere_9 fo_X5_15_LockstepRoomModel in_X5 fl_LockstepRoomModel_161_X5 hk fun x10 hk =>
g_aload_n F dX5_nameHere_12 rfl 0 rfl <|
g_getI F dX5_nameHere_13 fo_X5_16_LockstepRoomModel in_X5 fl_LockstepRoomModel_170_X5 hk fun x11 hk =>
g_isub F dX5_nameHere_16 <|
g_bipush F dX5_nameHere_17 bp_6 <|
g_icmp_le F dX5_nameHere_19 (tgt := 26) rfl (fun hc => have hk := hk.1 hc
g_iconst F dX5_nameHere_26 ic_0 <|
s_X5_nameHere_j27 F (some v0) (0:Int32) h hk ) (fun hc => have hk := hk.2 hc
s_X5_nameHere_j22 F (some v0) h hk ))
abbrev rmX5_members : Room := { frames := 2, cells := 0, slots := 0, locals := 40 }
theorem m_X5_members {S : Sx} (hS0 : Sok S) (v0 : Nat) (h : hH) (Q : Int32 → hH → Prop) (hk : f_X5_members S.E v0 h Q) : Ct S yX5_members (ws_ yX5_members cX5_members 1 (some .int)) rmX5_members ([aR (some v0)].map vv) h (qI Q) := by
  refine Ct.of hS0 (by decide +kernel) rfl (Nat.le_of_ble_eq_true rfl) fun x hxS F hnm => ?_
  subst hxS
  unfold f_X5_members at hk
  exact g_aload_n F dX5_members_0 rfl 0 rfl <|
g_getR F dX5_members_1 fo_X5_5_LockstepRoomModel in_X5 fl_LockstepRoomModel_19_X5 hk fun x1 hk =>
g_iconst F dX5_members_4 ic_2 <|
g_iald F dX5_members_5 hk fun x2 hk =>
g_iret F dX5_members_6 (Nat.le_refl 0) (Nat.le_refl 0) hk
abbrev rmX5_found : Room := { frames := 3, cells := 0, slots := 0, locals := 60 }
theorem s_X5_found_l2 {x : Cx} (F : Fx x cX5_found "LockstepRoomModel" 3 (some .int) rmX5_found) {v0 : Nat} {Q : Int32 → hH → Prop} {K27 : Int32 → hH → Prop} {K35 : hH → Prop} (n : Nat) (l1 : Int32) (l2 : Int32) (h : hH) (hk : f_X5_found_l2 x.S.E v0 Q K27 K35 n l1 l2 h) (hK27 : ∀ (l2 : Int32) (h : hH), K27 l2 h → G x (xQ x rmX5_found (qI Q)) 27 [(2, aI l2)] [] h 0 0) (hK35 : ∀ (h : hH), K35 h → G x (xQ x rmX5_found (qI Q)) 35 [] [] h 0 0) : G x (xQ x rmX5_found (qI Q)) 2 [(0, aR (some v0)), (1, aI l1), (2, aI l2)] [] h 0 0 := by
  induction n generalizing l1 l2 h with
  | zero => exact False.elim hk
  | succ n ih =>
    unfold f_X5_found_l2 at hk
    exact g_iload_n F dX5_found_2 rfl 2 rfl <|
g_aload_n F dX5_found_3 rfl 0 rfl <|
g_calli0 (g_V F dX5_found_4 q3146 mi_X5_members ct_X5 (rm' := rmX5_members) ⟨Nat.le_of_ble_eq_true rfl, Nat.le_of_ble_eq_true rfl⟩ ⟨Nat.le_refl 0, Nat.le_refl 0⟩ (As := []) (rest := [aI l2]) rfl rfl (Nat.le_of_ble_eq_true rfl) hk (fun a3 hk => m_X5_members F.ok a3 h _ hk)) ⟨rfl, rfl⟩ fun x2 h1 hk =>
g_icmp_ge F dX5_found_7 (tgt := 35) rfl (fun hc => have hk := hk.1 hc
G.fewer [] rfl <| hK35 h1 hk) (fun hc => have hk := hk.2 hc
g_iload_n F dX5_found_10 rfl 1 rfl <|
g_if_eq F dX5_found_11 (tgt := 35) rfl (fun hc => have hk := hk.1 hc
G.fewer [] rfl <| hK35 h1 hk) (fun hc => have hk := hk.2 hc
g_aload_n F dX5_found_14 rfl 0 rfl <|
g_getR F dX5_found_15 fo_X5_3_LockstepRoomModel in_X5 fl_LockstepRoomModel_13_X5 hk fun x4 hk =>
g_bipush F dX5_found_18 bp_16 <|
g_iload_n F dX5_found_20 rfl 2 rfl <|
g_iadd F dX5_found_21 <|
g_iald F dX5_found_22 hk fun x5 hk =>
g_iload_n F dX5_found_23 rfl 1 rfl <|
g_icmp_ne F dX5_found_24 (tgt := 29) rfl (fun hc => have hk := hk.2 hc
g_iinc (v := (l2 + (1:Int32))) F dX5_found_29 (j := 2) rfl (iinc_1 l2) (Nat.le_of_ble_eq_true rfl) rfl <|
g_goto F dX5_found_32 (tgt := 2) rfl <|
G.fewer [1, 2, 0] rfl <| ih l1 (l2 + (1:Int32)) h1 hk) (fun hc => have hk := hk.1 hc
G.fewer [2] rfl <| hK27 l2 h1 hk)))
theorem m_X5_found {S : Sx} (hS0 : Sok S) (v0 : Nat) (v1 : Int32) (h : hH) (Q : Int32 → hH → Prop) (hk : f_X5_found S.E v0 v1 h Q) : Ct S yX5_found (ws_ yX5_found cX5_found 3 (some .int)) rmX5_found ([aR (some v0), aI v1].map vv) h (qI Q) := by
  refine Ct.of hS0 (by decide +kernel) rfl (Nat.le_of_ble_eq_true rfl) fun x hxS F hnm => ?_
  subst hxS
  unfold f_X5_found at hk
  exact g_iconst F dX5_found_0 ic_0 <|
g_istore_n F dX5_found_1 rfl (Nat.le_of_ble_eq_true rfl) rfl <|
G.fewer [1, 2, 0] rfl <| s_X5_found_l2 F 1000000 v1 (0:Int32) h hk ((fun l2 h hk => g_iload_n F dX5_found_27 rfl 0 rfl <|
g_iret F dX5_found_28 (Nat.le_refl 0) (Nat.le_refl 0) hk)) ((fun h hk => g_iconst F dX5_found_35 ic_m1 <|
g_iret F dX5_found_36 (Nat.le_refl 0) (Nat.le_refl 0) hk))
abbrev rmX5_known : Room := { frames := 5, cells := 0, slots := 0, locals := 101 }
theorem s_X5_known_j33 {x : Cx} (F : Fx x cX5_known "LockstepRoomModel" 3 (some .int) rmX5_known) {v0 : Nat} {Q : Int32 → hH → Prop} (s0 : Option Nat) (s1 : Int32) (l2 : Int32) (h : hH) (hk : f_X5_known_j33 x.S.E v0 Q s0 s1 l2 h) : G x (xQ x rmX5_known (qI Q)) 33 [(0, aR (some v0)), (2, aI l2)] [aI s1, aR s0] h 0 0 := by
  unfold f_X5_known_j33 at hk
  exact g_bipush F dX5_known_33 bp_m13 <|
g_callv0 (g_V F dX5_known_35 q3130 mi_X5_failsIf ct_X5 (rm' := rmX5_failsIf) ⟨Nat.le_of_ble_eq_true rfl, Nat.le_of_ble_eq_true rfl⟩ ⟨Nat.le_refl 0, Nat.le_refl 0⟩ (As := [aI s1, aI (-13:Int32)]) (rest := []) rfl rfl (Nat.le_of_ble_eq_true rfl) hk (fun a2 hk => m_X5_failsIf F.ok a2 s1 (-13:Int32) h _ hk)) ⟨rfl, rfl⟩ fun h1 hk =>
g_aload_n F dX5_known_38 rfl 0 rfl <|
g_callv0 (g_V F dX5_known_39 q3134 mi_X5_goOn ct_X5 (rm' := rmX5_goOn) ⟨Nat.le_of_ble_eq_true rfl, Nat.le_of_ble_eq_true rfl⟩ ⟨Nat.le_refl 0, Nat.le_refl 0⟩ (As := []) (rest := []) rfl rfl (Nat.le_of_ble_eq_true rfl) hk (fun a4 hk => m_X5_goOn F.ok a4 h1 _ hk)) ⟨rfl, rfl⟩ fun h3 hk =>
g_aload_n F dX5_known_42 rfl 0 rfl <|
g_getI F dX5_known_43 fo_X5_19_LockstepRoomModel in_X5 fl_LockstepRoomModel_194_X5 hk fun x5 hk =>
g_if_ne F dX5_known_46 (tgt := 53) rfl (fun hc => have hk := hk.2 hc
g_iconst F dX5_known_53 ic_0 <|
g_iret F dX5_known_54 (Nat.le_refl 0) (Nat.le_refl 0) hk) (fun hc => have hk := hk.1 hc
g_iload_n F dX5_known_49 rfl 1 rfl <|
g_goto F dX5_known_50 (tgt := 54) rfl <|
g_iret F dX5_known_54 (Nat.le_refl 0) (Nat.le_refl 0) hk)
theorem s_X5_known_j21 {x : Cx} (F : Fx x cX5_known "LockstepRoomModel" 3 (some .int) rmX5_known) {v0 : Nat} {Q : Int32 → hH → Prop} (s0 : Int32) (h : hH) (hk : f_X5_known_j21 x.S.E v0 Q s0 h) : G x (xQ x rmX5_known (qI Q)) 21 [(0, aR (some v0))] [aI s0] h 0 0 := by
  unfold f_X5_known_j21 at hk
  exact g_istore_n F dX5_known_21 rfl (Nat.le_of_ble_eq_true rfl) rfl <|
g_aload_n F dX5_known_22 rfl 1 rfl <|
g_iload_n F dX5_known_23 rfl 0 rfl <|
g_iconst F dX5_known_24 ic_m1 <|
g_icmp_ne F dX5_known_25 (tgt := 32) rfl (fun hc => have hk := hk.2 hc
g_iconst F dX5_known_32 ic_0 <|
G.fewer [1, 0] rfl <| s_X5_known_j33 F (some v0) (0:Int32) s0 h hk ) (fun hc => have hk := hk.1 hc
g_iconst F dX5_known_28 ic_1 <|
g_goto F dX5_known_29 (tgt := 33) rfl <|
G.fewer [1, 0] rfl <| s_X5_known_j33 F (some v0) (1:Int32) s0 h hk )
theorem m_X5_known {S : Sx} (hS0 : Sok S) (v0 : Nat) (h : hH) (Q : Int32 → hH → Prop) (hk : f_X5_known S.E v0 h Q) : Ct S yX5_known (ws_ yX5_known cX5_known 3 (some .int)) rmX5_known ([aR (some v0)].map vv) h (qI Q) := by
  refine Ct.of hS0 (by decide +kernel) rfl (Nat.le_of_ble_eq_true rfl) fun x hxS F hnm => ?_
  subst hxS
  unfold f_X5_known at hk
  exact g_aload_n F dX5_known_0 rfl 0 rfl <|
g_calli0 (g_V F dX5_known_1 q3150 mi_X5_nameHere ct_X5 (rm' := rmX5_nameHere) ⟨Nat.le_of_ble_eq_true rfl, Nat.le_of_ble_eq_true rfl⟩ ⟨Nat.le_refl 0, Nat.le_refl 0⟩ (As := []) (rest := []) rfl rfl (Nat.le_of_ble_eq_true rfl) hk (fun a8 hk => m_X5_nameHere F.ok a8 h _ hk)) ⟨rfl, rfl⟩ fun x7 h6 hk =>
g_istore_n F dX5_known_4 rfl (Nat.le_of_ble_eq_true rfl) rfl <|
g_aload_n F dX5_known_5 rfl 1 rfl <|
g_getI F dX5_known_6 fo_X5_19_LockstepRoomModel in_X5 fl_LockstepRoomModel_194_X5 hk fun x9 hk =>
g_if_ne F dX5_known_9 (tgt := 20) rfl (fun hc => have hk := hk.2 hc
g_iconst F dX5_known_20 ic_0 <|
G.fewer [1] rfl <| s_X5_known_j21 F (0:Int32) h6 hk ) (fun hc => have hk := hk.1 hc
g_aload_n F dX5_known_12 rfl 1 rfl <|
g_iload_n F dX5_known_13 rfl 0 rfl <|
g_calli0 (g_V F dX5_known_14 q3154 mi_X5_found ct_X5 (rm' := rmX5_found) ⟨Nat.le_of_ble_eq_true rfl, Nat.le_of_ble_eq_true rfl⟩ ⟨Nat.le_refl 0, Nat.le_refl 0⟩ (As := [aI x7]) (rest := []) rfl rfl (Nat.le_of_ble_eq_true rfl) hk (fun a12 hk => m_X5_found F.ok a12 x7 h6 _ hk)) ⟨rfl, rfl⟩ fun x11 h10 hk =>
g_goto F dX5_known_17 (tgt := 21) rfl <|
G.fewer [1] rfl <| s_X5_known_j21 F x11 h10 hk )
abbrev rmX5_faults : Room := { frames := 2, cells := 0, slots := 0, locals := 40 }
theorem m_X5_faults {S : Sx} (hS0 : Sok S) (v0 : Nat) (v1 : Int32) (v2 : Int32) (v3 : Int32) (v4 : Int32) (h : hH) (Q : hH → Prop) (hk : f_X5_faults S.E v0 v1 v2 v3 v4 h Q) : Ct S yX5_faults (ws_ yX5_faults cX5_faults 6 none) rmX5_faults ([aR (some v0), aI v1, aI v2, aI v3, aI v4].map vv) h (qV Q) := by
  refine Ct.of hS0 (by decide +kernel) rfl (Nat.le_of_ble_eq_true rfl) fun x hxS F hnm => ?_
  subst hxS
  unfold f_X5_faults at hk
  exact g_sipush F dX5_faults_0 sp_1742 <|
g_iconst F dX5_faults_3 ic_4 <|
g_aload_n F dX5_faults_4 rfl 0 rfl <|
g_getR F dX5_faults_5 fo_X5_5_LockstepRoomModel in_X5 fl_LockstepRoomModel_19_X5 hk fun x1 hk =>
g_sipush F dX5_faults_8 sp_1741 <|
g_iald F dX5_faults_11 hk fun x2 hk =>
g_imul F dX5_faults_12 <|
g_iadd F dX5_faults_13 <|
g_istore F dX5_faults_14 (Nat.le_of_ble_eq_true rfl) rfl <|
g_aload_n F dX5_faults_16 rfl 1 rfl <|
g_getR F dX5_faults_17 fo_X5_5_LockstepRoomModel in_X5 fl_LockstepRoomModel_19_X5 hk fun x3 hk =>
g_iload F dX5_faults_20 0 rfl <|
g_iconst F dX5_faults_22 ic_0 <|
g_iadd F dX5_faults_23 <|
g_iload_n F dX5_faults_24 rfl 2 rfl <|
g_iast F dX5_faults_25 hk fun h4 hk =>
g_aload_n F dX5_faults_26 rfl 1 rfl <|
g_getR F dX5_faults_27 fo_X5_5_LockstepRoomModel in_X5 fl_LockstepRoomModel_19_X5 hk fun x5 hk =>
g_iload F dX5_faults_30 0 rfl <|
g_iconst F dX5_faults_32 ic_1 <|
g_iadd F dX5_faults_33 <|
g_iload_n F dX5_faults_34 rfl 3 rfl <|
g_iast F dX5_faults_35 hk fun h6 hk =>
g_aload_n F dX5_faults_36 rfl 1 rfl <|
g_getR F dX5_faults_37 fo_X5_5_LockstepRoomModel in_X5 fl_LockstepRoomModel_19_X5 hk fun x7 hk =>
g_iload F dX5_faults_40 0 rfl <|
g_iconst F dX5_faults_42 ic_2 <|
g_iadd F dX5_faults_43 <|
g_iload_n F dX5_faults_44 rfl 4 rfl <|
g_iast F dX5_faults_45 hk fun h8 hk =>
g_aload_n F dX5_faults_46 rfl 1 rfl <|
g_getR F dX5_faults_47 fo_X5_5_LockstepRoomModel in_X5 fl_LockstepRoomModel_19_X5 hk fun x9 hk =>
g_iload F dX5_faults_50 0 rfl <|
g_iconst F dX5_faults_52 ic_3 <|
g_iadd F dX5_faults_53 <|
g_iload F dX5_faults_54 5 rfl <|
g_iast F dX5_faults_56 hk fun h10 hk =>
g_aload_n F dX5_faults_57 rfl 1 rfl <|
g_getR F dX5_faults_58 fo_X5_5_LockstepRoomModel in_X5 fl_LockstepRoomModel_19_X5 hk fun x11 hk =>
g_sipush F dX5_faults_61 sp_1741 <|
g_dup2 F dX5_faults_64 rfl rfl <|
g_iald F dX5_faults_65 hk fun x12 hk =>
g_iconst F dX5_faults_66 ic_1 <|
g_iadd F dX5_faults_67 <|
g_iast F dX5_faults_68 hk fun h13 hk =>
g_vret F dX5_faults_69 (Nat.le_refl 0) (Nat.le_refl 0) hk
abbrev rmX5_readFault : Room := { frames := 6, cells := 0, slots := 0, locals := 124 }
theorem s_X5_readFault_j19 {x : Cx} (F : Fx x cX5_readFault "LockstepRoomModel" 5 none rmX5_readFault) {v0 : Nat} {Q : hH → Prop} (s0 : Option Nat) (s1 : Int32) (h : hH) (hk : f_X5_readFault_j19 x.S.E v0 Q s0 s1 h) : G x (xQ x rmX5_readFault (qV Q)) 19 [(0, aR (some v0))] [aI s1, aR s0] h 0 0 := by
  unfold f_X5_readFault_j19 at hk
  exact g_bipush F dX5_readFault_19 bp_m15 <|
g_callv0 (g_V F dX5_readFault_21 q3130 mi_X5_failsIf ct_X5 (rm' := rmX5_failsIf) ⟨Nat.le_of_ble_eq_true rfl, Nat.le_of_ble_eq_true rfl⟩ ⟨Nat.le_refl 0, Nat.le_refl 0⟩ (As := [aI s1, aI (-15:Int32)]) (rest := []) rfl rfl (Nat.le_of_ble_eq_true rfl) hk (fun a2 hk => m_X5_failsIf F.ok a2 s1 (-15:Int32) h _ hk)) ⟨rfl, rfl⟩ fun h1 hk =>
g_aload_n F dX5_readFault_24 rfl 0 rfl <|
g_callv0 (g_V F dX5_readFault_25 q3134 mi_X5_goOn ct_X5 (rm' := rmX5_goOn) ⟨Nat.le_of_ble_eq_true rfl, Nat.le_of_ble_eq_true rfl⟩ ⟨Nat.le_refl 0, Nat.le_refl 0⟩ (As := []) (rest := []) rfl rfl (Nat.le_of_ble_eq_true rfl) hk (fun a4 hk => m_X5_goOn F.ok a4 h1 _ hk)) ⟨rfl, rfl⟩ fun h3 hk =>
g_aload_n F dX5_readFault_28 rfl 0 rfl <|
g_calli0 (g_V F dX5_readFault_29 q3170 mi_X5_known ct_X5 (rm' := rmX5_known) ⟨Nat.le_of_ble_eq_true rfl, Nat.le_of_ble_eq_true rfl⟩ ⟨Nat.le_refl 0, Nat.le_refl 0⟩ (As := []) (rest := []) rfl rfl (Nat.le_of_ble_eq_true rfl) hk (fun a7 hk => m_X5_known F.ok a7 h3 _ hk)) ⟨rfl, rfl⟩ fun x6 h5 hk =>
g_istore_n F dX5_readFault_32 rfl (Nat.le_of_ble_eq_true rfl) rfl <|
g_aload_n F dX5_readFault_33 rfl 1 rfl <|
g_iconst F dX5_readFault_34 ic_0 <|
g_bipush F dX5_readFault_35 bp_39 <|
g_calli0 (g_V F dX5_readFault_37 q3138 mi_X5_integer ct_X5 (rm' := rmX5_integer) ⟨Nat.le_of_ble_eq_true rfl, Nat.le_of_ble_eq_true rfl⟩ ⟨Nat.le_refl 0, Nat.le_refl 0⟩ (As := [aI (0:Int32), aI (39:Int32)]) (rest := []) rfl rfl (Nat.le_of_ble_eq_true rfl) hk (fun a10 hk => m_X5_integer F.ok a10 (0:Int32) (39:Int32) h5 _ hk)) ⟨rfl, rfl⟩ fun x9 h8 hk =>
g_istore_n F dX5_readFault_40 rfl (Nat.le_of_ble_eq_true rfl) rfl <|
g_aload_n F dX5_readFault_41 rfl 2 rfl <|
g_iconst F dX5_readFault_42 ic_0 <|
g_bipush F dX5_readFault_43 bp_15 <|
g_calli0 (g_V F dX5_readFault_45 q3138 mi_X5_integer ct_X5 (rm' := rmX5_integer) ⟨Nat.le_of_ble_eq_true rfl, Nat.le_of_ble_eq_true rfl⟩ ⟨Nat.le_refl 0, Nat.le_refl 0⟩ (As := [aI (0:Int32), aI (15:Int32)]) (rest := []) rfl rfl (Nat.le_of_ble_eq_true rfl) hk (fun a13 hk => m_X5_integer F.ok a13 (0:Int32) (15:Int32) h8 _ hk)) ⟨rfl, rfl⟩ fun x12 h11 hk =>
g_istore_n F dX5_readFault_48 rfl (Nat.le_of_ble_eq_true rfl) rfl <|
g_aload_n F dX5_readFault_49 rfl 3 rfl <|
g_iconst F dX5_readFault_50 ic_1 <|
g_sipush F dX5_readFault_51 sp_9999 <|
g_calli0 (g_V F dX5_readFault_54 q3138 mi_X5_integer ct_X5 (rm' := rmX5_integer) ⟨Nat.le_of_ble_eq_true rfl, Nat.le_of_ble_eq_true rfl⟩ ⟨Nat.le_refl 0, Nat.le_refl 0⟩ (As := [aI (1:Int32), aI (9999:Int32)]) (rest := []) rfl rfl (Nat.le_of_ble_eq_true rfl) hk (fun a16 hk => m_X5_integer F.ok a16 (1:Int32) (9999:Int32) h11 _ hk)) ⟨rfl, rfl⟩ fun x15 h14 hk =>
g_istore F dX5_readFault_57 (Nat.le_of_ble_eq_true rfl) rfl <|
g_aload_n F dX5_readFault_59 rfl 4 rfl <|
g_getI F dX5_readFault_60 fo_X5_19_LockstepRoomModel in_X5 fl_LockstepRoomModel_194_X5 hk fun x17 hk =>
g_if_ne F dX5_readFault_63 (tgt := 75) rfl (fun hc => have hk := hk.2 hc
g_vret F dX5_readFault_75 (Nat.le_refl 0) (Nat.le_refl 0) hk) (fun hc => have hk := hk.1 hc
g_aload_n F dX5_readFault_66 rfl 4 rfl <|
g_iload_n F dX5_readFault_67 rfl 3 rfl <|
g_iload_n F dX5_readFault_68 rfl 2 rfl <|
g_iload_n F dX5_readFault_69 rfl 1 rfl <|
g_iload F dX5_readFault_70 0 rfl <|
g_callv0 (g_V F dX5_readFault_72 q3191 mi_X5_faults ct_X5 (rm' := rmX5_faults) ⟨Nat.le_of_ble_eq_true rfl, Nat.le_of_ble_eq_true rfl⟩ ⟨Nat.le_refl 0, Nat.le_refl 0⟩ (As := [aI x6, aI x9, aI x12, aI x15]) (rest := []) rfl rfl (Nat.le_of_ble_eq_true rfl) hk (fun a19 hk => m_X5_faults F.ok a19 x6 x9 x12 x15 h14 _ hk)) ⟨rfl, rfl⟩ fun h18 hk =>
g_vret F dX5_readFault_75 (Nat.le_refl 0) (Nat.le_refl 0) hk)
theorem m_X5_readFault {S : Sx} (hS0 : Sok S) (v0 : Nat) (h : hH) (Q : hH → Prop) (hk : f_X5_readFault S.E v0 h Q) : Ct S yX5_readFault (ws_ yX5_readFault cX5_readFault 5 none) rmX5_readFault ([aR (some v0)].map vv) h (qV Q) := by
  refine Ct.of hS0 (by decide +kernel) rfl (Nat.le_of_ble_eq_true rfl) fun x hxS F hnm => ?_
  subst hxS
  unfold f_X5_readFault at hk
  exact g_aload_n F dX5_readFault_0 rfl 0 rfl <|
g_aload_n F dX5_readFault_1 rfl 0 rfl <|
g_getR F dX5_readFault_2 fo_X5_5_LockstepRoomModel in_X5 fl_LockstepRoomModel_19_X5 hk fun x20 hk =>
g_sipush F dX5_readFault_5 sp_1741 <|
g_iald F dX5_readFault_8 hk fun x21 hk =>
g_bipush F dX5_readFault_9 bp_10 <|
g_icmp_ne F dX5_readFault_11 (tgt := 18) rfl (fun hc => have hk := hk.2 hc
g_iconst F dX5_readFault_18 ic_0 <|
s_X5_readFault_j19 F (some v0) (0:Int32) h hk ) (fun hc => have hk := hk.1 hc
g_iconst F dX5_readFault_14 ic_1 <|
g_goto F dX5_readFault_15 (tgt := 19) rfl <|
s_X5_readFault_j19 F (some v0) (1:Int32) h hk )
abbrev rmX5_seals : Room := { frames := 2, cells := 0, slots := 0, locals := 40 }
theorem s_X5_seals_l144 {x : Cx} (F : Fx x cX5_seals "LockstepRoomModel" 6 none rmX5_seals) {v0 : Nat} {Q : hH → Prop} {K167 : hH → Prop} (n : Nat) (l3 : Int32) (h : hH) (hk : f_X5_seals_l144 x.S.E v0 Q K167 n l3 h) (hK167 : ∀ (h : hH), K167 h → G x (xQ x rmX5_seals (qV Q)) 167 [] [] h 0 0) : G x (xQ x rmX5_seals (qV Q)) 144 [(0, aR (some v0)), (3, aI l3)] [] h 0 0 := by
  induction n generalizing l3 h with
  | zero => exact False.elim hk
  | succ n ih =>
    unfold f_X5_seals_l144 at hk
    exact g_iload_n F dX5_seals_144 rfl 1 rfl <|
g_bipush F dX5_seals_145 bp_33 <|
g_icmp_ge F dX5_seals_147 (tgt := 167) rfl (fun hc => have hk := hk.1 hc
G.fewer [] rfl <| hK167 h hk) (fun hc => have hk := hk.2 hc
g_aload_n F dX5_seals_150 rfl 0 rfl <|
g_getR F dX5_seals_151 fo_X5_5_LockstepRoomModel in_X5 fl_LockstepRoomModel_19_X5 hk fun x1 hk =>
g_sipush F dX5_seals_154 sp_1708 <|
g_iload_n F dX5_seals_157 rfl 1 rfl <|
g_iadd F dX5_seals_158 <|
g_iconst F dX5_seals_159 ic_0 <|
g_iast F dX5_seals_160 hk fun h2 hk =>
g_iinc (v := (l3 + (1:Int32))) F dX5_seals_161 (j := 1) rfl (iinc_1 l3) (Nat.le_of_ble_eq_true rfl) rfl <|
g_goto F dX5_seals_164 (tgt := 144) rfl <|
G.fewer [1, 0] rfl <| ih (l3 + (1:Int32)) h2 hk)
theorem s_X5_seals_l65 {x : Cx} (F : Fx x cX5_seals "LockstepRoomModel" 6 none rmX5_seals) {v0 : Nat} {Q : hH → Prop} {K108 : Int32 → Int32 → Int32 → Int32 → hH → Prop} (n : Nat) (l1 : Int32) (l2 : Int32) (l3 : Int32) (l4 : Int32) (l5 : Int32) (h : hH) (hk : f_X5_seals_l65 x.S.E v0 Q K108 n l1 l2 l3 l4 l5 h) (hK108 : ∀ (l1 : Int32) (l2 : Int32) (l3 : Int32) (l4 : Int32) (h : hH), K108 l1 l2 l3 l4 h → G x (xQ x rmX5_seals (qV Q)) 108 [(0, aR (some v0)), (1, aI l1), (2, aI l2), (3, aI l3), (4, aI l4)] [] h 0 0) : G x (xQ x rmX5_seals (qV Q)) 65 [(0, aR (some v0)), (1, aI l1), (2, aI l2), (3, aI l3), (4, aI l4), (5, aI l5)] [] h 0 0 := by
  induction n generalizing l1 l2 l3 l4 l5 h with
  | zero => exact False.elim hk
  | succ n ih =>
    unfold f_X5_seals_l65 at hk
    exact g_iload F dX5_seals_65 5 rfl <|
g_iconst F dX5_seals_67 ic_4 <|
g_icmp_ge F dX5_seals_68 (tgt := 108) rfl (fun hc => have hk := hk.1 hc
G.fewer [0, 1, 2, 3, 4] rfl <| hK108 l1 l2 l3 l4 h hk) (fun hc => have hk := hk.2 hc
g_aload_n F dX5_seals_71 rfl 0 rfl <|
g_getR F dX5_seals_72 fo_X5_5_LockstepRoomModel in_X5 fl_LockstepRoomModel_19_X5 hk fun x3 hk =>
g_iload_n F dX5_seals_75 rfl 1 rfl <|
g_iconst F dX5_seals_76 ic_1 <|
g_iadd F dX5_seals_77 <|
g_iconst F dX5_seals_78 ic_4 <|
g_iload_n F dX5_seals_79 rfl 2 rfl <|
g_imul F dX5_seals_80 <|
g_iadd F dX5_seals_81 <|
g_iload F dX5_seals_82 5 rfl <|
g_iadd F dX5_seals_84 <|
g_aload_n F dX5_seals_85 rfl 0 rfl <|
g_getR F dX5_seals_86 fo_X5_5_LockstepRoomModel in_X5 fl_LockstepRoomModel_19_X5 hk fun x4 hk =>
g_sipush F dX5_seals_89 sp_1709 <|
g_iconst F dX5_seals_92 ic_4 <|
g_iload F dX5_seals_93 4 rfl <|
g_imul F dX5_seals_95 <|
g_iadd F dX5_seals_96 <|
g_iload F dX5_seals_97 5 rfl <|
g_iadd F dX5_seals_99 <|
g_iald F dX5_seals_100 hk fun x5 hk =>
g_iast F dX5_seals_101 hk fun h6 hk =>
g_iinc (v := (l5 + (1:Int32))) F dX5_seals_102 (j := 5) rfl (iinc_1 l5) (Nat.le_of_ble_eq_true rfl) rfl <|
g_goto F dX5_seals_105 (tgt := 65) rfl <|
G.fewer [1, 2, 3, 4, 5, 0] rfl <| ih l1 l2 l3 l4 (l5 + (1:Int32)) h6 hk)
theorem s_X5_seals_l29 {x : Cx} (F : Fx x cX5_seals "LockstepRoomModel" 6 none rmX5_seals) {v0 : Nat} {Q : hH → Prop} {K117 : Int32 → Int32 → Int32 → hH → Prop} (n : Nat) (l1 : Int32) (l2 : Int32) (l3 : Int32) (l4 : Int32) (h : hH) (hk : f_X5_seals_l29 x.S.E v0 Q K117 n l1 l2 l3 l4 h) (hK117 : ∀ (l1 : Int32) (l2 : Int32) (l3 : Int32) (h : hH), K117 l1 l2 l3 h → G x (xQ x rmX5_seals (qV Q)) 117 [(0, aR (some v0)), (1, aI l1), (2, aI l2), (3, aI l3)] [] h 0 0) : G x (xQ x rmX5_seals (qV Q)) 29 [(0, aR (some v0)), (1, aI l1), (2, aI l2), (3, aI l3), (4, aI l4)] [] h 0 0 := by
  induction n generalizing l1 l2 l3 l4 h with
  | zero => exact False.elim hk
  | succ n ih =>
    unfold f_X5_seals_l29 at hk
    exact g_iload F dX5_seals_29 4 rfl <|
g_aload_n F dX5_seals_31 rfl 0 rfl <|
g_getR F dX5_seals_32 fo_X5_5_LockstepRoomModel in_X5 fl_LockstepRoomModel_19_X5 hk fun x7 hk =>
g_sipush F dX5_seals_35 sp_1708 <|
g_iald F dX5_seals_38 hk fun x8 hk =>
g_icmp_ge F dX5_seals_39 (tgt := 117) rfl (fun hc => have hk := hk.1 hc
G.fewer [0, 1, 2, 3] rfl <| hK117 l1 l2 l3 h hk) (fun hc => have hk := hk.2 hc
g_aload_n F dX5_seals_42 rfl 0 rfl <|
g_getR F dX5_seals_43 fo_X5_5_LockstepRoomModel in_X5 fl_LockstepRoomModel_19_X5 hk fun x9 hk =>
g_sipush F dX5_seals_46 sp_1709 <|
g_iconst F dX5_seals_49 ic_4 <|
g_iload F dX5_seals_50 4 rfl <|
g_imul F dX5_seals_52 <|
g_iadd F dX5_seals_53 <|
g_iald F dX5_seals_54 hk fun x10 hk =>
g_iload_n F dX5_seals_55 rfl 3 rfl <|
g_icmp_eq F dX5_seals_56 (tgt := 62) rfl (fun hc => have hk := hk.1 hc
g_iconst F dX5_seals_62 ic_0 <|
g_istore F dX5_seals_63 (Nat.le_of_ble_eq_true rfl) rfl <|
G.fewer [1, 2, 3, 4, 5, 0] rfl <| s_X5_seals_l65 F 1000000 l1 l2 l3 l4 (0:Int32) h hk ((fun l1 l2 l3 l4 h hk => g_iinc (v := (l2 + (1:Int32))) F dX5_seals_108 (j := 2) rfl (iinc_1 l2) (Nat.le_of_ble_eq_true rfl) rfl <|
g_iinc (v := (l4 + (1:Int32))) F dX5_seals_111 (j := 4) rfl (iinc_1 l4) (Nat.le_of_ble_eq_true rfl) rfl <|
g_goto F dX5_seals_114 (tgt := 29) rfl <|
G.fewer [2, 3, 1, 4, 0] rfl <| ih l1 (l2 + (1:Int32)) l3 (l4 + (1:Int32)) h hk))) (fun hc => have hk := hk.2 hc
g_goto F dX5_seals_59 (tgt := 111) rfl <|
g_iinc (v := (l4 + (1:Int32))) F dX5_seals_111 (j := 4) rfl (iinc_1 l4) (Nat.le_of_ble_eq_true rfl) rfl <|
g_goto F dX5_seals_114 (tgt := 29) rfl <|
G.fewer [1, 2, 3, 4, 0] rfl <| ih l1 l2 l3 (l4 + (1:Int32)) h hk))
theorem s_X5_seals_l20 {x : Cx} (F : Fx x cX5_seals "LockstepRoomModel" 6 none rmX5_seals) {v0 : Nat} {Q : hH → Prop} {K123 : Int32 → Int32 → hH → Prop} (n : Nat) (l1 : Int32) (l2 : Int32) (l3 : Int32) (h : hH) (hk : f_X5_seals_l20 x.S.E v0 Q K123 n l1 l2 l3 h) (hK123 : ∀ (l1 : Int32) (l2 : Int32) (h : hH), K123 l1 l2 h → G x (xQ x rmX5_seals (qV Q)) 123 [(0, aR (some v0)), (1, aI l1), (2, aI l2)] [] h 0 0) : G x (xQ x rmX5_seals (qV Q)) 20 [(0, aR (some v0)), (1, aI l1), (2, aI l2), (3, aI l3)] [] h 0 0 := by
  induction n generalizing l1 l2 l3 h with
  | zero => exact False.elim hk
  | succ n ih =>
    unfold f_X5_seals_l20 at hk
    exact g_iload_n F dX5_seals_20 rfl 3 rfl <|
g_bipush F dX5_seals_21 bp_6 <|
g_icmp_ge F dX5_seals_23 (tgt := 123) rfl (fun hc => have hk := hk.1 hc
G.fewer [0, 1, 2] rfl <| hK123 l1 l2 h hk) (fun hc => have hk := hk.2 hc
g_iconst F dX5_seals_26 ic_0 <|
g_istore F dX5_seals_27 (Nat.le_of_ble_eq_true rfl) rfl <|
G.fewer [1, 2, 3, 4, 0] rfl <| s_X5_seals_l29 F 1000000 l1 l2 l3 (0:Int32) h hk ((fun l1 l2 l3 h hk => g_iinc (v := (l3 + (1:Int32))) F dX5_seals_117 (j := 3) rfl (iinc_1 l3) (Nat.le_of_ble_eq_true rfl) rfl <|
g_goto F dX5_seals_120 (tgt := 20) rfl <|
G.fewer [1, 2, 3, 0] rfl <| ih l1 l2 (l3 + (1:Int32)) h hk)))
theorem m_X5_seals {S : Sx} (hS0 : Sok S) (v0 : Nat) (h : hH) (Q : hH → Prop) (hk : f_X5_seals S.E v0 h Q) : Ct S yX5_seals (ws_ yX5_seals cX5_seals 6 none) rmX5_seals ([aR (some v0)].map vv) h (qV Q) := by
  refine Ct.of hS0 (by decide +kernel) rfl (Nat.le_of_ble_eq_true rfl) fun x hxS F hnm => ?_
  subst hxS
  unfold f_X5_seals at hk
  exact g_sipush F dX5_seals_0 sp_388 <|
g_bipush F dX5_seals_3 bp_33 <|
g_aload_n F dX5_seals_5 rfl 0 rfl <|
g_getR F dX5_seals_6 fo_X5_5_LockstepRoomModel in_X5 fl_LockstepRoomModel_19_X5 hk fun x11 hk =>
g_sipush F dX5_seals_9 sp_387 <|
g_iald F dX5_seals_12 hk fun x12 hk =>
g_imul F dX5_seals_13 <|
g_iadd F dX5_seals_14 <|
g_istore_n F dX5_seals_15 rfl (Nat.le_of_ble_eq_true rfl) rfl <|
g_iconst F dX5_seals_16 ic_0 <|
g_istore_n F dX5_seals_17 rfl (Nat.le_of_ble_eq_true rfl) rfl <|
g_iconst F dX5_seals_18 ic_0 <|
g_istore_n F dX5_seals_19 rfl (Nat.le_of_ble_eq_true rfl) rfl <|
G.fewer [3, 2, 1, 0] rfl <| s_X5_seals_l20 F 1000000 ((388:Int32) + ((33:Int32) * x12)) (0:Int32) (0:Int32) h hk ((fun l1 l2 h hk => g_aload_n F dX5_seals_123 rfl 0 rfl <|
g_getR F dX5_seals_124 fo_X5_5_LockstepRoomModel in_X5 fl_LockstepRoomModel_19_X5 hk fun x13 hk =>
g_iload_n F dX5_seals_127 rfl 1 rfl <|
g_iload_n F dX5_seals_128 rfl 2 rfl <|
g_iast F dX5_seals_129 hk fun h14 hk =>
g_aload_n F dX5_seals_130 rfl 0 rfl <|
g_getR F dX5_seals_131 fo_X5_5_LockstepRoomModel in_X5 fl_LockstepRoomModel_19_X5 hk fun x15 hk =>
g_sipush F dX5_seals_134 sp_387 <|
g_dup2 F dX5_seals_137 rfl rfl <|
g_iald F dX5_seals_138 hk fun x16 hk =>
g_iconst F dX5_seals_139 ic_1 <|
g_iadd F dX5_seals_140 <|
g_iast F dX5_seals_141 hk fun h17 hk =>
g_iconst F dX5_seals_142 ic_0 <|
g_istore_n F dX5_seals_143 rfl (Nat.le_of_ble_eq_true rfl) rfl <|
G.fewer [1, 0] rfl <| s_X5_seals_l144 F 1000000 (0:Int32) h17 hk ((fun h hk => g_vret F dX5_seals_167 (Nat.le_refl 0) (Nat.le_refl 0) hk))))
abbrev rmX5_readSeal : Room := { frames := 5, cells := 0, slots := 0, locals := 101 }
theorem s_X5_readSeal_j35 {x : Cx} (F : Fx x cX5_readSeal "LockstepRoomModel" 1 none rmX5_readSeal) {v0 : Nat} {Q : hH → Prop} (h : hH) (hk : f_X5_readSeal_j35 x.S.E v0 Q h) : G x (xQ x rmX5_readSeal (qV Q)) 35 [(0, aR (some v0))] [] h 0 0 := by
  unfold f_X5_readSeal_j35 at hk
  exact g_aload_n F dX5_readSeal_35 rfl 0 rfl <|
g_callv0 (g_V F dX5_readSeal_36 q3134 mi_X5_goOn ct_X5 (rm' := rmX5_goOn) ⟨Nat.le_of_ble_eq_true rfl, Nat.le_of_ble_eq_true rfl⟩ ⟨Nat.le_refl 0, Nat.le_refl 0⟩ (As := []) (rest := []) rfl rfl (Nat.le_of_ble_eq_true rfl) hk (fun a2 hk => m_X5_goOn F.ok a2 h _ hk)) ⟨rfl, rfl⟩ fun h1 hk =>
g_vret F dX5_readSeal_39 (Nat.le_refl 0) (Nat.le_refl 0) hk
theorem s_X5_readSeal_j19 {x : Cx} (F : Fx x cX5_readSeal "LockstepRoomModel" 1 none rmX5_readSeal) {v0 : Nat} {Q : hH → Prop} (s0 : Option Nat) (s1 : Int32) (h : hH) (hk : f_X5_readSeal_j19 x.S.E v0 Q s0 s1 h) : G x (xQ x rmX5_readSeal (qV Q)) 19 [(0, aR (some v0))] [aI s1, aR s0] h 0 0 := by
  unfold f_X5_readSeal_j19 at hk
  exact g_bipush F dX5_readSeal_19 bp_m15 <|
g_callv0 (g_V F dX5_readSeal_21 q3130 mi_X5_failsIf ct_X5 (rm' := rmX5_failsIf) ⟨Nat.le_of_ble_eq_true rfl, Nat.le_of_ble_eq_true rfl⟩ ⟨Nat.le_refl 0, Nat.le_refl 0⟩ (As := [aI s1, aI (-15:Int32)]) (rest := []) rfl rfl (Nat.le_of_ble_eq_true rfl) hk (fun a4 hk => m_X5_failsIf F.ok a4 s1 (-15:Int32) h _ hk)) ⟨rfl, rfl⟩ fun h3 hk =>
g_aload_n F dX5_readSeal_24 rfl 0 rfl <|
g_getI F dX5_readSeal_25 fo_X5_19_LockstepRoomModel in_X5 fl_LockstepRoomModel_194_X5 hk fun x5 hk =>
g_if_ne F dX5_readSeal_28 (tgt := 35) rfl (fun hc => have hk := hk.2 hc
s_X5_readSeal_j35 F h3 hk ) (fun hc => have hk := hk.1 hc
g_aload_n F dX5_readSeal_31 rfl 0 rfl <|
g_callv0 (g_V F dX5_readSeal_32 q3183 mi_X5_seals ct_X5 (rm' := rmX5_seals) ⟨Nat.le_of_ble_eq_true rfl, Nat.le_of_ble_eq_true rfl⟩ ⟨Nat.le_refl 0, Nat.le_refl 0⟩ (As := []) (rest := []) rfl rfl (Nat.le_of_ble_eq_true rfl) hk (fun a7 hk => m_X5_seals F.ok a7 h3 _ hk)) ⟨rfl, rfl⟩ fun h6 hk =>
s_X5_readSeal_j35 F h6 hk )
theorem m_X5_readSeal {S : Sx} (hS0 : Sok S) (v0 : Nat) (h : hH) (Q : hH → Prop) (hk : f_X5_readSeal S.E v0 h Q) : Ct S yX5_readSeal (ws_ yX5_readSeal cX5_readSeal 1 none) rmX5_readSeal ([aR (some v0)].map vv) h (qV Q) := by
  refine Ct.of hS0 (by decide +kernel) rfl (Nat.le_of_ble_eq_true rfl) fun x hxS F hnm => ?_
  subst hxS
  unfold f_X5_readSeal at hk
  exact g_aload_n F dX5_readSeal_0 rfl 0 rfl <|
g_aload_n F dX5_readSeal_1 rfl 0 rfl <|
g_getR F dX5_readSeal_2 fo_X5_5_LockstepRoomModel in_X5 fl_LockstepRoomModel_19_X5 hk fun x8 hk =>
g_sipush F dX5_readSeal_5 sp_387 <|
g_iald F dX5_readSeal_8 hk fun x9 hk =>
g_bipush F dX5_readSeal_9 bp_40 <|
g_icmp_ne F dX5_readSeal_11 (tgt := 18) rfl (fun hc => have hk := hk.2 hc
g_iconst F dX5_readSeal_18 ic_0 <|
s_X5_readSeal_j19 F (some v0) (0:Int32) h hk ) (fun hc => have hk := hk.1 hc
g_iconst F dX5_readSeal_14 ic_1 <|
g_goto F dX5_readSeal_15 (tgt := 19) rfl <|
s_X5_readSeal_j19 F (some v0) (1:Int32) h hk )
abbrev rmX5_gives : Room := { frames := 2, cells := 0, slots := 0, locals := 40 }
theorem m_X5_gives {S : Sx} (hS0 : Sok S) (v0 : Nat) (v1 : Int32) (v2 : Int32) (v3 : Int32) (v4 : Int32) (h : hH) (Q : hH → Prop) (hk : f_X5_gives S.E v0 v1 v2 v3 v4 h Q) : Ct S yX5_gives (ws_ yX5_gives cX5_gives 6 none) rmX5_gives ([aR (some v0), aI v1, aI v2, aI v3, aI v4].map vv) h (qV Q) := by
  refine Ct.of hS0 (by decide +kernel) rfl (Nat.le_of_ble_eq_true rfl) fun x hxS F hnm => ?_
  subst hxS
  unfold f_X5_gives at hk
  exact g_sipush F dX5_gives_0 sp_1709 <|
g_iconst F dX5_gives_3 ic_4 <|
g_aload_n F dX5_gives_4 rfl 0 rfl <|
g_getR F dX5_gives_5 fo_X5_5_LockstepRoomModel in_X5 fl_LockstepRoomModel_19_X5 hk fun x1 hk =>
g_sipush F dX5_gives_8 sp_1708 <|
g_iald F dX5_gives_11 hk fun x2 hk =>
g_imul F dX5_gives_12 <|
g_iadd F dX5_gives_13 <|
g_istore F dX5_gives_14 (Nat.le_of_ble_eq_true rfl) rfl <|
g_aload_n F dX5_gives_16 rfl 1 rfl <|
g_getR F dX5_gives_17 fo_X5_5_LockstepRoomModel in_X5 fl_LockstepRoomModel_19_X5 hk fun x3 hk =>
g_iload F dX5_gives_20 0 rfl <|
g_iconst F dX5_gives_22 ic_0 <|
g_iadd F dX5_gives_23 <|
g_iload_n F dX5_gives_24 rfl 2 rfl <|
g_iast F dX5_gives_25 hk fun h4 hk =>
g_aload_n F dX5_gives_26 rfl 1 rfl <|
g_getR F dX5_gives_27 fo_X5_5_LockstepRoomModel in_X5 fl_LockstepRoomModel_19_X5 hk fun x5 hk =>
g_iload F dX5_gives_30 0 rfl <|
g_iconst F dX5_gives_32 ic_1 <|
g_iadd F dX5_gives_33 <|
g_iload_n F dX5_gives_34 rfl 3 rfl <|
g_iast F dX5_gives_35 hk fun h6 hk =>
g_aload_n F dX5_gives_36 rfl 1 rfl <|
g_getR F dX5_gives_37 fo_X5_5_LockstepRoomModel in_X5 fl_LockstepRoomModel_19_X5 hk fun x7 hk =>
g_iload F dX5_gives_40 0 rfl <|
g_iconst F dX5_gives_42 ic_2 <|
g_iadd F dX5_gives_43 <|
g_iload_n F dX5_gives_44 rfl 4 rfl <|
g_iast F dX5_gives_45 hk fun h8 hk =>
g_aload_n F dX5_gives_46 rfl 1 rfl <|
g_getR F dX5_gives_47 fo_X5_5_LockstepRoomModel in_X5 fl_LockstepRoomModel_19_X5 hk fun x9 hk =>
g_iload F dX5_gives_50 0 rfl <|
g_iconst F dX5_gives_52 ic_3 <|
g_iadd F dX5_gives_53 <|
g_iload F dX5_gives_54 5 rfl <|
g_iast F dX5_gives_56 hk fun h10 hk =>
g_aload_n F dX5_gives_57 rfl 1 rfl <|
g_getR F dX5_gives_58 fo_X5_5_LockstepRoomModel in_X5 fl_LockstepRoomModel_19_X5 hk fun x11 hk =>
g_sipush F dX5_gives_61 sp_1708 <|
g_dup2 F dX5_gives_64 rfl rfl <|
g_iald F dX5_gives_65 hk fun x12 hk =>
g_iconst F dX5_gives_66 ic_1 <|
g_iadd F dX5_gives_67 <|
g_iast F dX5_gives_68 hk fun h13 hk =>
g_vret F dX5_gives_69 (Nat.le_refl 0) (Nat.le_refl 0) hk
abbrev rmX5_readCommand : Room := { frames := 7, cells := 0, slots := 0, locals := 149 }
theorem s_X5_readCommand_j83 {x : Cx} (F : Fx x cX5_readCommand "LockstepRoomModel" 5 none rmX5_readCommand) {v0 : Nat} {Q : hH → Prop} (s0 : Option Nat) (s1 : Int32) (s2 : Int32) (l1 : Int32) (l2 : Int32) (l3 : Int32) (h : hH) (hk : f_X5_readCommand_j83 x.S.E v0 Q s0 s1 s2 l1 l2 l3 h) : G x (xQ x rmX5_readCommand (qV Q)) 83 [(0, aR (some v0)), (1, aI l1), (2, aI l2), (3, aI l3)] [aI s2, aI s1, aR s0] h 0 0 := by
  unfold f_X5_readCommand_j83 at hk
  exact g_calli0 (g_V F dX5_readCommand_83 q3138 mi_X5_integer ct_X5 (rm' := rmX5_integer) ⟨Nat.le_of_ble_eq_true rfl, Nat.le_of_ble_eq_true rfl⟩ ⟨Nat.le_refl 0, Nat.le_refl 0⟩ (As := [aI s1, aI s2]) (rest := []) rfl rfl (Nat.le_of_ble_eq_true rfl) hk (fun a3 hk => m_X5_integer F.ok a3 s1 s2 h _ hk)) ⟨rfl, rfl⟩ fun x2 h1 hk =>
g_istore F dX5_readCommand_86 (Nat.le_of_ble_eq_true rfl) rfl <|
g_aload_n F dX5_readCommand_88 rfl 1 rfl <|
g_getI F dX5_readCommand_89 fo_X5_19_LockstepRoomModel in_X5 fl_LockstepRoomModel_194_X5 hk fun x4 hk =>
g_if_ne F dX5_readCommand_92 (tgt := 104) rfl (fun hc => have hk := hk.2 hc
g_vret F dX5_readCommand_104 (Nat.le_refl 0) (Nat.le_refl 0) hk) (fun hc => have hk := hk.1 hc
g_aload_n F dX5_readCommand_95 rfl 1 rfl <|
g_iload_n F dX5_readCommand_96 rfl 2 rfl <|
g_iload_n F dX5_readCommand_97 rfl 3 rfl <|
g_iload_n F dX5_readCommand_98 rfl 4 rfl <|
g_iload F dX5_readCommand_99 0 rfl <|
g_callv0 (g_V F dX5_readCommand_101 q3175 mi_X5_gives ct_X5 (rm' := rmX5_gives) ⟨Nat.le_of_ble_eq_true rfl, Nat.le_of_ble_eq_true rfl⟩ ⟨Nat.le_refl 0, Nat.le_refl 0⟩ (As := [aI l1, aI l2, aI l3, aI x2]) (rest := []) rfl rfl (Nat.le_of_ble_eq_true rfl) hk (fun a6 hk => m_X5_gives F.ok a6 l1 l2 l3 x2 h1 _ hk)) ⟨rfl, rfl⟩ fun h5 hk =>
g_vret F dX5_readCommand_104 (Nat.le_refl 0) (Nat.le_refl 0) hk)
theorem s_X5_readCommand_j51 {x : Cx} (F : Fx x cX5_readCommand "LockstepRoomModel" 5 none rmX5_readCommand) {v0 : Nat} {Q : hH → Prop} (s0 : Option Nat) (s1 : Int32) (l1 : Int32) (l2 : Int32) (h : hH) (hk : f_X5_readCommand_j51 x.S.E v0 Q s0 s1 l1 l2 h) : G x (xQ x rmX5_readCommand (qV Q)) 51 [(0, aR (some v0)), (1, aI l1), (2, aI l2)] [aI s1, aR s0] h 0 0 := by
  unfold f_X5_readCommand_j51 at hk
  exact g_bipush F dX5_readCommand_51 bp_m11 <|
g_callv0 (g_V F dX5_readCommand_53 q3130 mi_X5_failsIf ct_X5 (rm' := rmX5_failsIf) ⟨Nat.le_of_ble_eq_true rfl, Nat.le_of_ble_eq_true rfl⟩ ⟨Nat.le_refl 0, Nat.le_refl 0⟩ (As := [aI s1, aI (-11:Int32)]) (rest := []) rfl rfl (Nat.le_of_ble_eq_true rfl) hk (fun a8 hk => m_X5_failsIf F.ok a8 s1 (-11:Int32) h _ hk)) ⟨rfl, rfl⟩ fun h7 hk =>
g_aload_n F dX5_readCommand_56 rfl 0 rfl <|
g_callv0 (g_V F dX5_readCommand_57 q3134 mi_X5_goOn ct_X5 (rm' := rmX5_goOn) ⟨Nat.le_of_ble_eq_true rfl, Nat.le_of_ble_eq_true rfl⟩ ⟨Nat.le_refl 0, Nat.le_refl 0⟩ (As := []) (rest := []) rfl rfl (Nat.le_of_ble_eq_true rfl) hk (fun a10 hk => m_X5_goOn F.ok a10 h7 _ hk)) ⟨rfl, rfl⟩ fun h9 hk =>
g_aload_n F dX5_readCommand_60 rfl 0 rfl <|
g_iconst F dX5_readCommand_61 ic_0 <|
g_bipush F dX5_readCommand_62 bp_15 <|
g_calli0 (g_V F dX5_readCommand_64 q3138 mi_X5_integer ct_X5 (rm' := rmX5_integer) ⟨Nat.le_of_ble_eq_true rfl, Nat.le_of_ble_eq_true rfl⟩ ⟨Nat.le_refl 0, Nat.le_refl 0⟩ (As := [aI (0:Int32), aI (15:Int32)]) (rest := []) rfl rfl (Nat.le_of_ble_eq_true rfl) hk (fun a13 hk => m_X5_integer F.ok a13 (0:Int32) (15:Int32) h9 _ hk)) ⟨rfl, rfl⟩ fun x12 h11 hk =>
g_istore_n F dX5_readCommand_67 rfl (Nat.le_of_ble_eq_true rfl) rfl <|
g_aload_n F dX5_readCommand_68 rfl 1 rfl <|
g_iconst F dX5_readCommand_69 ic_0 <|
g_iload_n F dX5_readCommand_70 rfl 3 rfl <|
g_iconst F dX5_readCommand_71 ic_1 <|
g_icmp_gt F dX5_readCommand_72 (tgt := 81) rfl (fun hc => have hk := hk.1 hc
g_bipush F dX5_readCommand_81 bp_15 <|
G.fewer [1, 2, 3, 0] rfl <| s_X5_readCommand_j83 F (some v0) (0:Int32) (15:Int32) l1 l2 x12 h11 hk ) (fun hc => have hk := hk.2 hc
g_sipush F dX5_readCommand_75 sp_9999 <|
g_goto F dX5_readCommand_78 (tgt := 83) rfl <|
G.fewer [1, 2, 3, 0] rfl <| s_X5_readCommand_j83 F (some v0) (0:Int32) (9999:Int32) l1 l2 x12 h11 hk )
theorem s_X5_readCommand_j19 {x : Cx} (F : Fx x cX5_readCommand "LockstepRoomModel" 5 none rmX5_readCommand) {v0 : Nat} {Q : hH → Prop} (s0 : Option Nat) (s1 : Int32) (h : hH) (hk : f_X5_readCommand_j19 x.S.E v0 Q s0 s1 h) : G x (xQ x rmX5_readCommand (qV Q)) 19 [(0, aR (some v0))] [aI s1, aR s0] h 0 0 := by
  unfold f_X5_readCommand_j19 at hk
  exact g_bipush F dX5_readCommand_19 bp_m15 <|
g_callv0 (g_V F dX5_readCommand_21 q3130 mi_X5_failsIf ct_X5 (rm' := rmX5_failsIf) ⟨Nat.le_of_ble_eq_true rfl, Nat.le_of_ble_eq_true rfl⟩ ⟨Nat.le_refl 0, Nat.le_refl 0⟩ (As := [aI s1, aI (-15:Int32)]) (rest := []) rfl rfl (Nat.le_of_ble_eq_true rfl) hk (fun a15 hk => m_X5_failsIf F.ok a15 s1 (-15:Int32) h _ hk)) ⟨rfl, rfl⟩ fun h14 hk =>
g_aload_n F dX5_readCommand_24 rfl 0 rfl <|
g_callv0 (g_V F dX5_readCommand_25 q3134 mi_X5_goOn ct_X5 (rm' := rmX5_goOn) ⟨Nat.le_of_ble_eq_true rfl, Nat.le_of_ble_eq_true rfl⟩ ⟨Nat.le_refl 0, Nat.le_refl 0⟩ (As := []) (rest := []) rfl rfl (Nat.le_of_ble_eq_true rfl) hk (fun a17 hk => m_X5_goOn F.ok a17 h14 _ hk)) ⟨rfl, rfl⟩ fun h16 hk =>
g_aload_n F dX5_readCommand_28 rfl 0 rfl <|
g_calli0 (g_V F dX5_readCommand_29 q3170 mi_X5_known ct_X5 (rm' := rmX5_known) ⟨Nat.le_of_ble_eq_true rfl, Nat.le_of_ble_eq_true rfl⟩ ⟨Nat.le_refl 0, Nat.le_refl 0⟩ (As := []) (rest := []) rfl rfl (Nat.le_of_ble_eq_true rfl) hk (fun a20 hk => m_X5_known F.ok a20 h16 _ hk)) ⟨rfl, rfl⟩ fun x19 h18 hk =>
g_istore_n F dX5_readCommand_32 rfl (Nat.le_of_ble_eq_true rfl) rfl <|
g_aload_n F dX5_readCommand_33 rfl 1 rfl <|
g_ldcS F dX5_readCommand_34 (sk_35 _) <|
g_calli0 (g_V F dX5_readCommand_36 q3120 mi_X5_wordOf ct_X5 (rm' := rmX5_wordOf) ⟨Nat.le_of_ble_eq_true rfl, Nat.le_of_ble_eq_true rfl⟩ ⟨Nat.le_refl 0, Nat.le_refl 0⟩ (As := [aR (some (x.S.E 35))]) (rest := []) rfl rfl (Nat.le_of_ble_eq_true rfl) hk (fun a23 hk => m_X5_wordOf F.ok a23 (some (x.S.E 35)) h18 _ hk)) ⟨rfl, rfl⟩ fun x22 h21 hk =>
g_istore_n F dX5_readCommand_39 rfl (Nat.le_of_ble_eq_true rfl) rfl <|
g_aload_n F dX5_readCommand_40 rfl 2 rfl <|
g_iload_n F dX5_readCommand_41 rfl 0 rfl <|
g_iconst F dX5_readCommand_42 ic_m1 <|
g_icmp_ne F dX5_readCommand_43 (tgt := 50) rfl (fun hc => have hk := hk.2 hc
g_iconst F dX5_readCommand_50 ic_0 <|
G.fewer [2, 1, 0] rfl <| s_X5_readCommand_j51 F (some v0) (0:Int32) x19 x22 h21 hk ) (fun hc => have hk := hk.1 hc
g_iconst F dX5_readCommand_46 ic_1 <|
g_goto F dX5_readCommand_47 (tgt := 51) rfl <|
G.fewer [2, 1, 0] rfl <| s_X5_readCommand_j51 F (some v0) (1:Int32) x19 x22 h21 hk )
theorem m_X5_readCommand {S : Sx} (hS0 : Sok S) (v0 : Nat) (h : hH) (Q : hH → Prop) (hk : f_X5_readCommand S.E v0 h Q) : Ct S yX5_readCommand (ws_ yX5_readCommand cX5_readCommand 5 none) rmX5_readCommand ([aR (some v0)].map vv) h (qV Q) := by
  refine Ct.of hS0 (by decide +kernel) rfl (Nat.le_of_ble_eq_true rfl) fun x hxS F hnm => ?_
  subst hxS
  unfold f_X5_readCommand at hk
  exact g_aload_n F dX5_readCommand_0 rfl 0 rfl <|
g_aload_n F dX5_readCommand_1 rfl 0 rfl <|
g_getR F dX5_readCommand_2 fo_X5_5_LockstepRoomModel in_X5 fl_LockstepRoomModel_19_X5 hk fun x24 hk =>
g_sipush F dX5_readCommand_5 sp_1708 <|
g_iald F dX5_readCommand_8 hk fun x25 hk =>
g_bipush F dX5_readCommand_9 bp_8 <|
g_icmp_ne F dX5_readCommand_11 (tgt := 18) rfl (fun hc => have hk := hk.2 hc
g_iconst F dX5_readCommand_18 ic_0 <|
s_X5_readCommand_j19 F (some v0) (0:Int32) h hk ) (fun hc => have hk := hk.1 hc
g_iconst F dX5_readCommand_14 ic_1 <|
g_goto F dX5_readCommand_15 (tgt := 19) rfl <|
s_X5_readCommand_j19 F (some v0) (1:Int32) h hk )
abbrev rmX5_sets : Room := { frames := 2, cells := 0, slots := 0, locals := 40 }
theorem m_X5_sets {S : Sx} (hS0 : Sok S) (v0 : Nat) (v1 : Int32) (v2 : Int32) (v3 : Int32) (h : hH) (Q : hH → Prop) (hk : f_X5_sets S.E v0 v1 v2 v3 h Q) : Ct S yX5_sets (ws_ yX5_sets cX5_sets 4 none) rmX5_sets ([aR (some v0), aI v1, aI v2, aI v3].map vv) h (qV Q) := by
  refine Ct.of hS0 (by decide +kernel) rfl (Nat.le_of_ble_eq_true rfl) fun x hxS F hnm => ?_
  subst hxS
  unfold f_X5_sets at hk
  exact g_aload_n F dX5_sets_0 rfl 0 rfl <|
g_getR F dX5_sets_1 fo_X5_5_LockstepRoomModel in_X5 fl_LockstepRoomModel_19_X5 hk fun x1 hk =>
g_iconst F dX5_sets_4 ic_3 <|
g_bipush F dX5_sets_5 bp_64 <|
g_iload_n F dX5_sets_7 rfl 1 rfl <|
g_imul F dX5_sets_8 <|
g_iadd F dX5_sets_9 <|
g_iload_n F dX5_sets_10 rfl 2 rfl <|
g_iadd F dX5_sets_11 <|
g_iload_n F dX5_sets_12 rfl 3 rfl <|
g_iast F dX5_sets_13 hk fun h2 hk =>
g_vret F dX5_sets_14 (Nat.le_refl 0) (Nat.le_refl 0) hk
abbrev rmX5_comes : Room := { frames := 3, cells := 0, slots := 0, locals := 63 }
theorem s_X5_comes_l8 {x : Cx} (F : Fx x cX5_comes "LockstepRoomModel" 5 none rmX5_comes) {v0 : Nat} {Q : hH → Prop} {K29 : Int32 → Int32 → Int32 → hH → Prop} (n : Nat) (l1 : Int32) (l2 : Int32) (l3 : Int32) (l4 : Int32) (h : hH) (hk : f_X5_comes_l8 x.S.E v0 Q K29 n l1 l2 l3 l4 h) (hK29 : ∀ (l1 : Int32) (l2 : Int32) (l3 : Int32) (h : hH), K29 l1 l2 l3 h → G x (xQ x rmX5_comes (qV Q)) 29 [(0, aR (some v0)), (1, aI l1), (2, aI l2), (3, aI l3)] [] h 0 0) : G x (xQ x rmX5_comes (qV Q)) 8 [(0, aR (some v0)), (1, aI l1), (2, aI l2), (3, aI l3), (4, aI l4)] [] h 0 0 := by
  induction n generalizing l1 l2 l3 l4 h with
  | zero => exact False.elim hk
  | succ n ih =>
    unfold f_X5_comes_l8 at hk
    exact g_iload F dX5_comes_8 4 rfl <|
g_bipush F dX5_comes_10 bp_64 <|
g_icmp_ge F dX5_comes_12 (tgt := 29) rfl (fun hc => have hk := hk.1 hc
G.fewer [0, 1, 2, 3] rfl <| hK29 l1 l2 l3 h hk) (fun hc => have hk := hk.2 hc
g_aload_n F dX5_comes_15 rfl 0 rfl <|
g_iload_n F dX5_comes_16 rfl 3 rfl <|
g_iload F dX5_comes_17 4 rfl <|
g_iconst F dX5_comes_19 ic_0 <|
g_callv0 (g_V F dX5_comes_20 q3162 mi_X5_sets ct_X5 (rm' := rmX5_sets) ⟨Nat.le_of_ble_eq_true rfl, Nat.le_of_ble_eq_true rfl⟩ ⟨Nat.le_refl 0, Nat.le_refl 0⟩ (As := [aI l3, aI l4, aI (0:Int32)]) (rest := []) rfl rfl (Nat.le_of_ble_eq_true rfl) hk (fun a2 hk => m_X5_sets F.ok a2 l3 l4 (0:Int32) h _ hk)) ⟨rfl, rfl⟩ fun h1 hk =>
g_iinc (v := (l4 + (1:Int32))) F dX5_comes_23 (j := 4) rfl (iinc_1 l4) (Nat.le_of_ble_eq_true rfl) rfl <|
g_goto F dX5_comes_26 (tgt := 8) rfl <|
G.fewer [1, 2, 3, 4, 0] rfl <| ih l1 l2 l3 (l4 + (1:Int32)) h1 hk)
theorem m_X5_comes {S : Sx} (hS0 : Sok S) (v0 : Nat) (v1 : Int32) (v2 : Int32) (h : hH) (Q : hH → Prop) (hk : f_X5_comes S.E v0 v1 v2 h Q) : Ct S yX5_comes (ws_ yX5_comes cX5_comes 5 none) rmX5_comes ([aR (some v0), aI v1, aI v2].map vv) h (qV Q) := by
  refine Ct.of hS0 (by decide +kernel) rfl (Nat.le_of_ble_eq_true rfl) fun x hxS F hnm => ?_
  subst hxS
  unfold f_X5_comes at hk
  exact g_aload_n F dX5_comes_0 rfl 0 rfl <|
g_calli0 (g_V F dX5_comes_1 q3146 mi_X5_members ct_X5 (rm' := rmX5_members) ⟨Nat.le_of_ble_eq_true rfl, Nat.le_of_ble_eq_true rfl⟩ ⟨Nat.le_refl 0, Nat.le_refl 0⟩ (As := []) (rest := []) rfl rfl (Nat.le_of_ble_eq_true rfl) hk (fun a5 hk => m_X5_members F.ok a5 h _ hk)) ⟨rfl, rfl⟩ fun x4 h3 hk =>
g_istore_n F dX5_comes_4 rfl (Nat.le_of_ble_eq_true rfl) rfl <|
g_iconst F dX5_comes_5 ic_0 <|
g_istore F dX5_comes_6 (Nat.le_of_ble_eq_true rfl) rfl <|
G.fewer [2, 3, 4, 1, 0] rfl <| s_X5_comes_l8 F 1000000 v1 v2 x4 (0:Int32) h3 hk ((fun l1 l2 l3 h hk => g_aload_n F dX5_comes_29 rfl 0 rfl <|
g_iload_n F dX5_comes_30 rfl 3 rfl <|
g_iconst F dX5_comes_31 ic_0 <|
g_iload_n F dX5_comes_32 rfl 1 rfl <|
g_callv0 (g_V F dX5_comes_33 q3162 mi_X5_sets ct_X5 (rm' := rmX5_sets) ⟨Nat.le_of_ble_eq_true rfl, Nat.le_of_ble_eq_true rfl⟩ ⟨Nat.le_refl 0, Nat.le_refl 0⟩ (As := [aI l3, aI (0:Int32), aI l1]) (rest := []) rfl rfl (Nat.le_of_ble_eq_true rfl) hk (fun a7 hk => m_X5_sets F.ok a7 l3 (0:Int32) l1 h _ hk)) ⟨rfl, rfl⟩ fun h6 hk =>
g_aload_n F dX5_comes_36 rfl 0 rfl <|
g_iload_n F dX5_comes_37 rfl 3 rfl <|
g_iconst F dX5_comes_38 ic_1 <|
g_iload_n F dX5_comes_39 rfl 2 rfl <|
g_callv0 (g_V F dX5_comes_40 q3162 mi_X5_sets ct_X5 (rm' := rmX5_sets) ⟨Nat.le_of_ble_eq_true rfl, Nat.le_of_ble_eq_true rfl⟩ ⟨Nat.le_refl 0, Nat.le_refl 0⟩ (As := [aI l3, aI (1:Int32), aI l2]) (rest := []) rfl rfl (Nat.le_of_ble_eq_true rfl) hk (fun a9 hk => m_X5_sets F.ok a9 l3 (1:Int32) l2 h6 _ hk)) ⟨rfl, rfl⟩ fun h8 hk =>
g_aload_n F dX5_comes_43 rfl 0 rfl <|
g_iload_n F dX5_comes_44 rfl 3 rfl <|
g_bipush F dX5_comes_45 bp_6 <|
g_iload_n F dX5_comes_47 rfl 2 rfl <|
g_callv0 (g_V F dX5_comes_48 q3162 mi_X5_sets ct_X5 (rm' := rmX5_sets) ⟨Nat.le_of_ble_eq_true rfl, Nat.le_of_ble_eq_true rfl⟩ ⟨Nat.le_refl 0, Nat.le_refl 0⟩ (As := [aI l3, aI (6:Int32), aI l2]) (rest := []) rfl rfl (Nat.le_of_ble_eq_true rfl) hk (fun a11 hk => m_X5_sets F.ok a11 l3 (6:Int32) l2 h8 _ hk)) ⟨rfl, rfl⟩ fun h10 hk =>
g_aload_n F dX5_comes_51 rfl 0 rfl <|
g_iload_n F dX5_comes_52 rfl 3 rfl <|
g_iconst F dX5_comes_53 ic_2 <|
g_iconst F dX5_comes_54 ic_1 <|
g_callv0 (g_V F dX5_comes_55 q3162 mi_X5_sets ct_X5 (rm' := rmX5_sets) ⟨Nat.le_of_ble_eq_true rfl, Nat.le_of_ble_eq_true rfl⟩ ⟨Nat.le_refl 0, Nat.le_refl 0⟩ (As := [aI l3, aI (2:Int32), aI (1:Int32)]) (rest := []) rfl rfl (Nat.le_of_ble_eq_true rfl) hk (fun a13 hk => m_X5_sets F.ok a13 l3 (2:Int32) (1:Int32) h10 _ hk)) ⟨rfl, rfl⟩ fun h12 hk =>
g_aload_n F dX5_comes_58 rfl 0 rfl <|
g_getR F dX5_comes_59 fo_X5_5_LockstepRoomModel in_X5 fl_LockstepRoomModel_19_X5 hk fun x14 hk =>
g_iconst F dX5_comes_62 ic_2 <|
g_dup2 F dX5_comes_63 rfl rfl <|
g_iald F dX5_comes_64 hk fun x15 hk =>
g_iconst F dX5_comes_65 ic_1 <|
g_iadd F dX5_comes_66 <|
g_iast F dX5_comes_67 hk fun h16 hk =>
g_vret F dX5_comes_68 (Nat.le_refl 0) (Nat.le_refl 0) hk))
abbrev rmX5_readMember : Room := { frames := 6, cells := 0, slots := 0, locals := 124 }
theorem s_X5_readMember_j51 {x : Cx} (F : Fx x cX5_readMember "LockstepRoomModel" 3 none rmX5_readMember) {v0 : Nat} {Q : hH → Prop} (s0 : Option Nat) (s1 : Int32) (l1 : Int32) (h : hH) (hk : f_X5_readMember_j51 x.S.E v0 Q s0 s1 l1 h) : G x (xQ x rmX5_readMember (qV Q)) 51 [(0, aR (some v0)), (1, aI l1)] [aI s1, aR s0] h 0 0 := by
  unfold f_X5_readMember_j51 at hk
  exact g_bipush F dX5_readMember_51 bp_m14 <|
g_callv0 (g_V F dX5_readMember_53 q3130 mi_X5_failsIf ct_X5 (rm' := rmX5_failsIf) ⟨Nat.le_of_ble_eq_true rfl, Nat.le_of_ble_eq_true rfl⟩ ⟨Nat.le_refl 0, Nat.le_refl 0⟩ (As := [aI s1, aI (-14:Int32)]) (rest := []) rfl rfl (Nat.le_of_ble_eq_true rfl) hk (fun a2 hk => m_X5_failsIf F.ok a2 s1 (-14:Int32) h _ hk)) ⟨rfl, rfl⟩ fun h1 hk =>
g_aload_n F dX5_readMember_56 rfl 0 rfl <|
g_callv0 (g_V F dX5_readMember_57 q3134 mi_X5_goOn ct_X5 (rm' := rmX5_goOn) ⟨Nat.le_of_ble_eq_true rfl, Nat.le_of_ble_eq_true rfl⟩ ⟨Nat.le_refl 0, Nat.le_refl 0⟩ (As := []) (rest := []) rfl rfl (Nat.le_of_ble_eq_true rfl) hk (fun a4 hk => m_X5_goOn F.ok a4 h1 _ hk)) ⟨rfl, rfl⟩ fun h3 hk =>
g_aload_n F dX5_readMember_60 rfl 0 rfl <|
g_iconst F dX5_readMember_61 ic_1 <|
g_iconst F dX5_readMember_62 ic_4 <|
g_calli0 (g_V F dX5_readMember_63 q3138 mi_X5_integer ct_X5 (rm' := rmX5_integer) ⟨Nat.le_of_ble_eq_true rfl, Nat.le_of_ble_eq_true rfl⟩ ⟨Nat.le_refl 0, Nat.le_refl 0⟩ (As := [aI (1:Int32), aI (4:Int32)]) (rest := []) rfl rfl (Nat.le_of_ble_eq_true rfl) hk (fun a7 hk => m_X5_integer F.ok a7 (1:Int32) (4:Int32) h3 _ hk)) ⟨rfl, rfl⟩ fun x6 h5 hk =>
g_istore_n F dX5_readMember_66 rfl (Nat.le_of_ble_eq_true rfl) rfl <|
g_aload_n F dX5_readMember_67 rfl 1 rfl <|
g_getI F dX5_readMember_68 fo_X5_19_LockstepRoomModel in_X5 fl_LockstepRoomModel_194_X5 hk fun x8 hk =>
g_if_eq F dX5_readMember_71 (tgt := 75) rfl (fun hc => have hk := hk.1 hc
g_aload_n F dX5_readMember_75 rfl 1 rfl <|
g_getR F dX5_readMember_76 fo_X5_3_LockstepRoomModel in_X5 fl_LockstepRoomModel_13_X5 hk fun x9 hk =>
g_bipush F dX5_readMember_79 bp_16 <|
g_aload_n F dX5_readMember_81 rfl 1 rfl <|
g_calli0 (g_V F dX5_readMember_82 q3146 mi_X5_members ct_X5 (rm' := rmX5_members) ⟨Nat.le_of_ble_eq_true rfl, Nat.le_of_ble_eq_true rfl⟩ ⟨Nat.le_refl 0, Nat.le_refl 0⟩ (As := []) (rest := [aI (16:Int32), aR x9]) rfl rfl (Nat.le_of_ble_eq_true rfl) hk (fun a12 hk => m_X5_members F.ok a12 h5 _ hk)) ⟨rfl, rfl⟩ fun x11 h10 hk =>
g_iadd F dX5_readMember_85 <|
g_iload_n F dX5_readMember_86 rfl 2 rfl <|
g_iast F dX5_readMember_87 hk fun h13 hk =>
g_aload_n F dX5_readMember_88 rfl 1 rfl <|
g_iload_n F dX5_readMember_89 rfl 0 rfl <|
g_iconst F dX5_readMember_90 ic_0 <|
g_callv0 (g_V F dX5_readMember_91 q3158 mi_X5_comes ct_X5 (rm' := rmX5_comes) ⟨Nat.le_of_ble_eq_true rfl, Nat.le_of_ble_eq_true rfl⟩ ⟨Nat.le_refl 0, Nat.le_refl 0⟩ (As := [aI x6, aI (0:Int32)]) (rest := []) rfl rfl (Nat.le_of_ble_eq_true rfl) hk (fun a15 hk => m_X5_comes F.ok a15 x6 (0:Int32) h13 _ hk)) ⟨rfl, rfl⟩ fun h14 hk =>
g_vret F dX5_readMember_94 (Nat.le_refl 0) (Nat.le_refl 0) hk) (fun hc => have hk := hk.2 hc
g_vret F dX5_readMember_74 (Nat.le_refl 0) (Nat.le_refl 0) hk)
theorem s_X5_readMember_j50 {x : Cx} (F : Fx x cX5_readMember "LockstepRoomModel" 3 none rmX5_readMember) {v0 : Nat} {Q : hH → Prop} (s0 : Option Nat) (l1 : Int32) (h : hH) (hk : f_X5_readMember_j50 x.S.E v0 Q s0 l1 h) : G x (xQ x rmX5_readMember (qV Q)) 50 [(0, aR (some v0)), (1, aI l1)] [aR s0] h 0 0 := by
  unfold f_X5_readMember_j50 at hk
  exact g_iconst F dX5_readMember_50 ic_0 <|
s_X5_readMember_j51 F s0 (0:Int32) l1 h hk 
theorem s_X5_readMember_j15 {x : Cx} (F : Fx x cX5_readMember "LockstepRoomModel" 3 none rmX5_readMember) {v0 : Nat} {Q : hH → Prop} (s0 : Option Nat) (s1 : Int32) (h : hH) (hk : f_X5_readMember_j15 x.S.E v0 Q s0 s1 h) : G x (xQ x rmX5_readMember (qV Q)) 15 [(0, aR (some v0))] [aI s1, aR s0] h 0 0 := by
  unfold f_X5_readMember_j15 at hk
  exact g_bipush F dX5_readMember_15 bp_m15 <|
g_callv0 (g_V F dX5_readMember_17 q3130 mi_X5_failsIf ct_X5 (rm' := rmX5_failsIf) ⟨Nat.le_of_ble_eq_true rfl, Nat.le_of_ble_eq_true rfl⟩ ⟨Nat.le_refl 0, Nat.le_refl 0⟩ (As := [aI s1, aI (-15:Int32)]) (rest := []) rfl rfl (Nat.le_of_ble_eq_true rfl) hk (fun a17 hk => m_X5_failsIf F.ok a17 s1 (-15:Int32) h _ hk)) ⟨rfl, rfl⟩ fun h16 hk =>
g_aload_n F dX5_readMember_20 rfl 0 rfl <|
g_callv0 (g_V F dX5_readMember_21 q3134 mi_X5_goOn ct_X5 (rm' := rmX5_goOn) ⟨Nat.le_of_ble_eq_true rfl, Nat.le_of_ble_eq_true rfl⟩ ⟨Nat.le_refl 0, Nat.le_refl 0⟩ (As := []) (rest := []) rfl rfl (Nat.le_of_ble_eq_true rfl) hk (fun a19 hk => m_X5_goOn F.ok a19 h16 _ hk)) ⟨rfl, rfl⟩ fun h18 hk =>
g_aload_n F dX5_readMember_24 rfl 0 rfl <|
g_calli0 (g_V F dX5_readMember_25 q3150 mi_X5_nameHere ct_X5 (rm' := rmX5_nameHere) ⟨Nat.le_of_ble_eq_true rfl, Nat.le_of_ble_eq_true rfl⟩ ⟨Nat.le_refl 0, Nat.le_refl 0⟩ (As := []) (rest := []) rfl rfl (Nat.le_of_ble_eq_true rfl) hk (fun a22 hk => m_X5_nameHere F.ok a22 h18 _ hk)) ⟨rfl, rfl⟩ fun x21 h20 hk =>
g_istore_n F dX5_readMember_28 rfl (Nat.le_of_ble_eq_true rfl) rfl <|
g_aload_n F dX5_readMember_29 rfl 1 rfl <|
g_aload_n F dX5_readMember_30 rfl 1 rfl <|
g_getI F dX5_readMember_31 fo_X5_19_LockstepRoomModel in_X5 fl_LockstepRoomModel_194_X5 hk fun x23 hk =>
g_if_ne F dX5_readMember_34 (tgt := 50) rfl (fun hc => have hk := hk.2 hc
G.fewer [1, 0] rfl <| s_X5_readMember_j50 F (some v0) x21 h20 hk ) (fun hc => have hk := hk.1 hc
g_aload_n F dX5_readMember_37 rfl 1 rfl <|
g_iload_n F dX5_readMember_38 rfl 0 rfl <|
g_calli0 (g_V F dX5_readMember_39 q3154 mi_X5_found ct_X5 (rm' := rmX5_found) ⟨Nat.le_of_ble_eq_true rfl, Nat.le_of_ble_eq_true rfl⟩ ⟨Nat.le_refl 0, Nat.le_refl 0⟩ (As := [aI x21]) (rest := [aR (some v0)]) rfl rfl (Nat.le_of_ble_eq_true rfl) hk (fun a26 hk => m_X5_found F.ok a26 x21 h20 _ hk)) ⟨rfl, rfl⟩ fun x25 h24 hk =>
g_iconst F dX5_readMember_42 ic_m1 <|
g_icmp_eq F dX5_readMember_43 (tgt := 50) rfl (fun hc => have hk := hk.1 hc
G.fewer [1, 0] rfl <| s_X5_readMember_j50 F (some v0) x21 h24 hk ) (fun hc => have hk := hk.2 hc
g_iconst F dX5_readMember_46 ic_1 <|
g_goto F dX5_readMember_47 (tgt := 51) rfl <|
G.fewer [1, 0] rfl <| s_X5_readMember_j51 F (some v0) (1:Int32) x21 h24 hk ))
theorem m_X5_readMember {S : Sx} (hS0 : Sok S) (v0 : Nat) (h : hH) (Q : hH → Prop) (hk : f_X5_readMember S.E v0 h Q) : Ct S yX5_readMember (ws_ yX5_readMember cX5_readMember 3 none) rmX5_readMember ([aR (some v0)].map vv) h (qV Q) := by
  refine Ct.of hS0 (by decide +kernel) rfl (Nat.le_of_ble_eq_true rfl) fun x hxS F hnm => ?_
  subst hxS
  unfold f_X5_readMember at hk
  exact g_aload_n F dX5_readMember_0 rfl 0 rfl <|
g_aload_n F dX5_readMember_1 rfl 0 rfl <|
g_calli0 (g_V F dX5_readMember_2 q3146 mi_X5_members ct_X5 (rm' := rmX5_members) ⟨Nat.le_of_ble_eq_true rfl, Nat.le_of_ble_eq_true rfl⟩ ⟨Nat.le_refl 0, Nat.le_refl 0⟩ (As := []) (rest := [aR (some v0)]) rfl rfl (Nat.le_of_ble_eq_true rfl) hk (fun a29 hk => m_X5_members F.ok a29 h _ hk)) ⟨rfl, rfl⟩ fun x28 h27 hk =>
g_bipush F dX5_readMember_5 bp_6 <|
g_icmp_ne F dX5_readMember_7 (tgt := 14) rfl (fun hc => have hk := hk.2 hc
g_iconst F dX5_readMember_14 ic_0 <|
s_X5_readMember_j15 F (some v0) (0:Int32) h27 hk ) (fun hc => have hk := hk.1 hc
g_iconst F dX5_readMember_10 ic_1 <|
g_goto F dX5_readMember_11 (tgt := 15) rfl <|
s_X5_readMember_j15 F (some v0) (1:Int32) h27 hk )
abbrev rmX5_readStart : Room := { frames := 6, cells := 0, slots := 0, locals := 124 }
theorem s_X5_readStart_j79 {x : Cx} (F : Fx x cX5_readStart "LockstepRoomModel" 3 none rmX5_readStart) {v0 : Nat} {Q : hH → Prop} {K21 : Int32 → hH → Prop} {K97 : hH → Prop} (l1 : Int32) (h : hH) (hk : f_X5_readStart_j79 x.S.E v0 Q K21 K97 l1 h) (hK21 : ∀ (l1 : Int32) (h : hH), K21 l1 h → G x (xQ x rmX5_readStart (qV Q)) 21 [(0, aR (some v0)), (1, aI l1)] [] h 0 0) (hK97 : ∀ (h : hH), K97 h → G x (xQ x rmX5_readStart (qV Q)) 97 [] [] h 0 0) : G x (xQ x rmX5_readStart (qV Q)) 79 [(0, aR (some v0)), (1, aI l1)] [] h 0 0 := by
  unfold f_X5_readStart_j79 at hk
  exact g_iinc (v := (l1 + (1:Int32))) F dX5_readStart_79 (j := 1) rfl (iinc_1 l1) (Nat.le_of_ble_eq_true rfl) rfl <|
g_aload_n F dX5_readStart_82 rfl 1 rfl <|
g_getI F dX5_readStart_83 fo_X5_19_LockstepRoomModel in_X5 fl_LockstepRoomModel_194_X5 hk fun x1 hk =>
g_if_ne F dX5_readStart_86 (tgt := 97) rfl (fun hc => have hk := hk.2 hc
G.fewer [] rfl <| hK97 h hk) (fun hc => have hk := hk.1 hc
g_aload_n F dX5_readStart_89 rfl 1 rfl <|
g_getI F dX5_readStart_90 fo_X5_17_LockstepRoomModel in_X5 fl_LockstepRoomModel_173_X5 hk fun x2 hk =>
g_iconst F dX5_readStart_93 ic_1 <|
g_icmp_eq F dX5_readStart_94 (tgt := 21) rfl (fun hc => have hk := hk.1 hc
G.fewer [1, 0] rfl <| hK21 (l1 + (1:Int32)) h hk) (fun hc => have hk := hk.2 hc
G.fewer [] rfl <| hK97 h hk))
theorem s_X5_readStart_j51 {x : Cx} (F : Fx x cX5_readStart "LockstepRoomModel" 3 none rmX5_readStart) {v0 : Nat} {Q : hH → Prop} {K21 : Int32 → hH → Prop} {K97 : hH → Prop} (s0 : Option Nat) (s1 : Int32) (l1 : Int32) (h : hH) (hk : f_X5_readStart_j51 x.S.E v0 Q K21 K97 s0 s1 l1 h) (hK21 : ∀ (l1 : Int32) (h : hH), K21 l1 h → G x (xQ x rmX5_readStart (qV Q)) 21 [(0, aR (some v0)), (1, aI l1)] [] h 0 0) (hK97 : ∀ (h : hH), K97 h → G x (xQ x rmX5_readStart (qV Q)) 97 [] [] h 0 0) : G x (xQ x rmX5_readStart (qV Q)) 51 [(0, aR (some v0)), (1, aI l1)] [aI s1, aR s0] h 0 0 := by
  unfold f_X5_readStart_j51 at hk
  exact g_bipush F dX5_readStart_51 bp_m15 <|
g_callv0 (g_V F dX5_readStart_53 q3130 mi_X5_failsIf ct_X5 (rm' := rmX5_failsIf) ⟨Nat.le_of_ble_eq_true rfl, Nat.le_of_ble_eq_true rfl⟩ ⟨Nat.le_refl 0, Nat.le_refl 0⟩ (As := [aI s1, aI (-15:Int32)]) (rest := []) rfl rfl (Nat.le_of_ble_eq_true rfl) hk (fun a4 hk => m_X5_failsIf F.ok a4 s1 (-15:Int32) h _ hk)) ⟨rfl, rfl⟩ fun h3 hk =>
g_aload_n F dX5_readStart_56 rfl 0 rfl <|
g_iconst F dX5_readStart_57 ic_0 <|
g_sipush F dX5_readStart_58 sp_9999 <|
g_calli0 (g_V F dX5_readStart_61 q3138 mi_X5_integer ct_X5 (rm' := rmX5_integer) ⟨Nat.le_of_ble_eq_true rfl, Nat.le_of_ble_eq_true rfl⟩ ⟨Nat.le_refl 0, Nat.le_refl 0⟩ (As := [aI (0:Int32), aI (9999:Int32)]) (rest := []) rfl rfl (Nat.le_of_ble_eq_true rfl) hk (fun a7 hk => m_X5_integer F.ok a7 (0:Int32) (9999:Int32) h3 _ hk)) ⟨rfl, rfl⟩ fun x6 h5 hk =>
g_istore_n F dX5_readStart_64 rfl (Nat.le_of_ble_eq_true rfl) rfl <|
g_aload_n F dX5_readStart_65 rfl 1 rfl <|
g_getI F dX5_readStart_66 fo_X5_19_LockstepRoomModel in_X5 fl_LockstepRoomModel_194_X5 hk fun x8 hk =>
g_if_ne F dX5_readStart_69 (tgt := 79) rfl (fun hc => have hk := hk.2 hc
G.fewer [1, 2] rfl <| s_X5_readStart_j79 F l1 h5 hk hK21 hK97) (fun hc => have hk := hk.1 hc
g_aload_n F dX5_readStart_72 rfl 1 rfl <|
g_getR F dX5_readStart_73 fo_X5_3_LockstepRoomModel in_X5 fl_LockstepRoomModel_13_X5 hk fun x9 hk =>
g_iload_n F dX5_readStart_76 rfl 2 rfl <|
g_iload_n F dX5_readStart_77 rfl 0 rfl <|
g_iast F dX5_readStart_78 hk fun h10 hk =>
G.fewer [1, 2] rfl <| s_X5_readStart_j79 F l1 h10 hk hK21 hK97)
theorem s_X5_readStart_j50 {x : Cx} (F : Fx x cX5_readStart "LockstepRoomModel" 3 none rmX5_readStart) {v0 : Nat} {Q : hH → Prop} {K21 : Int32 → hH → Prop} {K97 : hH → Prop} (s0 : Option Nat) (l1 : Int32) (h : hH) (hk : f_X5_readStart_j50 x.S.E v0 Q K21 K97 s0 l1 h) (hK21 : ∀ (l1 : Int32) (h : hH), K21 l1 h → G x (xQ x rmX5_readStart (qV Q)) 21 [(0, aR (some v0)), (1, aI l1)] [] h 0 0) (hK97 : ∀ (h : hH), K97 h → G x (xQ x rmX5_readStart (qV Q)) 97 [] [] h 0 0) : G x (xQ x rmX5_readStart (qV Q)) 50 [(0, aR (some v0)), (1, aI l1)] [aR s0] h 0 0 := by
  unfold f_X5_readStart_j50 at hk
  exact g_iconst F dX5_readStart_50 ic_0 <|
s_X5_readStart_j51 F s0 (0:Int32) l1 h hk hK21 hK97
theorem s_X5_readStart_l21 {x : Cx} (F : Fx x cX5_readStart "LockstepRoomModel" 3 none rmX5_readStart) {v0 : Nat} {Q : hH → Prop} {K97 : hH → Prop} (n : Nat) (l1 : Int32) (h : hH) (hk : f_X5_readStart_l21 x.S.E v0 Q K97 n l1 h) (hK97 : ∀ (h : hH), K97 h → G x (xQ x rmX5_readStart (qV Q)) 97 [] [] h 0 0) : G x (xQ x rmX5_readStart (qV Q)) 21 [(0, aR (some v0)), (1, aI l1)] [] h 0 0 := by
  induction n generalizing l1 h with
  | zero => exact False.elim hk
  | succ n ih =>
    unfold f_X5_readStart_l21 at hk
    exact g_aload_n F dX5_readStart_21 rfl 0 rfl <|
g_aload_n F dX5_readStart_22 rfl 0 rfl <|
g_getI F dX5_readStart_23 fo_X5_17_LockstepRoomModel in_X5 fl_LockstepRoomModel_173_X5 hk fun x11 hk =>
g_iconst F dX5_readStart_26 ic_1 <|
g_icmp_ne F dX5_readStart_27 (tgt := 50) rfl (fun hc => have hk := hk.2 hc
s_X5_readStart_j50 F (some v0) l1 h hk ih hK97) (fun hc => have hk := hk.1 hc
g_iload_n F dX5_readStart_30 rfl 1 rfl <|
g_bipush F dX5_readStart_31 bp_16 <|
g_icmp_ne F dX5_readStart_33 (tgt := 50) rfl (fun hc => have hk := hk.2 hc
s_X5_readStart_j50 F (some v0) l1 h hk ih hK97) (fun hc => have hk := hk.1 hc
g_aload_n F dX5_readStart_36 rfl 0 rfl <|
g_getI F dX5_readStart_37 fo_X5_18_LockstepRoomModel in_X5 fl_LockstepRoomModel_182_X5 hk fun x12 hk =>
g_sipush F dX5_readStart_40 sp_10000 <|
g_icmp_ge F dX5_readStart_43 (tgt := 50) rfl (fun hc => have hk := hk.1 hc
s_X5_readStart_j50 F (some v0) l1 h hk ih hK97) (fun hc => have hk := hk.2 hc
g_iconst F dX5_readStart_46 ic_1 <|
g_goto F dX5_readStart_47 (tgt := 51) rfl <|
s_X5_readStart_j51 F (some v0) (1:Int32) l1 h hk ih hK97)))
theorem m_X5_readStart {S : Sx} (hS0 : Sok S) (v0 : Nat) (h : hH) (Q : hH → Prop) (hk : f_X5_readStart S.E v0 h Q) : Ct S yX5_readStart (ws_ yX5_readStart cX5_readStart 3 none) rmX5_readStart ([aR (some v0)].map vv) h (qV Q) := by
  refine Ct.of hS0 (by decide +kernel) rfl (Nat.le_of_ble_eq_true rfl) fun x hxS F hnm => ?_
  subst hxS
  unfold f_X5_readStart at hk
  exact g_aload_n F dX5_readStart_0 rfl 0 rfl <|
g_aload_n F dX5_readStart_1 rfl 0 rfl <|
g_getI F dX5_readStart_2 fo_X5_24_LockstepRoomModel in_X5 fl_LockstepRoomModel_216_X5 hk fun x13 hk =>
g_bipush F dX5_readStart_5 bp_m14 <|
g_callv0 (g_V F dX5_readStart_7 q3130 mi_X5_failsIf ct_X5 (rm' := rmX5_failsIf) ⟨Nat.le_of_ble_eq_true rfl, Nat.le_of_ble_eq_true rfl⟩ ⟨Nat.le_refl 0, Nat.le_refl 0⟩ (As := [aI x13, aI (-14:Int32)]) (rest := []) rfl rfl (Nat.le_of_ble_eq_true rfl) hk (fun a15 hk => m_X5_failsIf F.ok a15 x13 (-14:Int32) h _ hk)) ⟨rfl, rfl⟩ fun h14 hk =>
g_aload_n F dX5_readStart_10 rfl 0 rfl <|
g_iconst F dX5_readStart_11 ic_1 <|
g_putV F dX5_readStart_12 fo_X5_24_LockstepRoomModel ck_X5 fl_LockstepRoomModel_216_X5 rfl (v := aI (1:Int32)) ⟨rfl, rfl⟩ hk fun h16 hk =>
g_aload_n F dX5_readStart_15 rfl 0 rfl <|
g_callv0 (g_V F dX5_readStart_16 q3134 mi_X5_goOn ct_X5 (rm' := rmX5_goOn) ⟨Nat.le_of_ble_eq_true rfl, Nat.le_of_ble_eq_true rfl⟩ ⟨Nat.le_refl 0, Nat.le_refl 0⟩ (As := []) (rest := []) rfl rfl (Nat.le_of_ble_eq_true rfl) hk (fun a18 hk => m_X5_goOn F.ok a18 h16 _ hk)) ⟨rfl, rfl⟩ fun h17 hk =>
g_iconst F dX5_readStart_19 ic_0 <|
g_istore_n F dX5_readStart_20 rfl (Nat.le_of_ble_eq_true rfl) rfl <|
G.fewer [1, 0] rfl <| s_X5_readStart_l21 F 1000000 (0:Int32) h17 hk ((fun h hk => g_vret F dX5_readStart_97 (Nat.le_refl 0) (Nat.le_refl 0) hk))
abbrev rmX5_readStatement : Room := { frames := 8, cells := 0, slots := 0, locals := 173 }
theorem s_X5_readStatement_j107 {x : Cx} (F : Fx x cX5_readStatement "LockstepRoomModel" 1 none rmX5_readStatement) {v0 : Nat} {Q : hH → Prop} (s0 : Option Nat) (s1 : Int32) (h : hH) (hk : f_X5_readStatement_j107 x.S.E v0 Q s0 s1 h) : G x (xQ x rmX5_readStatement (qV Q)) 107 [(0, aR (some v0))] [aI s1, aR s0] h 0 0 := by
  unfold f_X5_readStatement_j107 at hk
  exact g_bipush F dX5_readStatement_107 bp_m11 <|
g_callv0 (g_V F dX5_readStatement_109 q3130 mi_X5_failsIf ct_X5 (rm' := rmX5_failsIf) ⟨Nat.le_of_ble_eq_true rfl, Nat.le_of_ble_eq_true rfl⟩ ⟨Nat.le_refl 0, Nat.le_refl 0⟩ (As := [aI s1, aI (-11:Int32)]) (rest := []) rfl rfl (Nat.le_of_ble_eq_true rfl) hk (fun a2 hk => m_X5_failsIf F.ok a2 s1 (-11:Int32) h _ hk)) ⟨rfl, rfl⟩ fun h1 hk =>
g_aload_n F dX5_readStatement_112 rfl 0 rfl <|
g_callv0 (g_V F dX5_readStatement_113 q3134 mi_X5_goOn ct_X5 (rm' := rmX5_goOn) ⟨Nat.le_of_ble_eq_true rfl, Nat.le_of_ble_eq_true rfl⟩ ⟨Nat.le_refl 0, Nat.le_refl 0⟩ (As := []) (rest := []) rfl rfl (Nat.le_of_ble_eq_true rfl) hk (fun a4 hk => m_X5_goOn F.ok a4 h1 _ hk)) ⟨rfl, rfl⟩ fun h3 hk =>
g_aload_n F dX5_readStatement_116 rfl 0 rfl <|
g_dup F dX5_readStatement_117 rfl <|
g_getI F dX5_readStatement_118 fo_X5_22_LockstepRoomModel in_X5 fl_LockstepRoomModel_276_X5 hk fun x5 hk =>
g_iconst F dX5_readStatement_121 ic_1 <|
g_iadd F dX5_readStatement_122 <|
g_putV F dX5_readStatement_123 fo_X5_22_LockstepRoomModel ck_X5 fl_LockstepRoomModel_276_X5 rfl (v := aI (x5 + (1:Int32))) (fit_i (x5 + (1:Int32))) hk fun h6 hk =>
g_vret F dX5_readStatement_126 (Nat.le_refl 0) (Nat.le_refl 0) hk
theorem s_X5_readStatement_j93 {x : Cx} (F : Fx x cX5_readStatement "LockstepRoomModel" 1 none rmX5_readStatement) {v0 : Nat} {Q : hH → Prop} (h : hH) (hk : f_X5_readStatement_j93 x.S.E v0 Q h) : G x (xQ x rmX5_readStatement (qV Q)) 93 [(0, aR (some v0))] [] h 0 0 := by
  unfold f_X5_readStatement_j93 at hk
  exact g_aload_n F dX5_readStatement_93 rfl 0 rfl <|
g_aload_n F dX5_readStatement_94 rfl 0 rfl <|
g_getI F dX5_readStatement_95 fo_X5_17_LockstepRoomModel in_X5 fl_LockstepRoomModel_173_X5 hk fun x7 hk =>
g_iconst F dX5_readStatement_98 ic_2 <|
g_icmp_eq F dX5_readStatement_99 (tgt := 106) rfl (fun hc => have hk := hk.1 hc
g_iconst F dX5_readStatement_106 ic_0 <|
s_X5_readStatement_j107 F (some v0) (0:Int32) h hk ) (fun hc => have hk := hk.2 hc
g_iconst F dX5_readStatement_102 ic_1 <|
g_goto F dX5_readStatement_103 (tgt := 107) rfl <|
s_X5_readStatement_j107 F (some v0) (1:Int32) h hk )
theorem m_X5_readStatement {S : Sx} (hS0 : Sok S) (v0 : Nat) (h : hH) (Q : hH → Prop) (hk : f_X5_readStatement S.E v0 h Q) : Ct S yX5_readStatement (ws_ yX5_readStatement cX5_readStatement 1 none) rmX5_readStatement ([aR (some v0)].map vv) h (qV Q) := by
  refine Ct.of hS0 (by decide +kernel) rfl (Nat.le_of_ble_eq_true rfl) fun x hxS F hnm => ?_
  subst hxS
  unfold f_X5_readStatement at hk
  exact g_aload_n F dX5_readStatement_0 rfl 0 rfl <|
g_ldcSw F dX5_readStatement_1 (sk_37 _) <|
g_calli0 (g_V F dX5_readStatement_4 q3120 mi_X5_wordOf ct_X5 (rm' := rmX5_wordOf) ⟨Nat.le_of_ble_eq_true rfl, Nat.le_of_ble_eq_true rfl⟩ ⟨Nat.le_refl 0, Nat.le_refl 0⟩ (As := [aR (some (x.S.E 37))]) (rest := []) rfl rfl (Nat.le_of_ble_eq_true rfl) hk (fun a10 hk => m_X5_wordOf F.ok a10 (some (x.S.E 37)) h _ hk)) ⟨rfl, rfl⟩ fun x9 h8 hk =>
if hc0 : x9 = (0:Int32) then (have hk := hk.1 hc0
g_tableIn (tgt := 44) (off := 37) F dX5_readStatement_7 (by rw [hc0]; decide) (by rw [hc0]; decide) (by rw [hc0]; rfl) rfl <|
g_aload_n F dX5_readStatement_44 rfl 0 rfl <|
g_callv0 (g_V F dX5_readStatement_45 q3126 mi_X5_readStart ct_X5 (rm' := rmX5_readStart) ⟨Nat.le_of_ble_eq_true rfl, Nat.le_of_ble_eq_true rfl⟩ ⟨Nat.le_refl 0, Nat.le_refl 0⟩ (As := []) (rest := []) rfl rfl (Nat.le_of_ble_eq_true rfl) hk (fun a12 hk => m_X5_readStart F.ok a12 h8 _ hk)) ⟨rfl, rfl⟩ fun h11 hk =>
g_goto F dX5_readStatement_48 (tgt := 93) rfl <|
s_X5_readStatement_j93 F h11 hk ) else have hk := hk.2 hc0
if hc1 : x9 = (1:Int32) then (have hk := hk.1 hc1
g_tableIn (tgt := 51) (off := 44) F dX5_readStatement_7 (by rw [hc1]; decide) (by rw [hc1]; decide) (by rw [hc1]; rfl) rfl <|
g_aload_n F dX5_readStatement_51 rfl 0 rfl <|
g_callv0 (g_V F dX5_readStatement_52 q3142 mi_X5_readMember ct_X5 (rm' := rmX5_readMember) ⟨Nat.le_of_ble_eq_true rfl, Nat.le_of_ble_eq_true rfl⟩ ⟨Nat.le_refl 0, Nat.le_refl 0⟩ (As := []) (rest := []) rfl rfl (Nat.le_of_ble_eq_true rfl) hk (fun a14 hk => m_X5_readMember F.ok a14 h8 _ hk)) ⟨rfl, rfl⟩ fun h13 hk =>
g_goto F dX5_readStatement_55 (tgt := 93) rfl <|
s_X5_readStatement_j93 F h13 hk ) else have hk := hk.2 hc1
if hc2 : x9 = (2:Int32) then (have hk := hk.1 hc2
g_tableIn (tgt := 58) (off := 51) F dX5_readStatement_7 (by rw [hc2]; decide) (by rw [hc2]; decide) (by rw [hc2]; rfl) rfl <|
g_aload_n F dX5_readStatement_58 rfl 0 rfl <|
g_callv0 (g_V F dX5_readStatement_59 q3166 mi_X5_readCommand ct_X5 (rm' := rmX5_readCommand) ⟨Nat.le_of_ble_eq_true rfl, Nat.le_of_ble_eq_true rfl⟩ ⟨Nat.le_refl 0, Nat.le_refl 0⟩ (As := []) (rest := []) rfl rfl (Nat.le_of_ble_eq_true rfl) hk (fun a16 hk => m_X5_readCommand F.ok a16 h8 _ hk)) ⟨rfl, rfl⟩ fun h15 hk =>
g_goto F dX5_readStatement_62 (tgt := 93) rfl <|
s_X5_readStatement_j93 F h15 hk ) else have hk := hk.2 hc2
if hc3 : x9 = (3:Int32) then (have hk := hk.1 hc3
g_tableIn (tgt := 65) (off := 58) F dX5_readStatement_7 (by rw [hc3]; decide) (by rw [hc3]; decide) (by rw [hc3]; rfl) rfl <|
g_aload_n F dX5_readStatement_65 rfl 0 rfl <|
g_callv0 (g_V F dX5_readStatement_66 q3179 mi_X5_readSeal ct_X5 (rm' := rmX5_readSeal) ⟨Nat.le_of_ble_eq_true rfl, Nat.le_of_ble_eq_true rfl⟩ ⟨Nat.le_refl 0, Nat.le_refl 0⟩ (As := []) (rest := []) rfl rfl (Nat.le_of_ble_eq_true rfl) hk (fun a18 hk => m_X5_readSeal F.ok a18 h8 _ hk)) ⟨rfl, rfl⟩ fun h17 hk =>
g_goto F dX5_readStatement_69 (tgt := 93) rfl <|
s_X5_readStatement_j93 F h17 hk ) else have hk := hk.2 hc3
if hc4 : x9 = (4:Int32) then (have hk := hk.1 hc4
g_tableIn (tgt := 72) (off := 65) F dX5_readStatement_7 (by rw [hc4]; decide) (by rw [hc4]; decide) (by rw [hc4]; rfl) rfl <|
g_aload_n F dX5_readStatement_72 rfl 0 rfl <|
g_callv0 (g_V F dX5_readStatement_73 q3187 mi_X5_readFault ct_X5 (rm' := rmX5_readFault) ⟨Nat.le_of_ble_eq_true rfl, Nat.le_of_ble_eq_true rfl⟩ ⟨Nat.le_refl 0, Nat.le_refl 0⟩ (As := []) (rest := []) rfl rfl (Nat.le_of_ble_eq_true rfl) hk (fun a20 hk => m_X5_readFault F.ok a20 h8 _ hk)) ⟨rfl, rfl⟩ fun h19 hk =>
g_goto F dX5_readStatement_76 (tgt := 93) rfl <|
s_X5_readStatement_j93 F h19 hk ) else have hk := hk.2 hc4
if hc5 : x9 = (5:Int32) then (have hk := hk.1 hc5
g_tableIn (tgt := 79) (off := 72) F dX5_readStatement_7 (by rw [hc5]; decide) (by rw [hc5]; decide) (by rw [hc5]; rfl) rfl <|
g_aload_n F dX5_readStatement_79 rfl 0 rfl <|
g_callv0 (g_V F dX5_readStatement_80 q3195 mi_X5_readSetting ct_X5 (rm' := rmX5_readSetting) ⟨Nat.le_of_ble_eq_true rfl, Nat.le_of_ble_eq_true rfl⟩ ⟨Nat.le_refl 0, Nat.le_refl 0⟩ (As := []) (rest := []) rfl rfl (Nat.le_of_ble_eq_true rfl) hk (fun a22 hk => m_X5_readSetting F.ok a22 h8 _ hk)) ⟨rfl, rfl⟩ fun h21 hk =>
g_goto F dX5_readStatement_83 (tgt := 93) rfl <|
s_X5_readStatement_j93 F h21 hk ) else have hk := hk.2 hc5
g_tableOut (tgt := 86) F dX5_readStatement_7 (sw_out_0_1_2_3_4_5 hc0 hc1 hc2 hc3 hc4 hc5) rfl <|
g_aload_n F dX5_readStatement_86 rfl 0 rfl <|
g_iconst F dX5_readStatement_87 ic_1 <|
g_bipush F dX5_readStatement_88 bp_m11 <|
g_callv0 (g_V F dX5_readStatement_90 q3130 mi_X5_failsIf ct_X5 (rm' := rmX5_failsIf) ⟨Nat.le_of_ble_eq_true rfl, Nat.le_of_ble_eq_true rfl⟩ ⟨Nat.le_refl 0, Nat.le_refl 0⟩ (As := [aI (1:Int32), aI (-11:Int32)]) (rest := []) rfl rfl (Nat.le_of_ble_eq_true rfl) hk (fun a24 hk => m_X5_failsIf F.ok a24 (1:Int32) (-11:Int32) h8 _ hk)) ⟨rfl, rfl⟩ fun h23 hk =>
s_X5_readStatement_j93 F h23 hk 
abbrev rmX5_of : Room := { frames := 2, cells := 0, slots := 0, locals := 40 }
theorem m_X5_of {S : Sx} (hS0 : Sok S) (v0 : Nat) (v1 : Int32) (v2 : Int32) (h : hH) (Q : Int32 → hH → Prop) (hk : f_X5_of S.E v0 v1 v2 h Q) : Ct S yX5_of (ws_ yX5_of cX5_of 3 (some .int)) rmX5_of ([aR (some v0), aI v1, aI v2].map vv) h (qI Q) := by
  refine Ct.of hS0 (by decide +kernel) rfl (Nat.le_of_ble_eq_true rfl) fun x hxS F hnm => ?_
  subst hxS
  unfold f_X5_of at hk
  exact g_aload_n F dX5_of_0 rfl 0 rfl <|
g_getR F dX5_of_1 fo_X5_5_LockstepRoomModel in_X5 fl_LockstepRoomModel_19_X5 hk fun x1 hk =>
g_iconst F dX5_of_4 ic_3 <|
g_bipush F dX5_of_5 bp_64 <|
g_iload_n F dX5_of_7 rfl 1 rfl <|
g_imul F dX5_of_8 <|
g_iadd F dX5_of_9 <|
g_iload_n F dX5_of_10 rfl 2 rfl <|
g_iadd F dX5_of_11 <|
g_iald F dX5_of_12 hk fun x2 hk =>
g_iret F dX5_of_13 (Nat.le_refl 0) (Nat.le_refl 0) hk
abbrev rmX5_turnsDone : Room := { frames := 3, cells := 0, slots := 0, locals := 62 }
theorem m_X5_turnsDone {S : Sx} (hS0 : Sok S) (v0 : Nat) (v1 : Int32) (h : hH) (Q : Int32 → hH → Prop) (hk : f_X5_turnsDone S.E v0 v1 h Q) : Ct S yX5_turnsDone (ws_ yX5_turnsDone cX5_turnsDone 2 (some .int)) rmX5_turnsDone ([aR (some v0), aI v1].map vv) h (qI Q) := by
  refine Ct.of hS0 (by decide +kernel) rfl (Nat.le_of_ble_eq_true rfl) fun x hxS F hnm => ?_
  subst hxS
  unfold f_X5_turnsDone at hk
  exact g_aload_n F dX5_turnsDone_0 rfl 0 rfl <|
g_iload_n F dX5_turnsDone_1 rfl 1 rfl <|
g_iconst F dX5_turnsDone_2 ic_1 <|
g_calli0 (g_V F dX5_turnsDone_3 q3214 mi_X5_of ct_X5 (rm' := rmX5_of) ⟨Nat.le_of_ble_eq_true rfl, Nat.le_of_ble_eq_true rfl⟩ ⟨Nat.le_refl 0, Nat.le_refl 0⟩ (As := [aI v1, aI (1:Int32)]) (rest := []) rfl rfl (Nat.le_of_ble_eq_true rfl) hk (fun a3 hk => m_X5_of F.ok a3 v1 (1:Int32) h _ hk)) ⟨rfl, rfl⟩ fun x2 h1 hk =>
g_iret F dX5_turnsDone_6 (Nat.le_refl 0) (Nat.le_refl 0) hk
abbrev rmX5_takesCells : Room := { frames := 3, cells := 0, slots := 0, locals := 62 }
theorem s_X5_takesCells_l2 {x : Cx} (F : Fx x cX5_takesCells "LockstepRoomModel" 3 none rmX5_takesCells) {v0 : Nat} {Q : hH → Prop} {K29 : hH → Prop} (n : Nat) (l1 : Int32) (l2 : Int32) (h : hH) (hk : f_X5_takesCells_l2 x.S.E v0 Q K29 n l1 l2 h) (hK29 : ∀ (h : hH), K29 h → G x (xQ x rmX5_takesCells (qV Q)) 29 [] [] h 0 0) : G x (xQ x rmX5_takesCells (qV Q)) 2 [(0, aR (some v0)), (1, aI l1), (2, aI l2)] [] h 0 0 := by
  induction n generalizing l1 l2 h with
  | zero => exact False.elim hk
  | succ n ih =>
    unfold f_X5_takesCells_l2 at hk
    exact g_iload_n F dX5_takesCells_2 rfl 2 rfl <|
g_bipush F dX5_takesCells_3 bp_16 <|
g_icmp_ge F dX5_takesCells_5 (tgt := 29) rfl (fun hc => have hk := hk.1 hc
G.fewer [] rfl <| hK29 h hk) (fun hc => have hk := hk.2 hc
g_aload_n F dX5_takesCells_8 rfl 0 rfl <|
g_getR F dX5_takesCells_9 fo_X5_9_LockstepRoomModel in_X5 fl_LockstepRoomModel_28_X5 hk fun x1 hk =>
g_iload_n F dX5_takesCells_12 rfl 2 rfl <|
g_aload_n F dX5_takesCells_13 rfl 0 rfl <|
g_iload_n F dX5_takesCells_14 rfl 1 rfl <|
g_bipush F dX5_takesCells_15 bp_7 <|
g_iload_n F dX5_takesCells_17 rfl 2 rfl <|
g_iadd F dX5_takesCells_18 <|
g_calli0 (g_V F dX5_takesCells_19 q3214 mi_X5_of ct_X5 (rm' := rmX5_of) ⟨Nat.le_of_ble_eq_true rfl, Nat.le_of_ble_eq_true rfl⟩ ⟨Nat.le_refl 0, Nat.le_refl 0⟩ (As := [aI l1, aI ((7:Int32) + l2)]) (rest := [aI l2, aR x1]) rfl rfl (Nat.le_of_ble_eq_true rfl) hk (fun a4 hk => m_X5_of F.ok a4 l1 ((7:Int32) + l2) h _ hk)) ⟨rfl, rfl⟩ fun x3 h2 hk =>
g_iast F dX5_takesCells_22 hk fun h5 hk =>
g_iinc (v := (l2 + (1:Int32))) F dX5_takesCells_23 (j := 2) rfl (iinc_1 l2) (Nat.le_of_ble_eq_true rfl) rfl <|
g_goto F dX5_takesCells_26 (tgt := 2) rfl <|
G.fewer [1, 2, 0] rfl <| ih l1 (l2 + (1:Int32)) h5 hk)
theorem m_X5_takesCells {S : Sx} (hS0 : Sok S) (v0 : Nat) (v1 : Int32) (h : hH) (Q : hH → Prop) (hk : f_X5_takesCells S.E v0 v1 h Q) : Ct S yX5_takesCells (ws_ yX5_takesCells cX5_takesCells 3 none) rmX5_takesCells ([aR (some v0), aI v1].map vv) h (qV Q) := by
  refine Ct.of hS0 (by decide +kernel) rfl (Nat.le_of_ble_eq_true rfl) fun x hxS F hnm => ?_
  subst hxS
  unfold f_X5_takesCells at hk
  exact g_iconst F dX5_takesCells_0 ic_0 <|
g_istore_n F dX5_takesCells_1 rfl (Nat.le_of_ble_eq_true rfl) rfl <|
G.fewer [1, 2, 0] rfl <| s_X5_takesCells_l2 F 1000000 v1 (0:Int32) h hk ((fun h hk => g_vret F dX5_takesCells_29 (Nat.le_refl 0) (Nat.le_refl 0) hk))
abbrev rmX5_laysTree : Room := { frames := 2, cells := 0, slots := 0, locals := 40 }
theorem s_X5_laysTree_l40 {x : Cx} (F : Fx x cX5_laysTree "LockstepRoomModel" 3 none rmX5_laysTree) {v0 : Nat} {Q : hH → Prop} {K89 : hH → Prop} (n : Nat) (l1 : Option Nat) (l2 : Int32) (h : hH) (hk : f_X5_laysTree_l40 x.S.E v0 Q K89 n l1 l2 h) (hK89 : ∀ (h : hH), K89 h → G x (xQ x rmX5_laysTree (qV Q)) 89 [] [] h 0 0) : G x (xQ x rmX5_laysTree (qV Q)) 40 [(1, aR l1), (2, aI l2)] [] h 0 0 := by
  induction n generalizing l1 l2 h with
  | zero => exact False.elim hk
  | succ n ih =>
    unfold f_X5_laysTree_l40 at hk
    exact g_iload_n F dX5_laysTree_40 rfl 1 rfl <|
g_if_le F dX5_laysTree_41 (tgt := 89) rfl (fun hc => have hk := hk.1 hc
G.fewer [] rfl <| hK89 h hk) (fun hc => have hk := hk.2 hc
g_aload_n F dX5_laysTree_44 rfl 0 rfl <|
g_iload_n F dX5_laysTree_45 rfl 1 rfl <|
g_ldc2 F dX5_laysTree_46 q3231 <|
g_aload_n F dX5_laysTree_49 rfl 0 rfl <|
g_iconst F dX5_laysTree_50 ic_2 <|
g_iload_n F dX5_laysTree_51 rfl 1 rfl <|
g_imul F dX5_laysTree_52 <|
g_iald F dX5_laysTree_53 hk fun x1 hk =>
g_i2l F dX5_laysTree_54 <|
g_lmul F dX5_laysTree_55 <|
g_ldc2 F dX5_laysTree_56 q3232 <|
g_iconst F dX5_laysTree_59 ic_2 <|
g_iload_n F dX5_laysTree_60 rfl 1 rfl <|
g_imul F dX5_laysTree_61 <|
g_i2l F dX5_laysTree_62 <|
g_ladd F dX5_laysTree_63 <|
g_aload_n F dX5_laysTree_64 rfl 0 rfl <|
g_iconst F dX5_laysTree_65 ic_2 <|
g_iload_n F dX5_laysTree_66 rfl 1 rfl <|
g_imul F dX5_laysTree_67 <|
g_iconst F dX5_laysTree_68 ic_1 <|
g_iadd F dX5_laysTree_69 <|
g_iald F dX5_laysTree_70 hk fun x2 hk =>
g_i2l F dX5_laysTree_71 <|
g_lmul F dX5_laysTree_72 <|
g_ladd F dX5_laysTree_73 <|
g_iload_n F dX5_laysTree_74 rfl 1 rfl <|
g_i2l F dX5_laysTree_75 <|
g_ladd F dX5_laysTree_76 <|
g_ldc2 F dX5_laysTree_77 q3233 <|
g_lrem F dX5_laysTree_80 nz_2147483647_Int64 <|
g_l2i F dX5_laysTree_81 <|
g_iast F dX5_laysTree_82 hk fun h3 hk =>
g_iinc (v := (l2 + (-1:Int32))) F dX5_laysTree_83 (j := 1) rfl (iinc_m1 l2) (Nat.le_of_ble_eq_true rfl) rfl <|
g_goto F dX5_laysTree_86 (tgt := 40) rfl <|
G.fewer [1, 0] rfl <| ih l1 (l2 + (-1:Int32)) h3 hk)
theorem s_X5_laysTree_l2 {x : Cx} (F : Fx x cX5_laysTree "LockstepRoomModel" 3 none rmX5_laysTree) {v0 : Nat} {Q : hH → Prop} {K37 : Option Nat → hH → Prop} (n : Nat) (l1 : Option Nat) (l2 : Int32) (h : hH) (hk : f_X5_laysTree_l2 x.S.E v0 Q K37 n l1 l2 h) (hK37 : ∀ (l1 : Option Nat) (h : hH), K37 l1 h → G x (xQ x rmX5_laysTree (qV Q)) 37 [(1, aR l1)] [] h 0 0) : G x (xQ x rmX5_laysTree (qV Q)) 2 [(0, aR (some v0)), (1, aR l1), (2, aI l2)] [] h 0 0 := by
  induction n generalizing l1 l2 h with
  | zero => exact False.elim hk
  | succ n ih =>
    unfold f_X5_laysTree_l2 at hk
    exact g_iload_n F dX5_laysTree_2 rfl 2 rfl <|
g_bipush F dX5_laysTree_3 bp_16 <|
g_icmp_ge F dX5_laysTree_5 (tgt := 37) rfl (fun hc => have hk := hk.1 hc
G.fewer [1] rfl <| hK37 l1 h hk) (fun hc => have hk := hk.2 hc
g_aload_n F dX5_laysTree_8 rfl 1 rfl <|
g_bipush F dX5_laysTree_9 bp_16 <|
g_iload_n F dX5_laysTree_11 rfl 2 rfl <|
g_iadd F dX5_laysTree_12 <|
g_ldc F dX5_laysTree_13 q3230 <|
g_aload_n F dX5_laysTree_15 rfl 0 rfl <|
g_getR F dX5_laysTree_16 fo_X5_9_LockstepRoomModel in_X5 fl_LockstepRoomModel_28_X5 hk fun x4 hk =>
g_iload_n F dX5_laysTree_19 rfl 2 rfl <|
g_iald F dX5_laysTree_20 hk fun x5 hk =>
g_imul F dX5_laysTree_21 <|
g_sipush F dX5_laysTree_22 sp_977 <|
g_iload_n F dX5_laysTree_25 rfl 2 rfl <|
g_imul F dX5_laysTree_26 <|
g_iadd F dX5_laysTree_27 <|
g_iconst F dX5_laysTree_28 ic_1 <|
g_iadd F dX5_laysTree_29 <|
g_iast F dX5_laysTree_30 hk fun h6 hk =>
g_iinc (v := (l2 + (1:Int32))) F dX5_laysTree_31 (j := 2) rfl (iinc_1 l2) (Nat.le_of_ble_eq_true rfl) rfl <|
g_goto F dX5_laysTree_34 (tgt := 2) rfl <|
G.fewer [1, 2, 0] rfl <| ih l1 (l2 + (1:Int32)) h6 hk)
theorem m_X5_laysTree {S : Sx} (hS0 : Sok S) (v0 : Nat) (v1 : Option Nat) (h : hH) (Q : hH → Prop) (hk : f_X5_laysTree S.E v0 v1 h Q) : Ct S yX5_laysTree (ws_ yX5_laysTree cX5_laysTree 3 none) rmX5_laysTree ([aR (some v0), aR v1].map vv) h (qV Q) := by
  refine Ct.of hS0 (by decide +kernel) rfl (Nat.le_of_ble_eq_true rfl) fun x hxS F hnm => ?_
  subst hxS
  unfold f_X5_laysTree at hk
  exact g_iconst F dX5_laysTree_0 ic_0 <|
g_istore_n F dX5_laysTree_1 rfl (Nat.le_of_ble_eq_true rfl) rfl <|
G.fewer [1, 2, 0] rfl <| s_X5_laysTree_l2 F 1000000 v1 (0:Int32) h hk ((fun l1 h hk => g_bipush F dX5_laysTree_37 bp_15 <|
g_istore_n F dX5_laysTree_39 rfl (Nat.le_of_ble_eq_true rfl) rfl <|
G.fewer [1, 0] rfl <| s_X5_laysTree_l40 F 1000000 l1 (15:Int32) h hk ((fun h hk => g_vret F dX5_laysTree_89 (Nat.le_refl 0) (Nat.le_refl 0) hk))))
abbrev rmX5_rootOf : Room := { frames := 4, cells := 0, slots := 0, locals := 84 }
theorem m_X5_rootOf {S : Sx} (hS0 : Sok S) (v0 : Nat) (v1 : Int32) (h : hH) (Q : Int32 → hH → Prop) (hk : f_X5_rootOf S.E v0 v1 h Q) : Ct S yX5_rootOf (ws_ yX5_rootOf cX5_rootOf 2 (some .int)) rmX5_rootOf ([aR (some v0), aI v1].map vv) h (qI Q) := by
  refine Ct.of hS0 (by decide +kernel) rfl (Nat.le_of_ble_eq_true rfl) fun x hxS F hnm => ?_
  subst hxS
  unfold f_X5_rootOf at hk
  exact g_aload_n F dX5_rootOf_0 rfl 0 rfl <|
g_iload_n F dX5_rootOf_1 rfl 1 rfl <|
g_callv0 (g_V F dX5_rootOf_2 q3222 mi_X5_takesCells ct_X5 (rm' := rmX5_takesCells) ⟨Nat.le_of_ble_eq_true rfl, Nat.le_of_ble_eq_true rfl⟩ ⟨Nat.le_refl 0, Nat.le_refl 0⟩ (As := [aI v1]) (rest := []) rfl rfl (Nat.le_of_ble_eq_true rfl) hk (fun a2 hk => m_X5_takesCells F.ok a2 v1 h _ hk)) ⟨rfl, rfl⟩ fun h1 hk =>
g_aload_n F dX5_rootOf_5 rfl 0 rfl <|
g_aload_n F dX5_rootOf_6 rfl 0 rfl <|
g_getR F dX5_rootOf_7 fo_X5_10_LockstepRoomModel in_X5 fl_LockstepRoomModel_31_X5 hk fun x3 hk =>
g_callv0 (g_V F dX5_rootOf_10 q3226 mi_X5_laysTree ct_X5 (rm' := rmX5_laysTree) ⟨Nat.le_of_ble_eq_true rfl, Nat.le_of_ble_eq_true rfl⟩ ⟨Nat.le_refl 0, Nat.le_refl 0⟩ (As := [aR x3]) (rest := []) rfl rfl (Nat.le_of_ble_eq_true rfl) hk (fun a5 hk => m_X5_laysTree F.ok a5 x3 h1 _ hk)) ⟨rfl, rfl⟩ fun h4 hk =>
g_aload_n F dX5_rootOf_13 rfl 0 rfl <|
g_getR F dX5_rootOf_14 fo_X5_10_LockstepRoomModel in_X5 fl_LockstepRoomModel_31_X5 hk fun x6 hk =>
g_iconst F dX5_rootOf_17 ic_1 <|
g_iald F dX5_rootOf_18 hk fun x7 hk =>
g_iret F dX5_rootOf_19 (Nat.le_refl 0) (Nat.le_refl 0) hk
abbrev rmX5_writesRecord : Room := { frames := 5, cells := 0, slots := 0, locals := 105 }
theorem m_X5_writesRecord {S : Sx} (hS0 : Sok S) (v0 : Nat) (v1 : Int32) (h : hH) (Q : hH → Prop) (hk : f_X5_writesRecord S.E v0 v1 h Q) : Ct S yX5_writesRecord (ws_ yX5_writesRecord cX5_writesRecord 2 none) rmX5_writesRecord ([aR (some v0), aI v1].map vv) h (qV Q) := by
  refine Ct.of hS0 (by decide +kernel) rfl (Nat.le_of_ble_eq_true rfl) fun x hxS F hnm => ?_
  subst hxS
  unfold f_X5_writesRecord at hk
  exact g_aload_n F dX5_writesRecord_0 rfl 0 rfl <|
g_iload_n F dX5_writesRecord_1 rfl 1 rfl <|
g_bipush F dX5_writesRecord_2 bp_23 <|
g_aload_n F dX5_writesRecord_4 rfl 0 rfl <|
g_iload_n F dX5_writesRecord_5 rfl 1 rfl <|
g_calli0 (g_V F dX5_writesRecord_6 q3210 mi_X5_turnsDone ct_X5 (rm' := rmX5_turnsDone) ⟨Nat.le_of_ble_eq_true rfl, Nat.le_of_ble_eq_true rfl⟩ ⟨Nat.le_refl 0, Nat.le_refl 0⟩ (As := [aI v1]) (rest := [aI (23:Int32), aI v1, aR (some v0)]) rfl rfl (Nat.le_of_ble_eq_true rfl) hk (fun a3 hk => m_X5_turnsDone F.ok a3 v1 h _ hk)) ⟨rfl, rfl⟩ fun x2 h1 hk =>
g_iadd F dX5_writesRecord_9 <|
g_aload_n F dX5_writesRecord_10 rfl 0 rfl <|
g_iload_n F dX5_writesRecord_11 rfl 1 rfl <|
g_calli0 (g_V F dX5_writesRecord_12 q3218 mi_X5_rootOf ct_X5 (rm' := rmX5_rootOf) ⟨Nat.le_of_ble_eq_true rfl, Nat.le_of_ble_eq_true rfl⟩ ⟨Nat.le_refl 0, Nat.le_refl 0⟩ (As := [aI v1]) (rest := [aI ((23:Int32) + x2), aI v1, aR (some v0)]) rfl rfl (Nat.le_of_ble_eq_true rfl) hk (fun a6 hk => m_X5_rootOf F.ok a6 v1 h1 _ hk)) ⟨rfl, rfl⟩ fun x5 h4 hk =>
g_callv0 (g_V F dX5_writesRecord_15 q3162 mi_X5_sets ct_X5 (rm' := rmX5_sets) ⟨Nat.le_of_ble_eq_true rfl, Nat.le_of_ble_eq_true rfl⟩ ⟨Nat.le_refl 0, Nat.le_refl 0⟩ (As := [aI v1, aI ((23:Int32) + x2), aI x5]) (rest := []) rfl rfl (Nat.le_of_ble_eq_true rfl) hk (fun a8 hk => m_X5_sets F.ok a8 v1 ((23:Int32) + x2) x5 h4 _ hk)) ⟨rfl, rfl⟩ fun h7 hk =>
g_vret F dX5_writesRecord_18 (Nat.le_refl 0) (Nat.le_refl 0) hk
abbrev rmX5_load : Room := { frames := 9, cells := 0, slots := 0, locals := 193 }
theorem s_X5_load_l172 {x : Cx} (F : Fx x cX5_load "LockstepRoomModel" 4 (some .int) rmX5_load) {v0 : Nat} {Q : Int32 → hH → Prop} {K199 : Int32 → hH → Prop} (n : Nat) (l2 : Int32) (l3 : Int32) (h : hH) (hk : f_X5_load_l172 x.S.E v0 Q K199 n l2 l3 h) (hK199 : ∀ (l2 : Int32) (h : hH), K199 l2 h → G x (xQ x rmX5_load (qI Q)) 199 [(0, aR (some v0)), (2, aI l2)] [] h 0 0) : G x (xQ x rmX5_load (qI Q)) 172 [(0, aR (some v0)), (2, aI l2), (3, aI l3)] [] h 0 0 := by
  induction n generalizing l2 l3 h with
  | zero => exact False.elim hk
  | succ n ih =>
    unfold f_X5_load_l172 at hk
    exact g_iload_n F dX5_load_172 rfl 2 rfl <|
g_bipush F dX5_load_173 bp_16 <|
g_icmp_ge F dX5_load_175 (tgt := 199) rfl (fun hc => have hk := hk.1 hc
G.fewer [0, 1] rfl <| hK199 l2 h hk) (fun hc => have hk := hk.2 hc
g_aload_n F dX5_load_178 rfl 0 rfl <|
g_iload_n F dX5_load_179 rfl 1 rfl <|
g_bipush F dX5_load_180 bp_7 <|
g_iload_n F dX5_load_182 rfl 2 rfl <|
g_iadd F dX5_load_183 <|
g_aload_n F dX5_load_184 rfl 0 rfl <|
g_getR F dX5_load_185 fo_X5_3_LockstepRoomModel in_X5 fl_LockstepRoomModel_13_X5 hk fun x1 hk =>
g_iload_n F dX5_load_188 rfl 2 rfl <|
g_iald F dX5_load_189 hk fun x2 hk =>
g_callv0 (g_V F dX5_load_190 q3162 mi_X5_sets ct_X5 (rm' := rmX5_sets) ⟨Nat.le_of_ble_eq_true rfl, Nat.le_of_ble_eq_true rfl⟩ ⟨Nat.le_refl 0, Nat.le_refl 0⟩ (As := [aI l2, aI ((7:Int32) + l3), aI x2]) (rest := []) rfl rfl (Nat.le_of_ble_eq_true rfl) hk (fun a4 hk => m_X5_sets F.ok a4 l2 ((7:Int32) + l3) x2 h _ hk)) ⟨rfl, rfl⟩ fun h3 hk =>
g_iinc (v := (l3 + (1:Int32))) F dX5_load_193 (j := 2) rfl (iinc_1 l3) (Nat.le_of_ble_eq_true rfl) rfl <|
g_goto F dX5_load_196 (tgt := 172) rfl <|
G.fewer [1, 2, 0] rfl <| ih l2 (l3 + (1:Int32)) h3 hk)
theorem s_X5_load_l162 {x : Cx} (F : Fx x cX5_load "LockstepRoomModel" 4 (some .int) rmX5_load) {v0 : Nat} {Q : Int32 → hH → Prop} {K210 : hH → Prop} (n : Nat) (l2 : Int32) (h : hH) (hk : f_X5_load_l162 x.S.E v0 Q K210 n l2 h) (hK210 : ∀ (h : hH), K210 h → G x (xQ x rmX5_load (qI Q)) 210 [(0, aR (some v0))] [] h 0 0) : G x (xQ x rmX5_load (qI Q)) 162 [(0, aR (some v0)), (2, aI l2)] [] h 0 0 := by
  induction n generalizing l2 h with
  | zero => exact False.elim hk
  | succ n ih =>
    unfold f_X5_load_l162 at hk
    exact g_iload_n F dX5_load_162 rfl 1 rfl <|
g_aload_n F dX5_load_163 rfl 0 rfl <|
g_calli0 (g_V F dX5_load_164 q3146 mi_X5_members ct_X5 (rm' := rmX5_members) ⟨Nat.le_of_ble_eq_true rfl, Nat.le_of_ble_eq_true rfl⟩ ⟨Nat.le_refl 0, Nat.le_refl 0⟩ (As := []) (rest := [aI l2]) rfl rfl (Nat.le_of_ble_eq_true rfl) hk (fun a7 hk => m_X5_members F.ok a7 h _ hk)) ⟨rfl, rfl⟩ fun x6 h5 hk =>
g_icmp_ge F dX5_load_167 (tgt := 210) rfl (fun hc => have hk := hk.1 hc
G.fewer [0] rfl <| hK210 h5 hk) (fun hc => have hk := hk.2 hc
g_iconst F dX5_load_170 ic_0 <|
g_istore_n F dX5_load_171 rfl (Nat.le_of_ble_eq_true rfl) rfl <|
G.fewer [1, 2, 0] rfl <| s_X5_load_l172 F 1000000 l2 (0:Int32) h5 hk ((fun l2 h hk => g_aload_n F dX5_load_199 rfl 0 rfl <|
g_iload_n F dX5_load_200 rfl 1 rfl <|
g_callv0 (g_V F dX5_load_201 q3206 mi_X5_writesRecord ct_X5 (rm' := rmX5_writesRecord) ⟨Nat.le_of_ble_eq_true rfl, Nat.le_of_ble_eq_true rfl⟩ ⟨Nat.le_refl 0, Nat.le_refl 0⟩ (As := [aI l2]) (rest := []) rfl rfl (Nat.le_of_ble_eq_true rfl) hk (fun a9 hk => m_X5_writesRecord F.ok a9 l2 h _ hk)) ⟨rfl, rfl⟩ fun h8 hk =>
g_iinc (v := (l2 + (1:Int32))) F dX5_load_204 (j := 1) rfl (iinc_1 l2) (Nat.le_of_ble_eq_true rfl) rfl <|
g_goto F dX5_load_207 (tgt := 162) rfl <|
G.fewer [1, 0] rfl <| ih (l2 + (1:Int32)) h8 hk)))
theorem s_X5_load_l80 {x : Cx} (F : Fx x cX5_load "LockstepRoomModel" 4 (some .int) rmX5_load) {v0 : Nat} {Q : Int32 → hH → Prop} {K102 : hH → Prop} (n : Nat) (h : hH) (hk : f_X5_load_l80 x.S.E v0 Q K102 n h) (hK102 : ∀ (h : hH), K102 h → G x (xQ x rmX5_load (qI Q)) 102 [(0, aR (some v0))] [] h 0 0) : G x (xQ x rmX5_load (qI Q)) 80 [(0, aR (some v0))] [] h 0 0 := by
  induction n generalizing h with
  | zero => exact False.elim hk
  | succ n ih =>
    unfold f_X5_load_l80 at hk
    exact g_aload_n F dX5_load_80 rfl 0 rfl <|
g_getI F dX5_load_81 fo_X5_19_LockstepRoomModel in_X5 fl_LockstepRoomModel_194_X5 hk fun x10 hk =>
g_if_ne F dX5_load_84 (tgt := 102) rfl (fun hc => have hk := hk.2 hc
hK102 h hk) (fun hc => have hk := hk.1 hc
g_aload_n F dX5_load_87 rfl 0 rfl <|
g_getI F dX5_load_88 fo_X5_17_LockstepRoomModel in_X5 fl_LockstepRoomModel_173_X5 hk fun x11 hk =>
g_iconst F dX5_load_91 ic_3 <|
g_icmp_eq F dX5_load_92 (tgt := 102) rfl (fun hc => have hk := hk.1 hc
hK102 h hk) (fun hc => have hk := hk.2 hc
g_aload_n F dX5_load_95 rfl 0 rfl <|
g_callv0 (g_V F dX5_load_96 q3115 mi_X5_readStatement ct_X5 (rm' := rmX5_readStatement) ⟨Nat.le_of_ble_eq_true rfl, Nat.le_of_ble_eq_true rfl⟩ ⟨Nat.le_refl 0, Nat.le_refl 0⟩ (As := []) (rest := []) rfl rfl (Nat.le_of_ble_eq_true rfl) hk (fun a13 hk => m_X5_readStatement F.ok a13 h _ hk)) ⟨rfl, rfl⟩ fun h12 hk =>
g_goto F dX5_load_99 (tgt := 80) rfl <|
ih h12 hk))
theorem s_X5_load_j123 {x : Cx} (F : Fx x cX5_load "LockstepRoomModel" 4 (some .int) rmX5_load) {v0 : Nat} {Q : Int32 → hH → Prop} (s0 : Option Nat) (s1 : Int32) (h : hH) (hk : f_X5_load_j123 x.S.E v0 Q s0 s1 h) : G x (xQ x rmX5_load (qI Q)) 123 [(0, aR (some v0))] [aI s1, aR s0] h 0 0 := by
  unfold f_X5_load_j123 at hk
  exact g_putV F dX5_load_123 fo_X5_21_LockstepRoomModel ck_X5 fl_LockstepRoomModel_37_X5 rfl (v := aI s1) (fit_i s1) hk fun h14 hk =>
g_aload_n F dX5_load_126 rfl 0 rfl <|
g_getI F dX5_load_127 fo_X5_19_LockstepRoomModel in_X5 fl_LockstepRoomModel_194_X5 hk fun x15 hk =>
g_if_eq F dX5_load_130 (tgt := 160) rfl (fun hc => have hk := hk.1 hc
g_iconst F dX5_load_160 ic_0 <|
g_istore_n F dX5_load_161 rfl (Nat.le_of_ble_eq_true rfl) rfl <|
G.fewer [1, 0] rfl <| s_X5_load_l162 F 1000000 (0:Int32) h14 hk ((fun h hk => g_aload_n F dX5_load_210 rfl 0 rfl <|
g_iconst F dX5_load_211 ic_0 <|
g_putV F dX5_load_212 fo_X5_8_LockstepRoomModel ck_X5 fl_LockstepRoomModel_286_X5 rfl (v := aI (0:Int32)) (fit_i (0:Int32)) hk fun h16 hk =>
g_aload_n F dX5_load_215 rfl 0 rfl <|
g_getI F dX5_load_216 fo_X5_22_LockstepRoomModel in_X5 fl_LockstepRoomModel_276_X5 hk fun x17 hk =>
g_iret F dX5_load_219 (Nat.le_refl 0) (Nat.le_refl 0) hk))) (fun hc => have hk := hk.2 hc
g_aload_n F dX5_load_133 rfl 0 rfl <|
g_getR F dX5_load_134 fo_X5_4_LockstepRoomModel in_X5 fl_LockstepRoomModel_16_X5 hk fun x18 hk =>
g_aload_n F dX5_load_137 rfl 0 rfl <|
g_getR F dX5_load_138 fo_X5_3_LockstepRoomModel in_X5 fl_LockstepRoomModel_13_X5 hk fun x19 hk =>
g_callv0 (g_S F dX5_load_141 q3097 ms_X5_copies (rm' := rmX5_copies) ⟨Nat.le_of_ble_eq_true rfl, Nat.le_of_ble_eq_true rfl⟩ ⟨Nat.le_refl 0, Nat.le_refl 0⟩ (As := [aR x18, aR x19]) (rest := []) rfl rfl (Nat.le_of_ble_eq_true rfl) (m_X5_copies F.ok x18 x19 h14 _ hk)) ⟨rfl, rfl⟩ fun h20 hk =>
g_aload_n F dX5_load_144 rfl 0 rfl <|
g_getR F dX5_load_145 fo_X5_6_LockstepRoomModel in_X5 fl_LockstepRoomModel_22_X5 hk fun x21 hk =>
g_aload_n F dX5_load_148 rfl 0 rfl <|
g_getR F dX5_load_149 fo_X5_5_LockstepRoomModel in_X5 fl_LockstepRoomModel_19_X5 hk fun x22 hk =>
g_callv0 (g_S F dX5_load_152 q3097 ms_X5_copies (rm' := rmX5_copies) ⟨Nat.le_of_ble_eq_true rfl, Nat.le_of_ble_eq_true rfl⟩ ⟨Nat.le_refl 0, Nat.le_refl 0⟩ (As := [aR x21, aR x22]) (rest := []) rfl rfl (Nat.le_of_ble_eq_true rfl) (m_X5_copies F.ok x21 x22 h20 _ hk)) ⟨rfl, rfl⟩ fun h23 hk =>
g_aload_n F dX5_load_155 rfl 0 rfl <|
g_getI F dX5_load_156 fo_X5_19_LockstepRoomModel in_X5 fl_LockstepRoomModel_194_X5 hk fun x24 hk =>
g_iret F dX5_load_159 (Nat.le_refl 0) (Nat.le_refl 0) hk)
theorem s_X5_load_j102 {x : Cx} (F : Fx x cX5_load "LockstepRoomModel" 4 (some .int) rmX5_load) {v0 : Nat} {Q : Int32 → hH → Prop} (h : hH) (hk : f_X5_load_j102 x.S.E v0 Q h) : G x (xQ x rmX5_load (qI Q)) 102 [(0, aR (some v0))] [] h 0 0 := by
  unfold f_X5_load_j102 at hk
  exact g_aload_n F dX5_load_102 rfl 0 rfl <|
g_iconst F dX5_load_103 ic_0 <|
g_putV F dX5_load_104 fo_X5_2_LockstepRoomModel ck_X5 fl_LockstepRoomModel_50_X5 rfl (v := aI (0:Int32)) (fit_i (0:Int32)) hk fun h25 hk =>
g_aload_n F dX5_load_107 rfl 0 rfl <|
g_aload_n F dX5_load_108 rfl 0 rfl <|
g_getI F dX5_load_109 fo_X5_19_LockstepRoomModel in_X5 fl_LockstepRoomModel_194_X5 hk fun x26 hk =>
g_if_ne F dX5_load_112 (tgt := 119) rfl (fun hc => have hk := hk.2 hc
g_aload_n F dX5_load_119 rfl 0 rfl <|
g_getI F dX5_load_120 fo_X5_20_LockstepRoomModel in_X5 fl_LockstepRoomModel_197_X5 hk fun x27 hk =>
s_X5_load_j123 F (some v0) x27 h25 hk ) (fun hc => have hk := hk.1 hc
g_iconst F dX5_load_115 ic_m1 <|
g_goto F dX5_load_116 (tgt := 123) rfl <|
s_X5_load_j123 F (some v0) (-1:Int32) h25 hk )
theorem m_X5_load {S : Sx} (hS0 : Sok S) (v0 : Nat) (v1 : Int32) (h : hH) (Q : Int32 → hH → Prop) (hk : f_X5_load S.E v0 v1 h Q) : Ct S yX5_load (ws_ yX5_load cX5_load 4 (some .int)) rmX5_load ([aR (some v0), aI v1].map vv) h (qI Q) := by
  refine Ct.of hS0 (by decide +kernel) rfl (Nat.le_of_ble_eq_true rfl) fun x hxS F hnm => ?_
  subst hxS
  unfold f_X5_load at hk
  exact g_aload_n F dX5_load_0 rfl 0 rfl <|
g_iconst F dX5_load_1 ic_0 <|
g_putV F dX5_load_2 fo_X5_0_LockstepRoomModel ck_X5 fl_LockstepRoomModel_47_X5 rfl (v := aI (0:Int32)) (fit_i (0:Int32)) hk fun h28 hk =>
g_iload_n F dX5_load_5 rfl 1 rfl <|
g_if_lt F dX5_load_6 (tgt := 17) rfl (fun hc => have hk := hk.1 hc
g_bipush F dX5_load_17 bp_m2 <|
g_iret F dX5_load_19 (Nat.le_refl 0) (Nat.le_refl 0) hk) (fun hc => have hk := hk.2 hc
g_iload_n F dX5_load_9 rfl 1 rfl <|
g_aload_n F dX5_load_10 rfl 0 rfl <|
g_getI F dX5_load_11 fo_X5_2_LockstepRoomModel in_X5 fl_LockstepRoomModel_50_X5 hk fun x29 hk =>
g_icmp_le F dX5_load_14 (tgt := 20) rfl (fun hc => have hk := hk.1 hc
g_aload_n F dX5_load_20 rfl 0 rfl <|
g_getR F dX5_load_21 fo_X5_3_LockstepRoomModel in_X5 fl_LockstepRoomModel_13_X5 hk fun x30 hk =>
g_aload_n F dX5_load_24 rfl 0 rfl <|
g_getR F dX5_load_25 fo_X5_4_LockstepRoomModel in_X5 fl_LockstepRoomModel_16_X5 hk fun x31 hk =>
g_callv0 (g_S F dX5_load_28 q3097 ms_X5_copies (rm' := rmX5_copies) ⟨Nat.le_of_ble_eq_true rfl, Nat.le_of_ble_eq_true rfl⟩ ⟨Nat.le_refl 0, Nat.le_refl 0⟩ (As := [aR x30, aR x31]) (rest := []) rfl rfl (Nat.le_of_ble_eq_true rfl) (m_X5_copies F.ok x30 x31 h28 _ hk)) ⟨rfl, rfl⟩ fun h32 hk =>
g_aload_n F dX5_load_31 rfl 0 rfl <|
g_getR F dX5_load_32 fo_X5_5_LockstepRoomModel in_X5 fl_LockstepRoomModel_19_X5 hk fun x33 hk =>
g_aload_n F dX5_load_35 rfl 0 rfl <|
g_getR F dX5_load_36 fo_X5_6_LockstepRoomModel in_X5 fl_LockstepRoomModel_22_X5 hk fun x34 hk =>
g_callv0 (g_S F dX5_load_39 q3097 ms_X5_copies (rm' := rmX5_copies) ⟨Nat.le_of_ble_eq_true rfl, Nat.le_of_ble_eq_true rfl⟩ ⟨Nat.le_refl 0, Nat.le_refl 0⟩ (As := [aR x33, aR x34]) (rest := []) rfl rfl (Nat.le_of_ble_eq_true rfl) (m_X5_copies F.ok x33 x34 h32 _ hk)) ⟨rfl, rfl⟩ fun h35 hk =>
g_aload_n F dX5_load_42 rfl 0 rfl <|
g_callv0 (g_V F dX5_load_43 q2999 mi_X5_newRoom ct_X5 (rm' := rmX5_newRoom) ⟨Nat.le_of_ble_eq_true rfl, Nat.le_of_ble_eq_true rfl⟩ ⟨Nat.le_refl 0, Nat.le_refl 0⟩ (As := []) (rest := []) rfl rfl (Nat.le_of_ble_eq_true rfl) hk (fun a37 hk => m_X5_newRoom F.ok a37 h35 _ hk)) ⟨rfl, rfl⟩ fun h36 hk =>
g_aload_n F dX5_load_46 rfl 0 rfl <|
g_iload_n F dX5_load_47 rfl 1 rfl <|
g_putV F dX5_load_48 fo_X5_14_LockstepRoomModel ck_X5 fl_LockstepRoomModel_164_X5 rfl (v := aI v1) (fit_i v1) hk fun h38 hk =>
g_aload_n F dX5_load_51 rfl 0 rfl <|
g_iconst F dX5_load_52 ic_0 <|
g_putV F dX5_load_53 fo_X5_15_LockstepRoomModel ck_X5 fl_LockstepRoomModel_161_X5 rfl (v := aI (0:Int32)) (fit_i (0:Int32)) hk fun h39 hk =>
g_aload_n F dX5_load_56 rfl 0 rfl <|
g_iconst F dX5_load_57 ic_0 <|
g_putV F dX5_load_58 fo_X5_19_LockstepRoomModel ck_X5 fl_LockstepRoomModel_194_X5 rfl (v := aI (0:Int32)) (fit_i (0:Int32)) hk fun h40 hk =>
g_aload_n F dX5_load_61 rfl 0 rfl <|
g_iconst F dX5_load_62 ic_0 <|
g_putV F dX5_load_63 fo_X5_22_LockstepRoomModel ck_X5 fl_LockstepRoomModel_276_X5 rfl (v := aI (0:Int32)) (fit_i (0:Int32)) hk fun h41 hk =>
g_aload_n F dX5_load_66 rfl 0 rfl <|
g_iconst F dX5_load_67 ic_0 <|
g_putV F dX5_load_68 fo_X5_23_LockstepRoomModel ck_X5 fl_LockstepRoomModel_247_X5 rfl (v := aI (0:Int32)) (fit_i (0:Int32)) hk fun h42 hk =>
g_aload_n F dX5_load_71 rfl 0 rfl <|
g_iconst F dX5_load_72 ic_0 <|
g_putV F dX5_load_73 fo_X5_24_LockstepRoomModel ck_X5 fl_LockstepRoomModel_216_X5 rfl (v := aI (0:Int32)) ⟨rfl, rfl⟩ hk fun h43 hk =>
g_aload_n F dX5_load_76 rfl 0 rfl <|
g_callv0 (g_V F dX5_load_77 q3100 mi_X5_next ct_X5 (rm' := rmX5_next) ⟨Nat.le_of_ble_eq_true rfl, Nat.le_of_ble_eq_true rfl⟩ ⟨Nat.le_refl 0, Nat.le_refl 0⟩ (As := []) (rest := []) rfl rfl (Nat.le_of_ble_eq_true rfl) hk (fun a45 hk => m_X5_next F.ok a45 h43 _ hk)) ⟨rfl, rfl⟩ fun h44 hk =>
G.fewer [0] rfl <| s_X5_load_l80 F 1000000 h44 hk ((fun h hk => s_X5_load_j102 F h hk ))) (fun hc => have hk := hk.2 hc
g_bipush F dX5_load_17 bp_m2 <|
g_iret F dX5_load_19 (Nat.le_refl 0) (Nat.le_refl 0) hk))
abbrev rmX5_errorPosition : Room := { frames := 2, cells := 0, slots := 0, locals := 40 }
theorem m_X5_errorPosition {S : Sx} (hS0 : Sok S) (v0 : Nat) (h : hH) (Q : Int32 → hH → Prop) (hk : f_X5_errorPosition S.E v0 h Q) : Ct S yX5_errorPosition (ws_ yX5_errorPosition cX5_errorPosition 1 (some .int)) rmX5_errorPosition ([aR (some v0)].map vv) h (qI Q) := by
  refine Ct.of hS0 (by decide +kernel) rfl (Nat.le_of_ble_eq_true rfl) fun x hxS F hnm => ?_
  subst hxS
  unfold f_X5_errorPosition at hk
  exact g_aload_n F dX5_errorPosition_0 rfl 0 rfl <|
g_iconst F dX5_errorPosition_1 ic_0 <|
g_putV F dX5_errorPosition_2 fo_X5_0_LockstepRoomModel ck_X5 fl_LockstepRoomModel_47_X5 rfl (v := aI (0:Int32)) (fit_i (0:Int32)) hk fun h1 hk =>
g_aload_n F dX5_errorPosition_5 rfl 0 rfl <|
g_getI F dX5_errorPosition_6 fo_X5_21_LockstepRoomModel in_X5 fl_LockstepRoomModel_37_X5 hk fun x2 hk =>
g_iret F dX5_errorPosition_9 (Nat.le_refl 0) (Nat.le_refl 0) hk
abbrev rmX5_count : Room := { frames := 3, cells := 0, slots := 0, locals := 60 }
theorem m_X5_count {S : Sx} (hS0 : Sok S) (v0 : Nat) (v1 : Int32) (h : hH) (Q : Int32 → hH → Prop) (hk : f_X5_count S.E v0 v1 h Q) : Ct S yX5_count (ws_ yX5_count cX5_count 2 (some .int)) rmX5_count ([aR (some v0), aI v1].map vv) h (qI Q) := by
  refine Ct.of hS0 (by decide +kernel) rfl (Nat.le_of_ble_eq_true rfl) fun x hxS F hnm => ?_
  subst hxS
  unfold f_X5_count at hk
  exact g_aload_n F dX5_count_0 rfl 0 rfl <|
g_iconst F dX5_count_1 ic_0 <|
g_putV F dX5_count_2 fo_X5_0_LockstepRoomModel ck_X5 fl_LockstepRoomModel_47_X5 rfl (v := aI (0:Int32)) (fit_i (0:Int32)) hk fun h1 hk =>
g_iload_n F dX5_count_5 rfl 1 rfl <|
if hc0 : v1 = (0:Int32) then (have hk := hk.1 hc0
g_tableIn (tgt := 36) (off := 30) F dX5_count_6 (by rw [hc0]; decide) (by rw [hc0]; decide) (by rw [hc0]; rfl) rfl <|
g_aload_n F dX5_count_36 rfl 0 rfl <|
g_calli0 (g_V F dX5_count_37 q3146 mi_X5_members ct_X5 (rm' := rmX5_members) ⟨Nat.le_of_ble_eq_true rfl, Nat.le_of_ble_eq_true rfl⟩ ⟨Nat.le_refl 0, Nat.le_refl 0⟩ (As := []) (rest := []) rfl rfl (Nat.le_of_ble_eq_true rfl) hk (fun a4 hk => m_X5_members F.ok a4 h1 _ hk)) ⟨rfl, rfl⟩ fun x3 h2 hk =>
g_iret F dX5_count_40 (Nat.le_refl 0) (Nat.le_refl 0) hk) else have hk := hk.2 hc0
if hc1 : v1 = (1:Int32) then (have hk := hk.1 hc1
g_tableIn (tgt := 41) (off := 35) F dX5_count_6 (by rw [hc1]; decide) (by rw [hc1]; decide) (by rw [hc1]; rfl) rfl <|
g_aload_n F dX5_count_41 rfl 0 rfl <|
g_getR F dX5_count_42 fo_X5_5_LockstepRoomModel in_X5 fl_LockstepRoomModel_19_X5 hk fun x5 hk =>
g_sipush F dX5_count_45 sp_387 <|
g_iald F dX5_count_48 hk fun x6 hk =>
g_iret F dX5_count_49 (Nat.le_refl 0) (Nat.le_refl 0) hk) else have hk := hk.2 hc1
if hc2 : v1 = (2:Int32) then (have hk := hk.1 hc2
g_tableIn (tgt := 50) (off := 44) F dX5_count_6 (by rw [hc2]; decide) (by rw [hc2]; decide) (by rw [hc2]; rfl) rfl <|
g_aload_n F dX5_count_50 rfl 0 rfl <|
g_getR F dX5_count_51 fo_X5_5_LockstepRoomModel in_X5 fl_LockstepRoomModel_19_X5 hk fun x7 hk =>
g_sipush F dX5_count_54 sp_1708 <|
g_iald F dX5_count_57 hk fun x8 hk =>
g_iret F dX5_count_58 (Nat.le_refl 0) (Nat.le_refl 0) hk) else have hk := hk.2 hc2
if hc3 : v1 = (3:Int32) then (have hk := hk.1 hc3
g_tableIn (tgt := 59) (off := 53) F dX5_count_6 (by rw [hc3]; decide) (by rw [hc3]; decide) (by rw [hc3]; rfl) rfl <|
g_aload_n F dX5_count_59 rfl 0 rfl <|
g_getR F dX5_count_60 fo_X5_5_LockstepRoomModel in_X5 fl_LockstepRoomModel_19_X5 hk fun x9 hk =>
g_sipush F dX5_count_63 sp_1741 <|
g_iald F dX5_count_66 hk fun x10 hk =>
g_iret F dX5_count_67 (Nat.le_refl 0) (Nat.le_refl 0) hk) else have hk := hk.2 hc3
g_tableOut (tgt := 68) F dX5_count_6 (sw_out_0_1_2_3 hc0 hc1 hc2 hc3) rfl <|
g_bipush F dX5_count_68 bp_m2 <|
g_iret F dX5_count_70 (Nat.le_refl 0) (Nat.le_refl 0) hk
abbrev rmX5_undoCount : Room := { frames := 2, cells := 0, slots := 0, locals := 40 }
theorem m_X5_undoCount {S : Sx} (hS0 : Sok S) (v0 : Nat) (h : hH) (Q : Int32 → hH → Prop) (hk : f_X5_undoCount S.E v0 h Q) : Ct S yX5_undoCount (ws_ yX5_undoCount cX5_undoCount 1 (some .int)) rmX5_undoCount ([aR (some v0)].map vv) h (qI Q) := by
  refine Ct.of hS0 (by decide +kernel) rfl (Nat.le_of_ble_eq_true rfl) fun x hxS F hnm => ?_
  subst hxS
  unfold f_X5_undoCount at hk
  exact g_aload_n F dX5_undoCount_0 rfl 0 rfl <|
g_iconst F dX5_undoCount_1 ic_0 <|
g_putV F dX5_undoCount_2 fo_X5_0_LockstepRoomModel ck_X5 fl_LockstepRoomModel_47_X5 rfl (v := aI (0:Int32)) (fit_i (0:Int32)) hk fun h1 hk =>
g_aload_n F dX5_undoCount_5 rfl 0 rfl <|
g_getI F dX5_undoCount_6 fo_X5_8_LockstepRoomModel in_X5 fl_LockstepRoomModel_286_X5 hk fun x2 hk =>
g_iret F dX5_undoCount_9 (Nat.le_refl 0) (Nat.le_refl 0) hk
abbrev rmX5_memberNamed : Room := { frames := 4, cells := 0, slots := 0, locals := 82 }
theorem m_X5_memberNamed {S : Sx} (hS0 : Sok S) (v0 : Nat) (v1 : Int32) (h : hH) (Q : Int32 → hH → Prop) (hk : f_X5_memberNamed S.E v0 v1 h Q) : Ct S yX5_memberNamed (ws_ yX5_memberNamed cX5_memberNamed 2 (some .int)) rmX5_memberNamed ([aR (some v0), aI v1].map vv) h (qI Q) := by
  refine Ct.of hS0 (by decide +kernel) rfl (Nat.le_of_ble_eq_true rfl) fun x hxS F hnm => ?_
  subst hxS
  unfold f_X5_memberNamed at hk
  exact g_aload_n F dX5_memberNamed_0 rfl 0 rfl <|
g_iconst F dX5_memberNamed_1 ic_0 <|
g_putV F dX5_memberNamed_2 fo_X5_0_LockstepRoomModel ck_X5 fl_LockstepRoomModel_47_X5 rfl (v := aI (0:Int32)) (fit_i (0:Int32)) hk fun h1 hk =>
g_aload_n F dX5_memberNamed_5 rfl 0 rfl <|
g_iload_n F dX5_memberNamed_6 rfl 1 rfl <|
g_calli0 (g_V F dX5_memberNamed_7 q3154 mi_X5_found ct_X5 (rm' := rmX5_found) ⟨Nat.le_of_ble_eq_true rfl, Nat.le_of_ble_eq_true rfl⟩ ⟨Nat.le_refl 0, Nat.le_refl 0⟩ (As := [aI v1]) (rest := []) rfl rfl (Nat.le_of_ble_eq_true rfl) hk (fun a4 hk => m_X5_found F.ok a4 v1 h1 _ hk)) ⟨rfl, rfl⟩ fun x3 h2 hk =>
g_iret F dX5_memberNamed_10 (Nat.le_refl 0) (Nat.le_refl 0) hk
abbrev rmX5_isMember : Room := { frames := 3, cells := 0, slots := 0, locals := 60 }
theorem m_X5_isMember {S : Sx} (hS0 : Sok S) (v0 : Nat) (v1 : Int32) (h : hH) (Q : Int32 → hH → Prop) (hk : f_X5_isMember S.E v0 v1 h Q) : Ct S yX5_isMember (ws_ yX5_isMember cX5_isMember 2 (some .boolean)) rmX5_isMember ([aR (some v0), aI v1].map vv) h (qI Q) := by
  refine Ct.of hS0 (by decide +kernel) rfl (Nat.le_of_ble_eq_true rfl) fun x hxS F hnm => ?_
  subst hxS
  unfold f_X5_isMember at hk
  exact g_iload_n F dX5_isMember_0 rfl 1 rfl <|
g_if_lt F dX5_isMember_1 (tgt := 16) rfl (fun hc => have hk := hk.1 hc
g_iconst F dX5_isMember_16 ic_0 <|
g_zret F dX5_isMember_17 (Nat.le_refl 0) (Nat.le_refl 0) rfl hk) (fun hc => have hk := hk.2 hc
g_iload_n F dX5_isMember_4 rfl 1 rfl <|
g_aload_n F dX5_isMember_5 rfl 0 rfl <|
g_calli0 (g_V F dX5_isMember_6 q3146 mi_X5_members ct_X5 (rm' := rmX5_members) ⟨Nat.le_of_ble_eq_true rfl, Nat.le_of_ble_eq_true rfl⟩ ⟨Nat.le_refl 0, Nat.le_refl 0⟩ (As := []) (rest := [aI v1]) rfl rfl (Nat.le_of_ble_eq_true rfl) hk (fun a3 hk => m_X5_members F.ok a3 h _ hk)) ⟨rfl, rfl⟩ fun x2 h1 hk =>
g_icmp_ge F dX5_isMember_9 (tgt := 16) rfl (fun hc => have hk := hk.1 hc
g_iconst F dX5_isMember_16 ic_0 <|
g_zret F dX5_isMember_17 (Nat.le_refl 0) (Nat.le_refl 0) rfl hk) (fun hc => have hk := hk.2 hc
g_iconst F dX5_isMember_12 ic_1 <|
g_goto F dX5_isMember_13 (tgt := 17) rfl <|
g_zret F dX5_isMember_17 (Nat.le_refl 0) (Nat.le_refl 0) rfl hk))
abbrev rmX5_checks : Room := { frames := 2, cells := 0, slots := 0, locals := 40 }
theorem s_X5_checks_j10 {x : Cx} (F : Fx x cX5_checks "LockstepRoomModel" 2 (some .boolean) rmX5_checks) {v0 : Nat} {Q : Int32 → hH → Prop} (s0 : Option Nat) (s1 : Int32) (l1 : Int32) (h : hH) (hk : f_X5_checks_j10 x.S.E v0 Q s0 s1 l1 h) : G x (xQ x rmX5_checks (qI Q)) 10 [(1, aI l1)] [aI s1, aR s0] h 0 0 := by
  unfold f_X5_checks_j10 at hk
  exact g_putV F dX5_checks_10 fo_X5_0_LockstepRoomModel ck_X5 fl_LockstepRoomModel_47_X5 rfl (v := aI s1) (fit_i s1) hk fun h1 hk =>
g_iload_n F dX5_checks_13 rfl 0 rfl <|
g_zret F dX5_checks_14 (Nat.le_refl 0) (Nat.le_refl 0) hk.1 hk.2
theorem m_X5_checks {S : Sx} (hS0 : Sok S) (v0 : Nat) (v1 : Int32) (h : hH) (Q : Int32 → hH → Prop) (hk : f_X5_checks S.E v0 v1 h Q) : Ct S yX5_checks (ws_ yX5_checks cX5_checks 2 (some .boolean)) rmX5_checks ([aR (some v0), aI v1].map vv) h (qI Q) := by
  refine Ct.of hS0 (by decide +kernel) rfl (Nat.le_of_ble_eq_true rfl) fun x hxS F hnm => ?_
  subst hxS
  unfold f_X5_checks at hk
  exact g_aload_n F dX5_checks_0 rfl 0 rfl <|
g_iload_n F dX5_checks_1 rfl 1 rfl <|
g_if_eq F dX5_checks_2 (tgt := 9) rfl (fun hc => have hk := hk.1 hc
g_iconst F dX5_checks_9 ic_1 <|
G.fewer [1] rfl <| s_X5_checks_j10 F (some v0) (1:Int32) v1 h hk ) (fun hc => have hk := hk.2 hc
g_iconst F dX5_checks_5 ic_0 <|
g_goto F dX5_checks_6 (tgt := 10) rfl <|
G.fewer [1] rfl <| s_X5_checks_j10 F (some v0) (0:Int32) v1 h hk )
abbrev rmX5_memberNumber : Room := { frames := 4, cells := 0, slots := 0, locals := 81 }
theorem s_X5_memberNumber_j23 {x : Cx} (F : Fx x cX5_memberNumber "LockstepRoomModel" 3 (some .int) rmX5_memberNumber) {v0 : Nat} {Q : Int32 → hH → Prop} (h : hH) (hk : f_X5_memberNumber_j23 x.S.E v0 Q h) : G x (xQ x rmX5_memberNumber (qI Q)) 23 [] [] h 0 0 := by
  unfold f_X5_memberNumber_j23 at hk
  exact g_bipush F dX5_memberNumber_23 bp_m2 <|
g_goto F dX5_memberNumber_25 (tgt := 34) rfl <|
g_iret F dX5_memberNumber_34 (Nat.le_refl 0) (Nat.le_refl 0) hk
theorem m_X5_memberNumber {S : Sx} (hS0 : Sok S) (v0 : Nat) (v1 : Int32) (v2 : Int32) (h : hH) (Q : Int32 → hH → Prop) (hk : f_X5_memberNumber S.E v0 v1 v2 h Q) : Ct S yX5_memberNumber (ws_ yX5_memberNumber cX5_memberNumber 3 (some .int)) rmX5_memberNumber ([aR (some v0), aI v1, aI v2].map vv) h (qI Q) := by
  refine Ct.of hS0 (by decide +kernel) rfl (Nat.le_of_ble_eq_true rfl) fun x hxS F hnm => ?_
  subst hxS
  unfold f_X5_memberNumber at hk
  exact g_aload_n F dX5_memberNumber_0 rfl 0 rfl <|
g_aload_n F dX5_memberNumber_1 rfl 0 rfl <|
g_iload_n F dX5_memberNumber_2 rfl 1 rfl <|
g_calli0 (g_V F dX5_memberNumber_3 q3254 mi_X5_isMember ct_X5 (rm' := rmX5_isMember) ⟨Nat.le_of_ble_eq_true rfl, Nat.le_of_ble_eq_true rfl⟩ ⟨Nat.le_refl 0, Nat.le_refl 0⟩ (As := [aI v1]) (rest := [aR (some v0)]) rfl rfl (Nat.le_of_ble_eq_true rfl) hk (fun a3 hk => m_X5_isMember F.ok a3 v1 h _ hk)) ⟨rfl, rfl⟩ fun x2 h1 hk =>
g_calli0 (g_V F dX5_memberNumber_6 q3258 mi_X5_checks ct_X5 (rm' := rmX5_checks) ⟨Nat.le_of_ble_eq_true rfl, Nat.le_of_ble_eq_true rfl⟩ ⟨Nat.le_refl 0, Nat.le_refl 0⟩ (As := [aI x2]) (rest := []) rfl rfl (Nat.le_of_ble_eq_true rfl) hk (fun a6 hk => m_X5_checks F.ok a6 x2 h1 _ hk)) ⟨rfl, rfl⟩ fun x5 h4 hk =>
g_if_ne F dX5_memberNumber_9 (tgt := 14) rfl (fun hc => have hk := hk.2 hc
g_iload_n F dX5_memberNumber_14 rfl 2 rfl <|
g_if_lt F dX5_memberNumber_15 (tgt := 23) rfl (fun hc => have hk := hk.1 hc
G.fewer [] rfl <| s_X5_memberNumber_j23 F h4 hk ) (fun hc => have hk := hk.2 hc
g_iload_n F dX5_memberNumber_18 rfl 2 rfl <|
g_iconst F dX5_memberNumber_19 ic_5 <|
g_icmp_le F dX5_memberNumber_20 (tgt := 28) rfl (fun hc => have hk := hk.1 hc
g_aload_n F dX5_memberNumber_28 rfl 0 rfl <|
g_iload_n F dX5_memberNumber_29 rfl 1 rfl <|
g_iload_n F dX5_memberNumber_30 rfl 2 rfl <|
g_calli0 (g_V F dX5_memberNumber_31 q3214 mi_X5_of ct_X5 (rm' := rmX5_of) ⟨Nat.le_of_ble_eq_true rfl, Nat.le_of_ble_eq_true rfl⟩ ⟨Nat.le_refl 0, Nat.le_refl 0⟩ (As := [aI v1, aI v2]) (rest := []) rfl rfl (Nat.le_of_ble_eq_true rfl) hk (fun a9 hk => m_X5_of F.ok a9 v1 v2 h4 _ hk)) ⟨rfl, rfl⟩ fun x8 h7 hk =>
g_iret F dX5_memberNumber_34 (Nat.le_refl 0) (Nat.le_refl 0) hk) (fun hc => have hk := hk.2 hc
G.fewer [] rfl <| s_X5_memberNumber_j23 F h4 hk ))) (fun hc => have hk := hk.1 hc
g_iconst F dX5_memberNumber_12 ic_0 <|
g_iret F dX5_memberNumber_13 (Nat.le_refl 0) (Nat.le_refl 0) hk)
abbrev rmX5_isSetting : Room := { frames := 2, cells := 0, slots := 0, locals := 40 }
theorem s_X5_isSetting_j9 {x : Cx} (F : Fx x cX5_isSetting "LockstepRoomModel" 1 (some .boolean) rmX5_isSetting) {Q : Int32 → hH → Prop} (h : hH) (hk : f_X5_isSetting_j9 x.S.E Q h) : G x (xQ x rmX5_isSetting (qI Q)) 9 [] [] h 0 0 := by
  unfold f_X5_isSetting_j9 at hk
  exact g_iconst F dX5_isSetting_9 ic_1 <|
g_goto F dX5_isSetting_10 (tgt := 14) rfl <|
g_zret F dX5_isSetting_14 (Nat.le_refl 0) (Nat.le_refl 0) rfl hk
theorem m_X5_isSetting {S : Sx} (hS0 : Sok S) (v0 : Int32) (h : hH) (Q : Int32 → hH → Prop) (hk : f_X5_isSetting S.E v0 h Q) : Ct S yX5_isSetting (ws_ yX5_isSetting cX5_isSetting 1 (some .boolean)) rmX5_isSetting ([aI v0].map vv) h (qI Q) := by
  refine Ct.of hS0 (by decide +kernel) rfl (Nat.le_of_ble_eq_true rfl) fun x hxS F hnm => ?_
  subst hxS
  unfold f_X5_isSetting at hk
  exact g_iload_n F dX5_isSetting_0 rfl 0 rfl <|
g_if_eq F dX5_isSetting_1 (tgt := 9) rfl (fun hc => have hk := hk.1 hc
G.fewer [] rfl <| s_X5_isSetting_j9 F h hk ) (fun hc => have hk := hk.2 hc
g_iload_n F dX5_isSetting_4 rfl 0 rfl <|
g_iconst F dX5_isSetting_5 ic_1 <|
g_icmp_ne F dX5_isSetting_6 (tgt := 13) rfl (fun hc => have hk := hk.2 hc
g_iconst F dX5_isSetting_13 ic_0 <|
g_zret F dX5_isSetting_14 (Nat.le_refl 0) (Nat.le_refl 0) rfl hk) (fun hc => have hk := hk.1 hc
G.fewer [] rfl <| s_X5_isSetting_j9 F h hk ))
abbrev rmX5_getSetting : Room := { frames := 3, cells := 0, slots := 0, locals := 60 }
theorem m_X5_getSetting {S : Sx} (hS0 : Sok S) (v0 : Nat) (v1 : Int32) (h : hH) (Q : Int32 → hH → Prop) (hk : f_X5_getSetting S.E v0 v1 h Q) : Ct S yX5_getSetting (ws_ yX5_getSetting cX5_getSetting 2 (some .int)) rmX5_getSetting ([aR (some v0), aI v1].map vv) h (qI Q) := by
  refine Ct.of hS0 (by decide +kernel) rfl (Nat.le_of_ble_eq_true rfl) fun x hxS F hnm => ?_
  subst hxS
  unfold f_X5_getSetting at hk
  exact g_aload_n F dX5_getSetting_0 rfl 0 rfl <|
g_iconst F dX5_getSetting_1 ic_0 <|
g_putV F dX5_getSetting_2 fo_X5_0_LockstepRoomModel ck_X5 fl_LockstepRoomModel_47_X5 rfl (v := aI (0:Int32)) (fit_i (0:Int32)) hk fun h1 hk =>
g_iload_n F dX5_getSetting_5 rfl 1 rfl <|
g_calli0 (g_S F dX5_getSetting_6 q3266 ms_X5_isSetting (rm' := rmX5_isSetting) ⟨Nat.le_of_ble_eq_true rfl, Nat.le_of_ble_eq_true rfl⟩ ⟨Nat.le_refl 0, Nat.le_refl 0⟩ (As := [aI v1]) (rest := []) rfl rfl (Nat.le_of_ble_eq_true rfl) (m_X5_isSetting F.ok v1 h1 _ hk)) ⟨rfl, rfl⟩ fun x3 h2 hk =>
g_if_eq F dX5_getSetting_9 (tgt := 23) rfl (fun hc => have hk := hk.1 hc
g_bipush F dX5_getSetting_23 bp_m2 <|
g_iret F dX5_getSetting_25 (Nat.le_refl 0) (Nat.le_refl 0) hk) (fun hc => have hk := hk.2 hc
g_aload_n F dX5_getSetting_12 rfl 0 rfl <|
g_getR F dX5_getSetting_13 fo_X5_5_LockstepRoomModel in_X5 fl_LockstepRoomModel_19_X5 hk fun x4 hk =>
g_iconst F dX5_getSetting_16 ic_0 <|
g_iload_n F dX5_getSetting_17 rfl 1 rfl <|
g_iadd F dX5_getSetting_18 <|
g_iald F dX5_getSetting_19 hk fun x5 hk =>
g_goto F dX5_getSetting_20 (tgt := 25) rfl <|
g_iret F dX5_getSetting_25 (Nat.le_refl 0) (Nat.le_refl 0) hk)
abbrev rmX5_isCell : Room := { frames := 2, cells := 0, slots := 0, locals := 40 }
theorem m_X5_isCell {S : Sx} (hS0 : Sok S) (v0 : Int32) (h : hH) (Q : Int32 → hH → Prop) (hk : f_X5_isCell S.E v0 h Q) : Ct S yX5_isCell (ws_ yX5_isCell cX5_isCell 1 (some .boolean)) rmX5_isCell ([aI v0].map vv) h (qI Q) := by
  refine Ct.of hS0 (by decide +kernel) rfl (Nat.le_of_ble_eq_true rfl) fun x hxS F hnm => ?_
  subst hxS
  unfold f_X5_isCell at hk
  exact g_iload_n F dX5_isCell_0 rfl 0 rfl <|
g_if_lt F dX5_isCell_1 (tgt := 14) rfl (fun hc => have hk := hk.1 hc
g_iconst F dX5_isCell_14 ic_0 <|
g_zret F dX5_isCell_15 (Nat.le_refl 0) (Nat.le_refl 0) rfl hk) (fun hc => have hk := hk.2 hc
g_iload_n F dX5_isCell_4 rfl 0 rfl <|
g_bipush F dX5_isCell_5 bp_16 <|
g_icmp_ge F dX5_isCell_7 (tgt := 14) rfl (fun hc => have hk := hk.1 hc
g_iconst F dX5_isCell_14 ic_0 <|
g_zret F dX5_isCell_15 (Nat.le_refl 0) (Nat.le_refl 0) rfl hk) (fun hc => have hk := hk.2 hc
g_iconst F dX5_isCell_10 ic_1 <|
g_goto F dX5_isCell_11 (tgt := 15) rfl <|
g_zret F dX5_isCell_15 (Nat.le_refl 0) (Nat.le_refl 0) rfl hk))
abbrev rmX5_cellOf : Room := { frames := 4, cells := 0, slots := 0, locals := 81 }
theorem s_X5_cellOf_j21 {x : Cx} (F : Fx x cX5_cellOf "LockstepRoomModel" 3 (some .int) rmX5_cellOf) {v0 : Nat} {Q : Int32 → hH → Prop} (s0 : Option Nat) (s1 : Int32) (l1 : Int32) (l2 : Int32) (h : hH) (hk : f_X5_cellOf_j21 x.S.E v0 Q s0 s1 l1 l2 h) : G x (xQ x rmX5_cellOf (qI Q)) 21 [(0, aR (some v0)), (1, aI l1), (2, aI l2)] [aI s1, aR s0] h 0 0 := by
  unfold f_X5_cellOf_j21 at hk
  exact g_calli0 (g_V F dX5_cellOf_21 q3258 mi_X5_checks ct_X5 (rm' := rmX5_checks) ⟨Nat.le_of_ble_eq_true rfl, Nat.le_of_ble_eq_true rfl⟩ ⟨Nat.le_refl 0, Nat.le_refl 0⟩ (As := [aI s1]) (rest := []) rfl rfl (Nat.le_of_ble_eq_true rfl) hk (fun a3 hk => m_X5_checks F.ok a3 s1 h _ hk)) ⟨rfl, rfl⟩ fun x2 h1 hk =>
g_if_eq F dX5_cellOf_24 (tgt := 39) rfl (fun hc => have hk := hk.1 hc
g_iconst F dX5_cellOf_39 ic_0 <|
g_iret F dX5_cellOf_40 (Nat.le_refl 0) (Nat.le_refl 0) hk) (fun hc => have hk := hk.2 hc
g_aload_n F dX5_cellOf_27 rfl 0 rfl <|
g_iload_n F dX5_cellOf_28 rfl 1 rfl <|
g_bipush F dX5_cellOf_29 bp_7 <|
g_iload_n F dX5_cellOf_31 rfl 2 rfl <|
g_iadd F dX5_cellOf_32 <|
g_calli0 (g_V F dX5_cellOf_33 q3214 mi_X5_of ct_X5 (rm' := rmX5_of) ⟨Nat.le_of_ble_eq_true rfl, Nat.le_of_ble_eq_true rfl⟩ ⟨Nat.le_refl 0, Nat.le_refl 0⟩ (As := [aI l1, aI ((7:Int32) + l2)]) (rest := []) rfl rfl (Nat.le_of_ble_eq_true rfl) hk (fun a6 hk => m_X5_of F.ok a6 l1 ((7:Int32) + l2) h1 _ hk)) ⟨rfl, rfl⟩ fun x5 h4 hk =>
g_goto F dX5_cellOf_36 (tgt := 40) rfl <|
g_iret F dX5_cellOf_40 (Nat.le_refl 0) (Nat.le_refl 0) hk)
theorem s_X5_cellOf_j20 {x : Cx} (F : Fx x cX5_cellOf "LockstepRoomModel" 3 (some .int) rmX5_cellOf) {v0 : Nat} {Q : Int32 → hH → Prop} (s0 : Option Nat) (l1 : Int32) (l2 : Int32) (h : hH) (hk : f_X5_cellOf_j20 x.S.E v0 Q s0 l1 l2 h) : G x (xQ x rmX5_cellOf (qI Q)) 20 [(0, aR (some v0)), (1, aI l1), (2, aI l2)] [aR s0] h 0 0 := by
  unfold f_X5_cellOf_j20 at hk
  exact g_iconst F dX5_cellOf_20 ic_0 <|
s_X5_cellOf_j21 F s0 (0:Int32) l1 l2 h hk 
theorem m_X5_cellOf {S : Sx} (hS0 : Sok S) (v0 : Nat) (v1 : Int32) (v2 : Int32) (h : hH) (Q : Int32 → hH → Prop) (hk : f_X5_cellOf S.E v0 v1 v2 h Q) : Ct S yX5_cellOf (ws_ yX5_cellOf cX5_cellOf 3 (some .int)) rmX5_cellOf ([aR (some v0), aI v1, aI v2].map vv) h (qI Q) := by
  refine Ct.of hS0 (by decide +kernel) rfl (Nat.le_of_ble_eq_true rfl) fun x hxS F hnm => ?_
  subst hxS
  unfold f_X5_cellOf at hk
  exact g_aload_n F dX5_cellOf_0 rfl 0 rfl <|
g_aload_n F dX5_cellOf_1 rfl 0 rfl <|
g_iload_n F dX5_cellOf_2 rfl 1 rfl <|
g_calli0 (g_V F dX5_cellOf_3 q3254 mi_X5_isMember ct_X5 (rm' := rmX5_isMember) ⟨Nat.le_of_ble_eq_true rfl, Nat.le_of_ble_eq_true rfl⟩ ⟨Nat.le_refl 0, Nat.le_refl 0⟩ (As := [aI v1]) (rest := [aR (some v0)]) rfl rfl (Nat.le_of_ble_eq_true rfl) hk (fun a9 hk => m_X5_isMember F.ok a9 v1 h _ hk)) ⟨rfl, rfl⟩ fun x8 h7 hk =>
g_if_eq F dX5_cellOf_6 (tgt := 20) rfl (fun hc => have hk := hk.1 hc
s_X5_cellOf_j20 F (some v0) v1 v2 h7 hk ) (fun hc => have hk := hk.2 hc
g_iload_n F dX5_cellOf_9 rfl 2 rfl <|
g_calli0 (g_S F dX5_cellOf_10 q3273 ms_X5_isCell (rm' := rmX5_isCell) ⟨Nat.le_of_ble_eq_true rfl, Nat.le_of_ble_eq_true rfl⟩ ⟨Nat.le_refl 0, Nat.le_refl 0⟩ (As := [aI v2]) (rest := [aR (some v0)]) rfl rfl (Nat.le_of_ble_eq_true rfl) (m_X5_isCell F.ok v2 h7 _ hk)) ⟨rfl, rfl⟩ fun x11 h10 hk =>
g_if_eq F dX5_cellOf_13 (tgt := 20) rfl (fun hc => have hk := hk.1 hc
s_X5_cellOf_j20 F (some v0) v1 v2 h10 hk ) (fun hc => have hk := hk.2 hc
g_iconst F dX5_cellOf_16 ic_1 <|
g_goto F dX5_cellOf_17 (tgt := 21) rfl <|
s_X5_cellOf_j21 F (some v0) (1:Int32) v1 v2 h10 hk ))
abbrev rmX5_isTurn : Room := { frames := 2, cells := 0, slots := 0, locals := 40 }
theorem m_X5_isTurn {S : Sx} (hS0 : Sok S) (v0 : Nat) (v1 : Int32) (h : hH) (Q : Int32 → hH → Prop) (hk : f_X5_isTurn S.E v0 v1 h Q) : Ct S yX5_isTurn (ws_ yX5_isTurn cX5_isTurn 2 (some .boolean)) rmX5_isTurn ([aR (some v0), aI v1].map vv) h (qI Q) := by
  refine Ct.of hS0 (by decide +kernel) rfl (Nat.le_of_ble_eq_true rfl) fun x hxS F hnm => ?_
  subst hxS
  unfold f_X5_isTurn at hk
  exact g_iload_n F dX5_isTurn_0 rfl 1 rfl <|
g_if_lt F dX5_isTurn_1 (tgt := 20) rfl (fun hc => have hk := hk.1 hc
g_iconst F dX5_isTurn_20 ic_0 <|
g_zret F dX5_isTurn_21 (Nat.le_refl 0) (Nat.le_refl 0) rfl hk) (fun hc => have hk := hk.2 hc
g_iload_n F dX5_isTurn_4 rfl 1 rfl <|
g_aload_n F dX5_isTurn_5 rfl 0 rfl <|
g_getR F dX5_isTurn_6 fo_X5_5_LockstepRoomModel in_X5 fl_LockstepRoomModel_19_X5 hk fun x1 hk =>
g_sipush F dX5_isTurn_9 sp_387 <|
g_iald F dX5_isTurn_12 hk fun x2 hk =>
g_icmp_ge F dX5_isTurn_13 (tgt := 20) rfl (fun hc => have hk := hk.1 hc
g_iconst F dX5_isTurn_20 ic_0 <|
g_zret F dX5_isTurn_21 (Nat.le_refl 0) (Nat.le_refl 0) rfl hk) (fun hc => have hk := hk.2 hc
g_iconst F dX5_isTurn_16 ic_1 <|
g_goto F dX5_isTurn_17 (tgt := 21) rfl <|
g_zret F dX5_isTurn_21 (Nat.le_refl 0) (Nat.le_refl 0) rfl hk))
abbrev rmX5_commandCount : Room := { frames := 3, cells := 0, slots := 0, locals := 61 }
theorem m_X5_commandCount {S : Sx} (hS0 : Sok S) (v0 : Nat) (v1 : Int32) (h : hH) (Q : Int32 → hH → Prop) (hk : f_X5_commandCount S.E v0 v1 h Q) : Ct S yX5_commandCount (ws_ yX5_commandCount cX5_commandCount 2 (some .int)) rmX5_commandCount ([aR (some v0), aI v1].map vv) h (qI Q) := by
  refine Ct.of hS0 (by decide +kernel) rfl (Nat.le_of_ble_eq_true rfl) fun x hxS F hnm => ?_
  subst hxS
  unfold f_X5_commandCount at hk
  exact g_aload_n F dX5_commandCount_0 rfl 0 rfl <|
g_aload_n F dX5_commandCount_1 rfl 0 rfl <|
g_iload_n F dX5_commandCount_2 rfl 1 rfl <|
g_calli0 (g_V F dX5_commandCount_3 q3280 mi_X5_isTurn ct_X5 (rm' := rmX5_isTurn) ⟨Nat.le_of_ble_eq_true rfl, Nat.le_of_ble_eq_true rfl⟩ ⟨Nat.le_refl 0, Nat.le_refl 0⟩ (As := [aI v1]) (rest := [aR (some v0)]) rfl rfl (Nat.le_of_ble_eq_true rfl) hk (fun a3 hk => m_X5_isTurn F.ok a3 v1 h _ hk)) ⟨rfl, rfl⟩ fun x2 h1 hk =>
g_calli0 (g_V F dX5_commandCount_6 q3258 mi_X5_checks ct_X5 (rm' := rmX5_checks) ⟨Nat.le_of_ble_eq_true rfl, Nat.le_of_ble_eq_true rfl⟩ ⟨Nat.le_refl 0, Nat.le_refl 0⟩ (As := [aI x2]) (rest := []) rfl rfl (Nat.le_of_ble_eq_true rfl) hk (fun a6 hk => m_X5_checks F.ok a6 x2 h1 _ hk)) ⟨rfl, rfl⟩ fun x5 h4 hk =>
g_if_eq F dX5_commandCount_9 (tgt := 28) rfl (fun hc => have hk := hk.1 hc
g_iconst F dX5_commandCount_28 ic_0 <|
g_iret F dX5_commandCount_29 (Nat.le_refl 0) (Nat.le_refl 0) hk) (fun hc => have hk := hk.2 hc
g_aload_n F dX5_commandCount_12 rfl 0 rfl <|
g_getR F dX5_commandCount_13 fo_X5_5_LockstepRoomModel in_X5 fl_LockstepRoomModel_19_X5 hk fun x7 hk =>
g_sipush F dX5_commandCount_16 sp_388 <|
g_bipush F dX5_commandCount_19 bp_33 <|
g_iload_n F dX5_commandCount_21 rfl 1 rfl <|
g_imul F dX5_commandCount_22 <|
g_iadd F dX5_commandCount_23 <|
g_iald F dX5_commandCount_24 hk fun x8 hk =>
g_goto F dX5_commandCount_25 (tgt := 29) rfl <|
g_iret F dX5_commandCount_29 (Nat.le_refl 0) (Nat.le_refl 0) hk)
abbrev rmX5_command : Room := { frames := 3, cells := 0, slots := 0, locals := 61 }
theorem s_X5_command_j50 {x : Cx} (F : Fx x cX5_command "LockstepRoomModel" 5 (some .int) rmX5_command) {v0 : Nat} {Q : Int32 → hH → Prop} (h : hH) (hk : f_X5_command_j50 x.S.E v0 Q h) : G x (xQ x rmX5_command (qI Q)) 50 [] [] h 0 0 := by
  unfold f_X5_command_j50 at hk
  exact g_bipush F dX5_command_50 bp_m2 <|
g_goto F dX5_command_52 (tgt := 70) rfl <|
g_iret F dX5_command_70 (Nat.le_refl 0) (Nat.le_refl 0) hk
theorem m_X5_command {S : Sx} (hS0 : Sok S) (v0 : Nat) (v1 : Int32) (v2 : Int32) (v3 : Int32) (h : hH) (Q : Int32 → hH → Prop) (hk : f_X5_command S.E v0 v1 v2 v3 h Q) : Ct S yX5_command (ws_ yX5_command cX5_command 5 (some .int)) rmX5_command ([aR (some v0), aI v1, aI v2, aI v3].map vv) h (qI Q) := by
  refine Ct.of hS0 (by decide +kernel) rfl (Nat.le_of_ble_eq_true rfl) fun x hxS F hnm => ?_
  subst hxS
  unfold f_X5_command at hk
  exact g_aload_n F dX5_command_0 rfl 0 rfl <|
g_aload_n F dX5_command_1 rfl 0 rfl <|
g_iload_n F dX5_command_2 rfl 1 rfl <|
g_calli0 (g_V F dX5_command_3 q3280 mi_X5_isTurn ct_X5 (rm' := rmX5_isTurn) ⟨Nat.le_of_ble_eq_true rfl, Nat.le_of_ble_eq_true rfl⟩ ⟨Nat.le_refl 0, Nat.le_refl 0⟩ (As := [aI v1]) (rest := [aR (some v0)]) rfl rfl (Nat.le_of_ble_eq_true rfl) hk (fun a3 hk => m_X5_isTurn F.ok a3 v1 h _ hk)) ⟨rfl, rfl⟩ fun x2 h1 hk =>
g_calli0 (g_V F dX5_command_6 q3258 mi_X5_checks ct_X5 (rm' := rmX5_checks) ⟨Nat.le_of_ble_eq_true rfl, Nat.le_of_ble_eq_true rfl⟩ ⟨Nat.le_refl 0, Nat.le_refl 0⟩ (As := [aI x2]) (rest := []) rfl rfl (Nat.le_of_ble_eq_true rfl) hk (fun a6 hk => m_X5_checks F.ok a6 x2 h1 _ hk)) ⟨rfl, rfl⟩ fun x5 h4 hk =>
g_if_ne F dX5_command_9 (tgt := 14) rfl (fun hc => have hk := hk.2 hc
g_sipush F dX5_command_14 sp_388 <|
g_bipush F dX5_command_17 bp_33 <|
g_iload_n F dX5_command_19 rfl 1 rfl <|
g_imul F dX5_command_20 <|
g_iadd F dX5_command_21 <|
g_istore F dX5_command_22 (Nat.le_of_ble_eq_true rfl) rfl <|
g_iload_n F dX5_command_24 rfl 3 rfl <|
g_if_lt F dX5_command_25 (tgt := 39) rfl (fun hc => have hk := hk.1 hc
g_iconst F dX5_command_39 ic_m1 <|
g_iret F dX5_command_40 (Nat.le_refl 0) (Nat.le_refl 0) hk) (fun hc => have hk := hk.2 hc
g_iload_n F dX5_command_28 rfl 3 rfl <|
g_aload_n F dX5_command_29 rfl 1 rfl <|
g_getR F dX5_command_30 fo_X5_5_LockstepRoomModel in_X5 fl_LockstepRoomModel_19_X5 hk fun x7 hk =>
g_iload F dX5_command_33 0 rfl <|
g_iald F dX5_command_35 hk fun x8 hk =>
g_icmp_lt F dX5_command_36 (tgt := 41) rfl (fun hc => have hk := hk.1 hc
g_iload_n F dX5_command_41 rfl 4 rfl <|
g_if_lt F dX5_command_42 (tgt := 50) rfl (fun hc => have hk := hk.1 hc
G.fewer [] rfl <| s_X5_command_j50 F h4 hk ) (fun hc => have hk := hk.2 hc
g_iload_n F dX5_command_45 rfl 4 rfl <|
g_iconst F dX5_command_46 ic_3 <|
g_icmp_le F dX5_command_47 (tgt := 55) rfl (fun hc => have hk := hk.1 hc
g_aload_n F dX5_command_55 rfl 1 rfl <|
g_getR F dX5_command_56 fo_X5_5_LockstepRoomModel in_X5 fl_LockstepRoomModel_19_X5 hk fun x9 hk =>
g_iload F dX5_command_59 0 rfl <|
g_iconst F dX5_command_61 ic_1 <|
g_iadd F dX5_command_62 <|
g_iconst F dX5_command_63 ic_4 <|
g_iload_n F dX5_command_64 rfl 3 rfl <|
g_imul F dX5_command_65 <|
g_iadd F dX5_command_66 <|
g_iload_n F dX5_command_67 rfl 4 rfl <|
g_iadd F dX5_command_68 <|
g_iald F dX5_command_69 hk fun x10 hk =>
g_iret F dX5_command_70 (Nat.le_refl 0) (Nat.le_refl 0) hk) (fun hc => have hk := hk.2 hc
G.fewer [] rfl <| s_X5_command_j50 F h4 hk ))) (fun hc => have hk := hk.2 hc
g_iconst F dX5_command_39 ic_m1 <|
g_iret F dX5_command_40 (Nat.le_refl 0) (Nat.le_refl 0) hk))) (fun hc => have hk := hk.1 hc
g_iconst F dX5_command_12 ic_0 <|
g_iret F dX5_command_13 (Nat.le_refl 0) (Nat.le_refl 0) hk)
abbrev rmX5_fault : Room := { frames := 2, cells := 0, slots := 0, locals := 40 }
theorem m_X5_fault {S : Sx} (hS0 : Sok S) (v0 : Nat) (v1 : Int32) (v2 : Int32) (h : hH) (Q : Int32 → hH → Prop) (hk : f_X5_fault S.E v0 v1 v2 h Q) : Ct S yX5_fault (ws_ yX5_fault cX5_fault 3 (some .int)) rmX5_fault ([aR (some v0), aI v1, aI v2].map vv) h (qI Q) := by
  refine Ct.of hS0 (by decide +kernel) rfl (Nat.le_of_ble_eq_true rfl) fun x hxS F hnm => ?_
  subst hxS
  unfold f_X5_fault at hk
  exact g_aload_n F dX5_fault_0 rfl 0 rfl <|
g_getR F dX5_fault_1 fo_X5_5_LockstepRoomModel in_X5 fl_LockstepRoomModel_19_X5 hk fun x1 hk =>
g_sipush F dX5_fault_4 sp_1742 <|
g_iconst F dX5_fault_7 ic_4 <|
g_iload_n F dX5_fault_8 rfl 1 rfl <|
g_imul F dX5_fault_9 <|
g_iadd F dX5_fault_10 <|
g_iload_n F dX5_fault_11 rfl 2 rfl <|
g_iadd F dX5_fault_12 <|
g_iald F dX5_fault_13 hk fun x2 hk =>
g_iret F dX5_fault_14 (Nat.le_refl 0) (Nat.le_refl 0) hk
abbrev rmX5_faultNumber : Room := { frames := 3, cells := 0, slots := 0, locals := 62 }
theorem s_X5_faultNumber_j39 {x : Cx} (F : Fx x cX5_faultNumber "LockstepRoomModel" 3 (some .int) rmX5_faultNumber) {v0 : Nat} {Q : Int32 → hH → Prop} (h : hH) (hk : f_X5_faultNumber_j39 x.S.E v0 Q h) : G x (xQ x rmX5_faultNumber (qI Q)) 39 [] [] h 0 0 := by
  unfold f_X5_faultNumber_j39 at hk
  exact g_bipush F dX5_faultNumber_39 bp_m2 <|
g_goto F dX5_faultNumber_41 (tgt := 50) rfl <|
g_iret F dX5_faultNumber_50 (Nat.le_refl 0) (Nat.le_refl 0) hk
theorem s_X5_faultNumber_j22 {x : Cx} (F : Fx x cX5_faultNumber "LockstepRoomModel" 3 (some .int) rmX5_faultNumber) {v0 : Nat} {Q : Int32 → hH → Prop} (s0 : Option Nat) (s1 : Int32) (l1 : Int32) (l2 : Int32) (h : hH) (hk : f_X5_faultNumber_j22 x.S.E v0 Q s0 s1 l1 l2 h) : G x (xQ x rmX5_faultNumber (qI Q)) 22 [(0, aR (some v0)), (1, aI l1), (2, aI l2)] [aI s1, aR s0] h 0 0 := by
  unfold f_X5_faultNumber_j22 at hk
  exact g_calli0 (g_V F dX5_faultNumber_22 q3258 mi_X5_checks ct_X5 (rm' := rmX5_checks) ⟨Nat.le_of_ble_eq_true rfl, Nat.le_of_ble_eq_true rfl⟩ ⟨Nat.le_refl 0, Nat.le_refl 0⟩ (As := [aI s1]) (rest := []) rfl rfl (Nat.le_of_ble_eq_true rfl) hk (fun a3 hk => m_X5_checks F.ok a3 s1 h _ hk)) ⟨rfl, rfl⟩ fun x2 h1 hk =>
g_if_ne F dX5_faultNumber_25 (tgt := 30) rfl (fun hc => have hk := hk.2 hc
g_iload_n F dX5_faultNumber_30 rfl 2 rfl <|
g_if_lt F dX5_faultNumber_31 (tgt := 39) rfl (fun hc => have hk := hk.1 hc
G.fewer [] rfl <| s_X5_faultNumber_j39 F h1 hk ) (fun hc => have hk := hk.2 hc
g_iload_n F dX5_faultNumber_34 rfl 2 rfl <|
g_iconst F dX5_faultNumber_35 ic_3 <|
g_icmp_le F dX5_faultNumber_36 (tgt := 44) rfl (fun hc => have hk := hk.1 hc
g_aload_n F dX5_faultNumber_44 rfl 0 rfl <|
g_iload_n F dX5_faultNumber_45 rfl 1 rfl <|
g_iload_n F dX5_faultNumber_46 rfl 2 rfl <|
g_calli0 (g_V F dX5_faultNumber_47 q3292 mi_X5_fault ct_X5 (rm' := rmX5_fault) ⟨Nat.le_of_ble_eq_true rfl, Nat.le_of_ble_eq_true rfl⟩ ⟨Nat.le_refl 0, Nat.le_refl 0⟩ (As := [aI l1, aI l2]) (rest := []) rfl rfl (Nat.le_of_ble_eq_true rfl) hk (fun a6 hk => m_X5_fault F.ok a6 l1 l2 h1 _ hk)) ⟨rfl, rfl⟩ fun x5 h4 hk =>
g_iret F dX5_faultNumber_50 (Nat.le_refl 0) (Nat.le_refl 0) hk) (fun hc => have hk := hk.2 hc
G.fewer [] rfl <| s_X5_faultNumber_j39 F h1 hk ))) (fun hc => have hk := hk.1 hc
g_iconst F dX5_faultNumber_28 ic_0 <|
g_iret F dX5_faultNumber_29 (Nat.le_refl 0) (Nat.le_refl 0) hk)
theorem s_X5_faultNumber_j21 {x : Cx} (F : Fx x cX5_faultNumber "LockstepRoomModel" 3 (some .int) rmX5_faultNumber) {v0 : Nat} {Q : Int32 → hH → Prop} (s0 : Option Nat) (l1 : Int32) (l2 : Int32) (h : hH) (hk : f_X5_faultNumber_j21 x.S.E v0 Q s0 l1 l2 h) : G x (xQ x rmX5_faultNumber (qI Q)) 21 [(0, aR (some v0)), (1, aI l1), (2, aI l2)] [aR s0] h 0 0 := by
  unfold f_X5_faultNumber_j21 at hk
  exact g_iconst F dX5_faultNumber_21 ic_0 <|
s_X5_faultNumber_j22 F s0 (0:Int32) l1 l2 h hk 
theorem m_X5_faultNumber {S : Sx} (hS0 : Sok S) (v0 : Nat) (v1 : Int32) (v2 : Int32) (h : hH) (Q : Int32 → hH → Prop) (hk : f_X5_faultNumber S.E v0 v1 v2 h Q) : Ct S yX5_faultNumber (ws_ yX5_faultNumber cX5_faultNumber 3 (some .int)) rmX5_faultNumber ([aR (some v0), aI v1, aI v2].map vv) h (qI Q) := by
  refine Ct.of hS0 (by decide +kernel) rfl (Nat.le_of_ble_eq_true rfl) fun x hxS F hnm => ?_
  subst hxS
  unfold f_X5_faultNumber at hk
  exact g_aload_n F dX5_faultNumber_0 rfl 0 rfl <|
g_iload_n F dX5_faultNumber_1 rfl 1 rfl <|
g_if_lt F dX5_faultNumber_2 (tgt := 21) rfl (fun hc => have hk := hk.1 hc
s_X5_faultNumber_j21 F (some v0) v1 v2 h hk ) (fun hc => have hk := hk.2 hc
g_iload_n F dX5_faultNumber_5 rfl 1 rfl <|
g_aload_n F dX5_faultNumber_6 rfl 0 rfl <|
g_getR F dX5_faultNumber_7 fo_X5_5_LockstepRoomModel in_X5 fl_LockstepRoomModel_19_X5 hk fun x7 hk =>
g_sipush F dX5_faultNumber_10 sp_1741 <|
g_iald F dX5_faultNumber_13 hk fun x8 hk =>
g_icmp_ge F dX5_faultNumber_14 (tgt := 21) rfl (fun hc => have hk := hk.1 hc
s_X5_faultNumber_j21 F (some v0) v1 v2 h hk ) (fun hc => have hk := hk.2 hc
g_iconst F dX5_faultNumber_17 ic_1 <|
g_goto F dX5_faultNumber_18 (tgt := 22) rfl <|
s_X5_faultNumber_j22 F (some v0) (1:Int32) v1 v2 h hk ))
abbrev rmX5_checksum : Room := { frames := 4, cells := 0, slots := 0, locals := 84 }
theorem m_X5_checksum {S : Sx} (hS0 : Sok S) (v0 : Nat) (v1 : Int32) (v2 : Int32) (h : hH) (Q : Int32 → hH → Prop) (hk : f_X5_checksum S.E v0 v1 v2 h Q) : Ct S yX5_checksum (ws_ yX5_checksum cX5_checksum 3 (some .int)) rmX5_checksum ([aR (some v0), aI v1, aI v2].map vv) h (qI Q) := by
  refine Ct.of hS0 (by decide +kernel) rfl (Nat.le_of_ble_eq_true rfl) fun x hxS F hnm => ?_
  subst hxS
  unfold f_X5_checksum at hk
  exact g_aload_n F dX5_checksum_0 rfl 0 rfl <|
g_aload_n F dX5_checksum_1 rfl 0 rfl <|
g_iload_n F dX5_checksum_2 rfl 1 rfl <|
g_calli0 (g_V F dX5_checksum_3 q3254 mi_X5_isMember ct_X5 (rm' := rmX5_isMember) ⟨Nat.le_of_ble_eq_true rfl, Nat.le_of_ble_eq_true rfl⟩ ⟨Nat.le_refl 0, Nat.le_refl 0⟩ (As := [aI v1]) (rest := [aR (some v0)]) rfl rfl (Nat.le_of_ble_eq_true rfl) hk (fun a3 hk => m_X5_isMember F.ok a3 v1 h _ hk)) ⟨rfl, rfl⟩ fun x2 h1 hk =>
g_calli0 (g_V F dX5_checksum_6 q3258 mi_X5_checks ct_X5 (rm' := rmX5_checks) ⟨Nat.le_of_ble_eq_true rfl, Nat.le_of_ble_eq_true rfl⟩ ⟨Nat.le_refl 0, Nat.le_refl 0⟩ (As := [aI x2]) (rest := []) rfl rfl (Nat.le_of_ble_eq_true rfl) hk (fun a6 hk => m_X5_checks F.ok a6 x2 h1 _ hk)) ⟨rfl, rfl⟩ fun x5 h4 hk =>
g_if_ne F dX5_checksum_9 (tgt := 14) rfl (fun hc => have hk := hk.2 hc
g_iload_n F dX5_checksum_14 rfl 2 rfl <|
g_iconst F dX5_checksum_15 ic_1 <|
g_icmp_lt F dX5_checksum_16 (tgt := 25) rfl (fun hc => have hk := hk.1 hc
g_bipush F dX5_checksum_25 bp_m2 <|
g_iret F dX5_checksum_27 (Nat.le_refl 0) (Nat.le_refl 0) hk) (fun hc => have hk := hk.2 hc
g_iload_n F dX5_checksum_19 rfl 2 rfl <|
g_bipush F dX5_checksum_20 bp_31 <|
g_icmp_le F dX5_checksum_22 (tgt := 28) rfl (fun hc => have hk := hk.1 hc
g_aload_n F dX5_checksum_28 rfl 0 rfl <|
g_iload_n F dX5_checksum_29 rfl 1 rfl <|
g_callv0 (g_V F dX5_checksum_30 q3222 mi_X5_takesCells ct_X5 (rm' := rmX5_takesCells) ⟨Nat.le_of_ble_eq_true rfl, Nat.le_of_ble_eq_true rfl⟩ ⟨Nat.le_refl 0, Nat.le_refl 0⟩ (As := [aI v1]) (rest := []) rfl rfl (Nat.le_of_ble_eq_true rfl) hk (fun a8 hk => m_X5_takesCells F.ok a8 v1 h4 _ hk)) ⟨rfl, rfl⟩ fun h7 hk =>
g_aload_n F dX5_checksum_33 rfl 0 rfl <|
g_aload_n F dX5_checksum_34 rfl 0 rfl <|
g_getR F dX5_checksum_35 fo_X5_10_LockstepRoomModel in_X5 fl_LockstepRoomModel_31_X5 hk fun x9 hk =>
g_callv0 (g_V F dX5_checksum_38 q3226 mi_X5_laysTree ct_X5 (rm' := rmX5_laysTree) ⟨Nat.le_of_ble_eq_true rfl, Nat.le_of_ble_eq_true rfl⟩ ⟨Nat.le_refl 0, Nat.le_refl 0⟩ (As := [aR x9]) (rest := []) rfl rfl (Nat.le_of_ble_eq_true rfl) hk (fun a11 hk => m_X5_laysTree F.ok a11 x9 h7 _ hk)) ⟨rfl, rfl⟩ fun h10 hk =>
g_aload_n F dX5_checksum_41 rfl 0 rfl <|
g_getR F dX5_checksum_42 fo_X5_10_LockstepRoomModel in_X5 fl_LockstepRoomModel_31_X5 hk fun x12 hk =>
g_iload_n F dX5_checksum_45 rfl 2 rfl <|
g_iald F dX5_checksum_46 hk fun x13 hk =>
g_iret F dX5_checksum_47 (Nat.le_refl 0) (Nat.le_refl 0) hk) (fun hc => have hk := hk.2 hc
g_bipush F dX5_checksum_25 bp_m2 <|
g_iret F dX5_checksum_27 (Nat.le_refl 0) (Nat.le_refl 0) hk))) (fun hc => have hk := hk.1 hc
g_iconst F dX5_checksum_12 ic_0 <|
g_iret F dX5_checksum_13 (Nat.le_refl 0) (Nat.le_refl 0) hk)
abbrev rmX5_hasAt : Room := { frames := 4, cells := 0, slots := 0, locals := 83 }
theorem m_X5_hasAt {S : Sx} (hS0 : Sok S) (v0 : Nat) (v1 : Int32) (v2 : Int32) (h : hH) (Q : Int32 → hH → Prop) (hk : f_X5_hasAt S.E v0 v1 v2 h Q) : Ct S yX5_hasAt (ws_ yX5_hasAt cX5_hasAt 3 (some .boolean)) rmX5_hasAt ([aR (some v0), aI v1, aI v2].map vv) h (qI Q) := by
  refine Ct.of hS0 (by decide +kernel) rfl (Nat.le_of_ble_eq_true rfl) fun x hxS F hnm => ?_
  subst hxS
  unfold f_X5_hasAt at hk
  exact g_iload_n F dX5_hasAt_0 rfl 2 rfl <|
g_aload_n F dX5_hasAt_1 rfl 0 rfl <|
g_iload_n F dX5_hasAt_2 rfl 1 rfl <|
g_bipush F dX5_hasAt_3 bp_6 <|
g_calli0 (g_V F dX5_hasAt_5 q3214 mi_X5_of ct_X5 (rm' := rmX5_of) ⟨Nat.le_of_ble_eq_true rfl, Nat.le_of_ble_eq_true rfl⟩ ⟨Nat.le_refl 0, Nat.le_refl 0⟩ (As := [aI v1, aI (6:Int32)]) (rest := [aI v2]) rfl rfl (Nat.le_of_ble_eq_true rfl) hk (fun a3 hk => m_X5_of F.ok a3 v1 (6:Int32) h _ hk)) ⟨rfl, rfl⟩ fun x2 h1 hk =>
g_icmp_lt F dX5_hasAt_8 (tgt := 24) rfl (fun hc => have hk := hk.1 hc
g_iconst F dX5_hasAt_24 ic_0 <|
g_zret F dX5_hasAt_25 (Nat.le_refl 0) (Nat.le_refl 0) rfl hk) (fun hc => have hk := hk.2 hc
g_iload_n F dX5_hasAt_11 rfl 2 rfl <|
g_aload_n F dX5_hasAt_12 rfl 0 rfl <|
g_iload_n F dX5_hasAt_13 rfl 1 rfl <|
g_calli0 (g_V F dX5_hasAt_14 q3210 mi_X5_turnsDone ct_X5 (rm' := rmX5_turnsDone) ⟨Nat.le_of_ble_eq_true rfl, Nat.le_of_ble_eq_true rfl⟩ ⟨Nat.le_refl 0, Nat.le_refl 0⟩ (As := [aI v1]) (rest := [aI v2]) rfl rfl (Nat.le_of_ble_eq_true rfl) hk (fun a6 hk => m_X5_turnsDone F.ok a6 v1 h1 _ hk)) ⟨rfl, rfl⟩ fun x5 h4 hk =>
g_icmp_gt F dX5_hasAt_17 (tgt := 24) rfl (fun hc => have hk := hk.1 hc
g_iconst F dX5_hasAt_24 ic_0 <|
g_zret F dX5_hasAt_25 (Nat.le_refl 0) (Nat.le_refl 0) rfl hk) (fun hc => have hk := hk.2 hc
g_iconst F dX5_hasAt_20 ic_1 <|
g_goto F dX5_hasAt_21 (tgt := 25) rfl <|
g_zret F dX5_hasAt_25 (Nat.le_refl 0) (Nat.le_refl 0) rfl hk))
abbrev rmX5_record : Room := { frames := 3, cells := 0, slots := 0, locals := 62 }
theorem m_X5_record {S : Sx} (hS0 : Sok S) (v0 : Nat) (v1 : Int32) (v2 : Int32) (h : hH) (Q : Int32 → hH → Prop) (hk : f_X5_record S.E v0 v1 v2 h Q) : Ct S yX5_record (ws_ yX5_record cX5_record 3 (some .int)) rmX5_record ([aR (some v0), aI v1, aI v2].map vv) h (qI Q) := by
  refine Ct.of hS0 (by decide +kernel) rfl (Nat.le_of_ble_eq_true rfl) fun x hxS F hnm => ?_
  subst hxS
  unfold f_X5_record at hk
  exact g_aload_n F dX5_record_0 rfl 0 rfl <|
g_iload_n F dX5_record_1 rfl 1 rfl <|
g_bipush F dX5_record_2 bp_23 <|
g_iload_n F dX5_record_4 rfl 2 rfl <|
g_iadd F dX5_record_5 <|
g_calli0 (g_V F dX5_record_6 q3214 mi_X5_of ct_X5 (rm' := rmX5_of) ⟨Nat.le_of_ble_eq_true rfl, Nat.le_of_ble_eq_true rfl⟩ ⟨Nat.le_refl 0, Nat.le_refl 0⟩ (As := [aI v1, aI ((23:Int32) + v2)]) (rest := []) rfl rfl (Nat.le_of_ble_eq_true rfl) hk (fun a3 hk => m_X5_of F.ok a3 v1 ((23:Int32) + v2) h _ hk)) ⟨rfl, rfl⟩ fun x2 h1 hk =>
g_iret F dX5_record_9 (Nat.le_refl 0) (Nat.le_refl 0) hk
abbrev rmX5_rootAt : Room := { frames := 5, cells := 0, slots := 0, locals := 105 }
theorem m_X5_rootAt {S : Sx} (hS0 : Sok S) (v0 : Nat) (v1 : Int32) (v2 : Int32) (h : hH) (Q : Int32 → hH → Prop) (hk : f_X5_rootAt S.E v0 v1 v2 h Q) : Ct S yX5_rootAt (ws_ yX5_rootAt cX5_rootAt 3 (some .int)) rmX5_rootAt ([aR (some v0), aI v1, aI v2].map vv) h (qI Q) := by
  refine Ct.of hS0 (by decide +kernel) rfl (Nat.le_of_ble_eq_true rfl) fun x hxS F hnm => ?_
  subst hxS
  unfold f_X5_rootAt at hk
  exact g_aload_n F dX5_rootAt_0 rfl 0 rfl <|
g_aload_n F dX5_rootAt_1 rfl 0 rfl <|
g_iload_n F dX5_rootAt_2 rfl 1 rfl <|
g_calli0 (g_V F dX5_rootAt_3 q3254 mi_X5_isMember ct_X5 (rm' := rmX5_isMember) ⟨Nat.le_of_ble_eq_true rfl, Nat.le_of_ble_eq_true rfl⟩ ⟨Nat.le_refl 0, Nat.le_refl 0⟩ (As := [aI v1]) (rest := [aR (some v0)]) rfl rfl (Nat.le_of_ble_eq_true rfl) hk (fun a3 hk => m_X5_isMember F.ok a3 v1 h _ hk)) ⟨rfl, rfl⟩ fun x2 h1 hk =>
g_calli0 (g_V F dX5_rootAt_6 q3258 mi_X5_checks ct_X5 (rm' := rmX5_checks) ⟨Nat.le_of_ble_eq_true rfl, Nat.le_of_ble_eq_true rfl⟩ ⟨Nat.le_refl 0, Nat.le_refl 0⟩ (As := [aI x2]) (rest := []) rfl rfl (Nat.le_of_ble_eq_true rfl) hk (fun a6 hk => m_X5_checks F.ok a6 x2 h1 _ hk)) ⟨rfl, rfl⟩ fun x5 h4 hk =>
g_if_ne F dX5_rootAt_9 (tgt := 14) rfl (fun hc => have hk := hk.2 hc
g_aload_n F dX5_rootAt_14 rfl 0 rfl <|
g_iload_n F dX5_rootAt_15 rfl 1 rfl <|
g_iload_n F dX5_rootAt_16 rfl 2 rfl <|
g_calli0 (g_V F dX5_rootAt_17 q3304 mi_X5_hasAt ct_X5 (rm' := rmX5_hasAt) ⟨Nat.le_of_ble_eq_true rfl, Nat.le_of_ble_eq_true rfl⟩ ⟨Nat.le_refl 0, Nat.le_refl 0⟩ (As := [aI v1, aI v2]) (rest := []) rfl rfl (Nat.le_of_ble_eq_true rfl) hk (fun a9 hk => m_X5_hasAt F.ok a9 v1 v2 h4 _ hk)) ⟨rfl, rfl⟩ fun x8 h7 hk =>
g_if_eq F dX5_rootAt_20 (tgt := 32) rfl (fun hc => have hk := hk.1 hc
g_iconst F dX5_rootAt_32 ic_m1 <|
g_iret F dX5_rootAt_33 (Nat.le_refl 0) (Nat.le_refl 0) hk) (fun hc => have hk := hk.2 hc
g_aload_n F dX5_rootAt_23 rfl 0 rfl <|
g_iload_n F dX5_rootAt_24 rfl 1 rfl <|
g_iload_n F dX5_rootAt_25 rfl 2 rfl <|
g_calli0 (g_V F dX5_rootAt_26 q3308 mi_X5_record ct_X5 (rm' := rmX5_record) ⟨Nat.le_of_ble_eq_true rfl, Nat.le_of_ble_eq_true rfl⟩ ⟨Nat.le_refl 0, Nat.le_refl 0⟩ (As := [aI v1, aI v2]) (rest := []) rfl rfl (Nat.le_of_ble_eq_true rfl) hk (fun a12 hk => m_X5_record F.ok a12 v1 v2 h7 _ hk)) ⟨rfl, rfl⟩ fun x11 h10 hk =>
g_goto F dX5_rootAt_29 (tgt := 33) rfl <|
g_iret F dX5_rootAt_33 (Nat.le_refl 0) (Nat.le_refl 0) hk)) (fun hc => have hk := hk.1 hc
g_iconst F dX5_rootAt_12 ic_0 <|
g_iret F dX5_rootAt_13 (Nat.le_refl 0) (Nat.le_refl 0) hk)
abbrev rmX5_checksBoth : Room := { frames := 4, cells := 0, slots := 0, locals := 81 }
theorem s_X5_checksBoth_j22 {x : Cx} (F : Fx x cX5_checksBoth "LockstepRoomModel" 3 (some .boolean) rmX5_checksBoth) {v0 : Nat} {Q : Int32 → hH → Prop} (s0 : Option Nat) (s1 : Int32) (h : hH) (hk : f_X5_checksBoth_j22 x.S.E v0 Q s0 s1 h) : G x (xQ x rmX5_checksBoth (qI Q)) 22 [] [aI s1, aR s0] h 0 0 := by
  unfold f_X5_checksBoth_j22 at hk
  exact g_calli0 (g_V F dX5_checksBoth_22 q3258 mi_X5_checks ct_X5 (rm' := rmX5_checks) ⟨Nat.le_of_ble_eq_true rfl, Nat.le_of_ble_eq_true rfl⟩ ⟨Nat.le_refl 0, Nat.le_refl 0⟩ (As := [aI s1]) (rest := []) rfl rfl (Nat.le_of_ble_eq_true rfl) hk (fun a3 hk => m_X5_checks F.ok a3 s1 h _ hk)) ⟨rfl, rfl⟩ fun x2 h1 hk =>
g_zret F dX5_checksBoth_25 (Nat.le_refl 0) (Nat.le_refl 0) hk.1 hk.2
theorem s_X5_checksBoth_j21 {x : Cx} (F : Fx x cX5_checksBoth "LockstepRoomModel" 3 (some .boolean) rmX5_checksBoth) {v0 : Nat} {Q : Int32 → hH → Prop} (s0 : Option Nat) (h : hH) (hk : f_X5_checksBoth_j21 x.S.E v0 Q s0 h) : G x (xQ x rmX5_checksBoth (qI Q)) 21 [] [aR s0] h 0 0 := by
  unfold f_X5_checksBoth_j21 at hk
  exact g_iconst F dX5_checksBoth_21 ic_0 <|
s_X5_checksBoth_j22 F s0 (0:Int32) h hk 
theorem m_X5_checksBoth {S : Sx} (hS0 : Sok S) (v0 : Nat) (v1 : Int32) (v2 : Int32) (h : hH) (Q : Int32 → hH → Prop) (hk : f_X5_checksBoth S.E v0 v1 v2 h Q) : Ct S yX5_checksBoth (ws_ yX5_checksBoth cX5_checksBoth 3 (some .boolean)) rmX5_checksBoth ([aR (some v0), aI v1, aI v2].map vv) h (qI Q) := by
  refine Ct.of hS0 (by decide +kernel) rfl (Nat.le_of_ble_eq_true rfl) fun x hxS F hnm => ?_
  subst hxS
  unfold f_X5_checksBoth at hk
  exact g_aload_n F dX5_checksBoth_0 rfl 0 rfl <|
g_aload_n F dX5_checksBoth_1 rfl 0 rfl <|
g_iload_n F dX5_checksBoth_2 rfl 1 rfl <|
g_calli0 (g_V F dX5_checksBoth_3 q3254 mi_X5_isMember ct_X5 (rm' := rmX5_isMember) ⟨Nat.le_of_ble_eq_true rfl, Nat.le_of_ble_eq_true rfl⟩ ⟨Nat.le_refl 0, Nat.le_refl 0⟩ (As := [aI v1]) (rest := [aR (some v0)]) rfl rfl (Nat.le_of_ble_eq_true rfl) hk (fun a6 hk => m_X5_isMember F.ok a6 v1 h _ hk)) ⟨rfl, rfl⟩ fun x5 h4 hk =>
g_if_eq F dX5_checksBoth_6 (tgt := 21) rfl (fun hc => have hk := hk.1 hc
G.fewer [] rfl <| s_X5_checksBoth_j21 F (some v0) h4 hk ) (fun hc => have hk := hk.2 hc
g_aload_n F dX5_checksBoth_9 rfl 0 rfl <|
g_iload_n F dX5_checksBoth_10 rfl 2 rfl <|
g_calli0 (g_V F dX5_checksBoth_11 q3254 mi_X5_isMember ct_X5 (rm' := rmX5_isMember) ⟨Nat.le_of_ble_eq_true rfl, Nat.le_of_ble_eq_true rfl⟩ ⟨Nat.le_refl 0, Nat.le_refl 0⟩ (As := [aI v2]) (rest := [aR (some v0)]) rfl rfl (Nat.le_of_ble_eq_true rfl) hk (fun a9 hk => m_X5_isMember F.ok a9 v2 h4 _ hk)) ⟨rfl, rfl⟩ fun x8 h7 hk =>
g_if_eq F dX5_checksBoth_14 (tgt := 21) rfl (fun hc => have hk := hk.1 hc
G.fewer [] rfl <| s_X5_checksBoth_j21 F (some v0) h7 hk ) (fun hc => have hk := hk.2 hc
g_iconst F dX5_checksBoth_17 ic_1 <|
g_goto F dX5_checksBoth_18 (tgt := 22) rfl <|
G.fewer [] rfl <| s_X5_checksBoth_j22 F (some v0) (1:Int32) h7 hk ))
abbrev rmX5_lowCommon : Room := { frames := 3, cells := 0, slots := 0, locals := 62 }
theorem m_X5_lowCommon {S : Sx} (hS0 : Sok S) (v0 : Nat) (v1 : Int32) (v2 : Int32) (h : hH) (Q : Int32 → hH → Prop) (hk : f_X5_lowCommon S.E v0 v1 v2 h Q) : Ct S yX5_lowCommon (ws_ yX5_lowCommon cX5_lowCommon 3 (some .int)) rmX5_lowCommon ([aR (some v0), aI v1, aI v2].map vv) h (qI Q) := by
  refine Ct.of hS0 (by decide +kernel) rfl (Nat.le_of_ble_eq_true rfl) fun x hxS F hnm => ?_
  subst hxS
  unfold f_X5_lowCommon at hk
  exact g_aload_n F dX5_lowCommon_0 rfl 0 rfl <|
g_iload_n F dX5_lowCommon_1 rfl 1 rfl <|
g_bipush F dX5_lowCommon_2 bp_6 <|
g_calli0 (g_V F dX5_lowCommon_4 q3214 mi_X5_of ct_X5 (rm' := rmX5_of) ⟨Nat.le_of_ble_eq_true rfl, Nat.le_of_ble_eq_true rfl⟩ ⟨Nat.le_refl 0, Nat.le_refl 0⟩ (As := [aI v1, aI (6:Int32)]) (rest := []) rfl rfl (Nat.le_of_ble_eq_true rfl) hk (fun a3 hk => m_X5_of F.ok a3 v1 (6:Int32) h _ hk)) ⟨rfl, rfl⟩ fun x2 h1 hk =>
g_aload_n F dX5_lowCommon_7 rfl 0 rfl <|
g_iload_n F dX5_lowCommon_8 rfl 2 rfl <|
g_bipush F dX5_lowCommon_9 bp_6 <|
g_calli0 (g_V F dX5_lowCommon_11 q3214 mi_X5_of ct_X5 (rm' := rmX5_of) ⟨Nat.le_of_ble_eq_true rfl, Nat.le_of_ble_eq_true rfl⟩ ⟨Nat.le_refl 0, Nat.le_refl 0⟩ (As := [aI v2, aI (6:Int32)]) (rest := [aI x2]) rfl rfl (Nat.le_of_ble_eq_true rfl) hk (fun a6 hk => m_X5_of F.ok a6 v2 (6:Int32) h1 _ hk)) ⟨rfl, rfl⟩ fun x5 h4 hk =>
g_mmax (rest := []) F dX5_lowCommon_14 q3328 q540 q130 q541 (Nat.le_of_ble_eq_true rfl) (Nat.le_of_ble_eq_true rfl) (Nat.le_refl 0) (Nat.le_refl 0) <|
g_iret F dX5_lowCommon_17 (Nat.le_refl 0) (Nat.le_refl 0) hk
abbrev rmX5_highCommon : Room := { frames := 4, cells := 0, slots := 0, locals := 83 }
theorem m_X5_highCommon {S : Sx} (hS0 : Sok S) (v0 : Nat) (v1 : Int32) (v2 : Int32) (h : hH) (Q : Int32 → hH → Prop) (hk : f_X5_highCommon S.E v0 v1 v2 h Q) : Ct S yX5_highCommon (ws_ yX5_highCommon cX5_highCommon 3 (some .int)) rmX5_highCommon ([aR (some v0), aI v1, aI v2].map vv) h (qI Q) := by
  refine Ct.of hS0 (by decide +kernel) rfl (Nat.le_of_ble_eq_true rfl) fun x hxS F hnm => ?_
  subst hxS
  unfold f_X5_highCommon at hk
  exact g_aload_n F dX5_highCommon_0 rfl 0 rfl <|
g_iload_n F dX5_highCommon_1 rfl 1 rfl <|
g_calli0 (g_V F dX5_highCommon_2 q3210 mi_X5_turnsDone ct_X5 (rm' := rmX5_turnsDone) ⟨Nat.le_of_ble_eq_true rfl, Nat.le_of_ble_eq_true rfl⟩ ⟨Nat.le_refl 0, Nat.le_refl 0⟩ (As := [aI v1]) (rest := []) rfl rfl (Nat.le_of_ble_eq_true rfl) hk (fun a3 hk => m_X5_turnsDone F.ok a3 v1 h _ hk)) ⟨rfl, rfl⟩ fun x2 h1 hk =>
g_aload_n F dX5_highCommon_5 rfl 0 rfl <|
g_iload_n F dX5_highCommon_6 rfl 2 rfl <|
g_calli0 (g_V F dX5_highCommon_7 q3210 mi_X5_turnsDone ct_X5 (rm' := rmX5_turnsDone) ⟨Nat.le_of_ble_eq_true rfl, Nat.le_of_ble_eq_true rfl⟩ ⟨Nat.le_refl 0, Nat.le_refl 0⟩ (As := [aI v2]) (rest := [aI x2]) rfl rfl (Nat.le_of_ble_eq_true rfl) hk (fun a6 hk => m_X5_turnsDone F.ok a6 v2 h1 _ hk)) ⟨rfl, rfl⟩ fun x5 h4 hk =>
g_mmin (rest := []) F dX5_highCommon_10 q3333 q556 q130 q557 (Nat.le_of_ble_eq_true rfl) (Nat.le_of_ble_eq_true rfl) (Nat.le_refl 0) (Nat.le_refl 0) <|
g_iret F dX5_highCommon_13 (Nat.le_refl 0) (Nat.le_refl 0) hk
abbrev rmX5_differ : Room := { frames := 4, cells := 0, slots := 0, locals := 84 }
theorem m_X5_differ {S : Sx} (hS0 : Sok S) (v0 : Nat) (v1 : Int32) (v2 : Int32) (v3 : Int32) (h : hH) (Q : Int32 → hH → Prop) (hk : f_X5_differ S.E v0 v1 v2 v3 h Q) : Ct S yX5_differ (ws_ yX5_differ cX5_differ 4 (some .boolean)) rmX5_differ ([aR (some v0), aI v1, aI v2, aI v3].map vv) h (qI Q) := by
  refine Ct.of hS0 (by decide +kernel) rfl (Nat.le_of_ble_eq_true rfl) fun x hxS F hnm => ?_
  subst hxS
  unfold f_X5_differ at hk
  exact g_aload_n F dX5_differ_0 rfl 0 rfl <|
g_iload_n F dX5_differ_1 rfl 1 rfl <|
g_iload_n F dX5_differ_2 rfl 3 rfl <|
g_calli0 (g_V F dX5_differ_3 q3308 mi_X5_record ct_X5 (rm' := rmX5_record) ⟨Nat.le_of_ble_eq_true rfl, Nat.le_of_ble_eq_true rfl⟩ ⟨Nat.le_refl 0, Nat.le_refl 0⟩ (As := [aI v1, aI v3]) (rest := []) rfl rfl (Nat.le_of_ble_eq_true rfl) hk (fun a3 hk => m_X5_record F.ok a3 v1 v3 h _ hk)) ⟨rfl, rfl⟩ fun x2 h1 hk =>
g_aload_n F dX5_differ_6 rfl 0 rfl <|
g_iload_n F dX5_differ_7 rfl 2 rfl <|
g_iload_n F dX5_differ_8 rfl 3 rfl <|
g_calli0 (g_V F dX5_differ_9 q3308 mi_X5_record ct_X5 (rm' := rmX5_record) ⟨Nat.le_of_ble_eq_true rfl, Nat.le_of_ble_eq_true rfl⟩ ⟨Nat.le_refl 0, Nat.le_refl 0⟩ (As := [aI v2, aI v3]) (rest := [aI x2]) rfl rfl (Nat.le_of_ble_eq_true rfl) hk (fun a6 hk => m_X5_record F.ok a6 v2 v3 h1 _ hk)) ⟨rfl, rfl⟩ fun x5 h4 hk =>
g_icmp_eq F dX5_differ_12 (tgt := 19) rfl (fun hc => have hk := hk.1 hc
g_iconst F dX5_differ_19 ic_0 <|
g_zret F dX5_differ_20 (Nat.le_refl 0) (Nat.le_refl 0) rfl hk) (fun hc => have hk := hk.2 hc
g_iconst F dX5_differ_15 ic_1 <|
g_goto F dX5_differ_16 (tgt := 20) rfl <|
g_zret F dX5_differ_20 (Nat.le_refl 0) (Nat.le_refl 0) rfl hk)
abbrev rmX5_linear : Room := { frames := 5, cells := 0, slots := 0, locals := 107 }
theorem s_X5_linear_l7 {x : Cx} (F : Fx x cX5_linear "LockstepRoomModel" 4 (some .int) rmX5_linear) {v0 : Nat} {Q : Int32 → hH → Prop} {K27 : Int32 → hH → Prop} {K35 : hH → Prop} (n : Nat) (l1 : Int32) (l2 : Int32) (l3 : Int32) (h : hH) (hk : f_X5_linear_l7 x.S.E v0 Q K27 K35 n l1 l2 l3 h) (hK27 : ∀ (l3 : Int32) (h : hH), K27 l3 h → G x (xQ x rmX5_linear (qI Q)) 27 [(3, aI l3)] [] h 0 0) (hK35 : ∀ (h : hH), K35 h → G x (xQ x rmX5_linear (qI Q)) 35 [] [] h 0 0) : G x (xQ x rmX5_linear (qI Q)) 7 [(0, aR (some v0)), (1, aI l1), (2, aI l2), (3, aI l3)] [] h 0 0 := by
  induction n generalizing l1 l2 l3 h with
  | zero => exact False.elim hk
  | succ n ih =>
    unfold f_X5_linear_l7 at hk
    exact g_iload_n F dX5_linear_7 rfl 3 rfl <|
g_aload_n F dX5_linear_8 rfl 0 rfl <|
g_iload_n F dX5_linear_9 rfl 1 rfl <|
g_iload_n F dX5_linear_10 rfl 2 rfl <|
g_calli0 (g_V F dX5_linear_11 q3329 mi_X5_highCommon ct_X5 (rm' := rmX5_highCommon) ⟨Nat.le_of_ble_eq_true rfl, Nat.le_of_ble_eq_true rfl⟩ ⟨Nat.le_refl 0, Nat.le_refl 0⟩ (As := [aI l1, aI l2]) (rest := [aI l3]) rfl rfl (Nat.le_of_ble_eq_true rfl) hk (fun a3 hk => m_X5_highCommon F.ok a3 l1 l2 h _ hk)) ⟨rfl, rfl⟩ fun x2 h1 hk =>
g_icmp_gt F dX5_linear_14 (tgt := 35) rfl (fun hc => have hk := hk.1 hc
G.fewer [] rfl <| hK35 h1 hk) (fun hc => have hk := hk.2 hc
g_aload_n F dX5_linear_17 rfl 0 rfl <|
g_iload_n F dX5_linear_18 rfl 1 rfl <|
g_iload_n F dX5_linear_19 rfl 2 rfl <|
g_iload_n F dX5_linear_20 rfl 3 rfl <|
g_calli0 (g_V F dX5_linear_21 q3334 mi_X5_differ ct_X5 (rm' := rmX5_differ) ⟨Nat.le_of_ble_eq_true rfl, Nat.le_of_ble_eq_true rfl⟩ ⟨Nat.le_refl 0, Nat.le_refl 0⟩ (As := [aI l1, aI l2, aI l3]) (rest := []) rfl rfl (Nat.le_of_ble_eq_true rfl) hk (fun a6 hk => m_X5_differ F.ok a6 l1 l2 l3 h1 _ hk)) ⟨rfl, rfl⟩ fun x5 h4 hk =>
g_if_eq F dX5_linear_24 (tgt := 29) rfl (fun hc => have hk := hk.1 hc
g_iinc (v := (l3 + (1:Int32))) F dX5_linear_29 (j := 3) rfl (iinc_1 l3) (Nat.le_of_ble_eq_true rfl) rfl <|
g_goto F dX5_linear_32 (tgt := 7) rfl <|
G.fewer [1, 2, 3, 0] rfl <| ih l1 l2 (l3 + (1:Int32)) h4 hk) (fun hc => have hk := hk.2 hc
G.fewer [3] rfl <| hK27 l3 h4 hk))
theorem m_X5_linear {S : Sx} (hS0 : Sok S) (v0 : Nat) (v1 : Int32) (v2 : Int32) (h : hH) (Q : Int32 → hH → Prop) (hk : f_X5_linear S.E v0 v1 v2 h Q) : Ct S yX5_linear (ws_ yX5_linear cX5_linear 4 (some .int)) rmX5_linear ([aR (some v0), aI v1, aI v2].map vv) h (qI Q) := by
  refine Ct.of hS0 (by decide +kernel) rfl (Nat.le_of_ble_eq_true rfl) fun x hxS F hnm => ?_
  subst hxS
  unfold f_X5_linear at hk
  exact g_aload_n F dX5_linear_0 rfl 0 rfl <|
g_iload_n F dX5_linear_1 rfl 1 rfl <|
g_iload_n F dX5_linear_2 rfl 2 rfl <|
g_calli0 (g_V F dX5_linear_3 q3324 mi_X5_lowCommon ct_X5 (rm' := rmX5_lowCommon) ⟨Nat.le_of_ble_eq_true rfl, Nat.le_of_ble_eq_true rfl⟩ ⟨Nat.le_refl 0, Nat.le_refl 0⟩ (As := [aI v1, aI v2]) (rest := []) rfl rfl (Nat.le_of_ble_eq_true rfl) hk (fun a9 hk => m_X5_lowCommon F.ok a9 v1 v2 h _ hk)) ⟨rfl, rfl⟩ fun x8 h7 hk =>
g_istore_n F dX5_linear_6 rfl (Nat.le_of_ble_eq_true rfl) rfl <|
G.fewer [1, 2, 3, 0] rfl <| s_X5_linear_l7 F 1000000 v1 v2 x8 h7 hk ((fun l3 h hk => g_iload_n F dX5_linear_27 rfl 0 rfl <|
g_iret F dX5_linear_28 (Nat.le_refl 0) (Nat.le_refl 0) hk)) ((fun h hk => g_iconst F dX5_linear_35 ic_m1 <|
g_iret F dX5_linear_36 (Nat.le_refl 0) (Nat.le_refl 0) hk))
abbrev rmX5_firstWrongTurn : Room := { frames := 6, cells := 0, slots := 0, locals := 130 }
theorem m_X5_firstWrongTurn {S : Sx} (hS0 : Sok S) (v0 : Nat) (v1 : Int32) (v2 : Int32) (h : hH) (Q : Int32 → hH → Prop) (hk : f_X5_firstWrongTurn S.E v0 v1 v2 h Q) : Ct S yX5_firstWrongTurn (ws_ yX5_firstWrongTurn cX5_firstWrongTurn 3 (some .int)) rmX5_firstWrongTurn ([aR (some v0), aI v1, aI v2].map vv) h (qI Q) := by
  refine Ct.of hS0 (by decide +kernel) rfl (Nat.le_of_ble_eq_true rfl) fun x hxS F hnm => ?_
  subst hxS
  unfold f_X5_firstWrongTurn at hk
  exact g_aload_n F dX5_firstWrongTurn_0 rfl 0 rfl <|
g_iload_n F dX5_firstWrongTurn_1 rfl 1 rfl <|
g_iload_n F dX5_firstWrongTurn_2 rfl 2 rfl <|
g_calli0 (g_V F dX5_firstWrongTurn_3 q3316 mi_X5_checksBoth ct_X5 (rm' := rmX5_checksBoth) ⟨Nat.le_of_ble_eq_true rfl, Nat.le_of_ble_eq_true rfl⟩ ⟨Nat.le_refl 0, Nat.le_refl 0⟩ (As := [aI v1, aI v2]) (rest := []) rfl rfl (Nat.le_of_ble_eq_true rfl) hk (fun a3 hk => m_X5_checksBoth F.ok a3 v1 v2 h _ hk)) ⟨rfl, rfl⟩ fun x2 h1 hk =>
g_if_eq F dX5_firstWrongTurn_6 (tgt := 18) rfl (fun hc => have hk := hk.1 hc
g_iconst F dX5_firstWrongTurn_18 ic_0 <|
g_iret F dX5_firstWrongTurn_19 (Nat.le_refl 0) (Nat.le_refl 0) hk) (fun hc => have hk := hk.2 hc
g_aload_n F dX5_firstWrongTurn_9 rfl 0 rfl <|
g_iload_n F dX5_firstWrongTurn_10 rfl 1 rfl <|
g_iload_n F dX5_firstWrongTurn_11 rfl 2 rfl <|
g_calli0 (g_V F dX5_firstWrongTurn_12 q3320 mi_X5_linear ct_X5 (rm' := rmX5_linear) ⟨Nat.le_of_ble_eq_true rfl, Nat.le_of_ble_eq_true rfl⟩ ⟨Nat.le_refl 0, Nat.le_refl 0⟩ (As := [aI v1, aI v2]) (rest := []) rfl rfl (Nat.le_of_ble_eq_true rfl) hk (fun a6 hk => m_X5_linear F.ok a6 v1 v2 h1 _ hk)) ⟨rfl, rfl⟩ fun x5 h4 hk =>
g_goto F dX5_firstWrongTurn_15 (tgt := 19) rfl <|
g_iret F dX5_firstWrongTurn_19 (Nat.le_refl 0) (Nat.le_refl 0) hk)
abbrev rmX5_halved : Room := { frames := 5, cells := 0, slots := 0, locals := 107 }
theorem s_X5_halved_l34 {x : Cx} (F : Fx x cX5_halved "LockstepRoomModel" 6 (some .int) rmX5_halved) {v0 : Nat} {Q : Int32 → hH → Prop} {K74 : Int32 → hH → Prop} (n : Nat) (l1 : Int32) (l2 : Int32) (l3 : Int32) (l4 : Int32) (h : hH) (hk : f_X5_halved_l34 x.S.E v0 Q K74 n l1 l2 l3 l4 h) (hK74 : ∀ (l3 : Int32) (h : hH), K74 l3 h → G x (xQ x rmX5_halved (qI Q)) 74 [(3, aI l3)] [] h 0 0) : G x (xQ x rmX5_halved (qI Q)) 34 [(0, aR (some v0)), (1, aI l1), (2, aI l2), (3, aI l3), (4, aI l4)] [] h 0 0 := by
  induction n generalizing l1 l2 l3 l4 h with
  | zero => exact False.elim hk
  | succ n ih =>
    unfold f_X5_halved_l34 at hk
    exact g_iload_n F dX5_halved_34 rfl 3 rfl <|
g_iload F dX5_halved_35 4 rfl <|
g_icmp_ge F dX5_halved_37 (tgt := 74) rfl (fun hc => have hk := hk.1 hc
G.fewer [3] rfl <| hK74 l3 h hk) (fun hc => have hk := hk.2 hc
g_iload_n F dX5_halved_40 rfl 3 rfl <|
g_iload F dX5_halved_41 4 rfl <|
g_iadd F dX5_halved_43 <|
g_iconst F dX5_halved_44 ic_2 <|
g_idiv F dX5_halved_45 nz_2_Int32 <|
g_istore F dX5_halved_46 (Nat.le_of_ble_eq_true rfl) rfl <|
g_aload_n F dX5_halved_48 rfl 1 rfl <|
g_iload_n F dX5_halved_49 rfl 2 rfl <|
g_iload_n F dX5_halved_50 rfl 3 rfl <|
g_iload F dX5_halved_51 0 rfl <|
g_calli0 (g_V F dX5_halved_53 q3334 mi_X5_differ ct_X5 (rm' := rmX5_differ) ⟨Nat.le_of_ble_eq_true rfl, Nat.le_of_ble_eq_true rfl⟩ ⟨Nat.le_refl 0, Nat.le_refl 0⟩ (As := [aI l1, aI l2, aI ((l3 + l4) / (2:Int32))]) (rest := []) rfl rfl (Nat.le_of_ble_eq_true rfl) hk (fun a3 hk => m_X5_differ F.ok a3 l1 l2 ((l3 + l4) / (2:Int32)) h _ hk)) ⟨rfl, rfl⟩ fun x2 h1 hk =>
g_if_eq F dX5_halved_56 (tgt := 66) rfl (fun hc => have hk := hk.1 hc
g_iload F dX5_halved_66 0 rfl <|
g_iconst F dX5_halved_68 ic_1 <|
g_iadd F dX5_halved_69 <|
g_istore_n F dX5_halved_70 rfl (Nat.le_of_ble_eq_true rfl) rfl <|
g_goto F dX5_halved_71 (tgt := 34) rfl <|
G.fewer [2, 3, 4, 0, 5] rfl <| ih l1 l2 (((l3 + l4) / (2:Int32)) + (1:Int32)) l4 h1 hk) (fun hc => have hk := hk.2 hc
g_iload F dX5_halved_59 0 rfl <|
g_istore F dX5_halved_61 (Nat.le_of_ble_eq_true rfl) rfl <|
g_goto F dX5_halved_63 (tgt := 71) rfl <|
g_goto F dX5_halved_71 (tgt := 34) rfl <|
G.fewer [2, 3, 4, 5, 0] rfl <| ih l1 l2 l3 ((l3 + l4) / (2:Int32)) h1 hk))
theorem m_X5_halved {S : Sx} (hS0 : Sok S) (v0 : Nat) (v1 : Int32) (v2 : Int32) (h : hH) (Q : Int32 → hH → Prop) (hk : f_X5_halved S.E v0 v1 v2 h Q) : Ct S yX5_halved (ws_ yX5_halved cX5_halved 6 (some .int)) rmX5_halved ([aR (some v0), aI v1, aI v2].map vv) h (qI Q) := by
  refine Ct.of hS0 (by decide +kernel) rfl (Nat.le_of_ble_eq_true rfl) fun x hxS F hnm => ?_
  subst hxS
  unfold f_X5_halved at hk
  exact g_aload_n F dX5_halved_0 rfl 0 rfl <|
g_iload_n F dX5_halved_1 rfl 1 rfl <|
g_iload_n F dX5_halved_2 rfl 2 rfl <|
g_calli0 (g_V F dX5_halved_3 q3324 mi_X5_lowCommon ct_X5 (rm' := rmX5_lowCommon) ⟨Nat.le_of_ble_eq_true rfl, Nat.le_of_ble_eq_true rfl⟩ ⟨Nat.le_refl 0, Nat.le_refl 0⟩ (As := [aI v1, aI v2]) (rest := []) rfl rfl (Nat.le_of_ble_eq_true rfl) hk (fun a6 hk => m_X5_lowCommon F.ok a6 v1 v2 h _ hk)) ⟨rfl, rfl⟩ fun x5 h4 hk =>
g_istore_n F dX5_halved_6 rfl (Nat.le_of_ble_eq_true rfl) rfl <|
g_aload_n F dX5_halved_7 rfl 1 rfl <|
g_iload_n F dX5_halved_8 rfl 2 rfl <|
g_iload_n F dX5_halved_9 rfl 3 rfl <|
g_calli0 (g_V F dX5_halved_10 q3329 mi_X5_highCommon ct_X5 (rm' := rmX5_highCommon) ⟨Nat.le_of_ble_eq_true rfl, Nat.le_of_ble_eq_true rfl⟩ ⟨Nat.le_refl 0, Nat.le_refl 0⟩ (As := [aI v1, aI v2]) (rest := []) rfl rfl (Nat.le_of_ble_eq_true rfl) hk (fun a9 hk => m_X5_highCommon F.ok a9 v1 v2 h4 _ hk)) ⟨rfl, rfl⟩ fun x8 h7 hk =>
g_istore F dX5_halved_13 (Nat.le_of_ble_eq_true rfl) rfl <|
g_iload_n F dX5_halved_15 rfl 1 rfl <|
g_iload F dX5_halved_16 0 rfl <|
g_icmp_gt F dX5_halved_18 (tgt := 32) rfl (fun hc => have hk := hk.1 hc
g_iconst F dX5_halved_32 ic_m1 <|
g_iret F dX5_halved_33 (Nat.le_refl 0) (Nat.le_refl 0) hk) (fun hc => have hk := hk.2 hc
g_aload_n F dX5_halved_21 rfl 2 rfl <|
g_iload_n F dX5_halved_22 rfl 3 rfl <|
g_iload_n F dX5_halved_23 rfl 4 rfl <|
g_iload F dX5_halved_24 0 rfl <|
g_calli0 (g_V F dX5_halved_26 q3334 mi_X5_differ ct_X5 (rm' := rmX5_differ) ⟨Nat.le_of_ble_eq_true rfl, Nat.le_of_ble_eq_true rfl⟩ ⟨Nat.le_refl 0, Nat.le_refl 0⟩ (As := [aI v1, aI v2, aI x8]) (rest := []) rfl rfl (Nat.le_of_ble_eq_true rfl) hk (fun a12 hk => m_X5_differ F.ok a12 v1 v2 x8 h7 _ hk)) ⟨rfl, rfl⟩ fun x11 h10 hk =>
g_if_ne F dX5_halved_29 (tgt := 34) rfl (fun hc => have hk := hk.2 hc
G.fewer [2, 3, 4, 1, 0] rfl <| s_X5_halved_l34 F 1000000 v1 v2 x5 x8 h10 hk ((fun l3 h hk => g_iload_n F dX5_halved_74 rfl 0 rfl <|
g_iret F dX5_halved_75 (Nat.le_refl 0) (Nat.le_refl 0) hk))) (fun hc => have hk := hk.1 hc
g_iconst F dX5_halved_32 ic_m1 <|
g_iret F dX5_halved_33 (Nat.le_refl 0) (Nat.le_refl 0) hk))
abbrev rmX5_halvedTurn : Room := { frames := 6, cells := 0, slots := 0, locals := 132 }
theorem m_X5_halvedTurn {S : Sx} (hS0 : Sok S) (v0 : Nat) (v1 : Int32) (v2 : Int32) (h : hH) (Q : Int32 → hH → Prop) (hk : f_X5_halvedTurn S.E v0 v1 v2 h Q) : Ct S yX5_halvedTurn (ws_ yX5_halvedTurn cX5_halvedTurn 3 (some .int)) rmX5_halvedTurn ([aR (some v0), aI v1, aI v2].map vv) h (qI Q) := by
  refine Ct.of hS0 (by decide +kernel) rfl (Nat.le_of_ble_eq_true rfl) fun x hxS F hnm => ?_
  subst hxS
  unfold f_X5_halvedTurn at hk
  exact g_aload_n F dX5_halvedTurn_0 rfl 0 rfl <|
g_iload_n F dX5_halvedTurn_1 rfl 1 rfl <|
g_iload_n F dX5_halvedTurn_2 rfl 2 rfl <|
g_calli0 (g_V F dX5_halvedTurn_3 q3316 mi_X5_checksBoth ct_X5 (rm' := rmX5_checksBoth) ⟨Nat.le_of_ble_eq_true rfl, Nat.le_of_ble_eq_true rfl⟩ ⟨Nat.le_refl 0, Nat.le_refl 0⟩ (As := [aI v1, aI v2]) (rest := []) rfl rfl (Nat.le_of_ble_eq_true rfl) hk (fun a3 hk => m_X5_checksBoth F.ok a3 v1 v2 h _ hk)) ⟨rfl, rfl⟩ fun x2 h1 hk =>
g_if_eq F dX5_halvedTurn_6 (tgt := 18) rfl (fun hc => have hk := hk.1 hc
g_iconst F dX5_halvedTurn_18 ic_0 <|
g_iret F dX5_halvedTurn_19 (Nat.le_refl 0) (Nat.le_refl 0) hk) (fun hc => have hk := hk.2 hc
g_aload_n F dX5_halvedTurn_9 rfl 0 rfl <|
g_iload_n F dX5_halvedTurn_10 rfl 1 rfl <|
g_iload_n F dX5_halvedTurn_11 rfl 2 rfl <|
g_calli0 (g_V F dX5_halvedTurn_12 q3342 mi_X5_halved ct_X5 (rm' := rmX5_halved) ⟨Nat.le_of_ble_eq_true rfl, Nat.le_of_ble_eq_true rfl⟩ ⟨Nat.le_refl 0, Nat.le_refl 0⟩ (As := [aI v1, aI v2]) (rest := []) rfl rfl (Nat.le_of_ble_eq_true rfl) hk (fun a6 hk => m_X5_halved F.ok a6 v1 v2 h1 _ hk)) ⟨rfl, rfl⟩ fun x5 h4 hk =>
g_goto F dX5_halvedTurn_15 (tgt := 19) rfl <|
g_iret F dX5_halvedTurn_19 (Nat.le_refl 0) (Nat.le_refl 0) hk)
abbrev rmX5_isHalvingRight : Room := { frames := 6, cells := 0, slots := 0, locals := 132 }
theorem m_X5_isHalvingRight {S : Sx} (hS0 : Sok S) (v0 : Nat) (v1 : Int32) (v2 : Int32) (h : hH) (Q : Int32 → hH → Prop) (hk : f_X5_isHalvingRight S.E v0 v1 v2 h Q) : Ct S yX5_isHalvingRight (ws_ yX5_isHalvingRight cX5_isHalvingRight 3 (some .boolean)) rmX5_isHalvingRight ([aR (some v0), aI v1, aI v2].map vv) h (qI Q) := by
  refine Ct.of hS0 (by decide +kernel) rfl (Nat.le_of_ble_eq_true rfl) fun x hxS F hnm => ?_
  subst hxS
  unfold f_X5_isHalvingRight at hk
  exact g_aload_n F dX5_isHalvingRight_0 rfl 0 rfl <|
g_iload_n F dX5_isHalvingRight_1 rfl 1 rfl <|
g_iload_n F dX5_isHalvingRight_2 rfl 2 rfl <|
g_calli0 (g_V F dX5_isHalvingRight_3 q3316 mi_X5_checksBoth ct_X5 (rm' := rmX5_checksBoth) ⟨Nat.le_of_ble_eq_true rfl, Nat.le_of_ble_eq_true rfl⟩ ⟨Nat.le_refl 0, Nat.le_refl 0⟩ (As := [aI v1, aI v2]) (rest := []) rfl rfl (Nat.le_of_ble_eq_true rfl) hk (fun a3 hk => m_X5_checksBoth F.ok a3 v1 v2 h _ hk)) ⟨rfl, rfl⟩ fun x2 h1 hk =>
g_if_eq F dX5_isHalvingRight_6 (tgt := 28) rfl (fun hc => have hk := hk.1 hc
g_iconst F dX5_isHalvingRight_28 ic_0 <|
g_zret F dX5_isHalvingRight_29 (Nat.le_refl 0) (Nat.le_refl 0) rfl hk) (fun hc => have hk := hk.2 hc
g_aload_n F dX5_isHalvingRight_9 rfl 0 rfl <|
g_iload_n F dX5_isHalvingRight_10 rfl 1 rfl <|
g_iload_n F dX5_isHalvingRight_11 rfl 2 rfl <|
g_calli0 (g_V F dX5_isHalvingRight_12 q3342 mi_X5_halved ct_X5 (rm' := rmX5_halved) ⟨Nat.le_of_ble_eq_true rfl, Nat.le_of_ble_eq_true rfl⟩ ⟨Nat.le_refl 0, Nat.le_refl 0⟩ (As := [aI v1, aI v2]) (rest := []) rfl rfl (Nat.le_of_ble_eq_true rfl) hk (fun a6 hk => m_X5_halved F.ok a6 v1 v2 h1 _ hk)) ⟨rfl, rfl⟩ fun x5 h4 hk =>
g_aload_n F dX5_isHalvingRight_15 rfl 0 rfl <|
g_iload_n F dX5_isHalvingRight_16 rfl 1 rfl <|
g_iload_n F dX5_isHalvingRight_17 rfl 2 rfl <|
g_calli0 (g_V F dX5_isHalvingRight_18 q3320 mi_X5_linear ct_X5 (rm' := rmX5_linear) ⟨Nat.le_of_ble_eq_true rfl, Nat.le_of_ble_eq_true rfl⟩ ⟨Nat.le_refl 0, Nat.le_refl 0⟩ (As := [aI v1, aI v2]) (rest := [aI x5]) rfl rfl (Nat.le_of_ble_eq_true rfl) hk (fun a9 hk => m_X5_linear F.ok a9 v1 v2 h4 _ hk)) ⟨rfl, rfl⟩ fun x8 h7 hk =>
g_icmp_ne F dX5_isHalvingRight_21 (tgt := 28) rfl (fun hc => have hk := hk.2 hc
g_iconst F dX5_isHalvingRight_28 ic_0 <|
g_zret F dX5_isHalvingRight_29 (Nat.le_refl 0) (Nat.le_refl 0) rfl hk) (fun hc => have hk := hk.1 hc
g_iconst F dX5_isHalvingRight_24 ic_1 <|
g_goto F dX5_isHalvingRight_25 (tgt := 29) rfl <|
g_zret F dX5_isHalvingRight_29 (Nat.le_refl 0) (Nat.le_refl 0) rfl hk))
abbrev rmX5_laysBoth : Room := { frames := 4, cells := 0, slots := 0, locals := 84 }
theorem m_X5_laysBoth {S : Sx} (hS0 : Sok S) (v0 : Nat) (v1 : Int32) (v2 : Int32) (h : hH) (Q : hH → Prop) (hk : f_X5_laysBoth S.E v0 v1 v2 h Q) : Ct S yX5_laysBoth (ws_ yX5_laysBoth cX5_laysBoth 3 none) rmX5_laysBoth ([aR (some v0), aI v1, aI v2].map vv) h (qV Q) := by
  refine Ct.of hS0 (by decide +kernel) rfl (Nat.le_of_ble_eq_true rfl) fun x hxS F hnm => ?_
  subst hxS
  unfold f_X5_laysBoth at hk
  exact g_aload_n F dX5_laysBoth_0 rfl 0 rfl <|
g_iload_n F dX5_laysBoth_1 rfl 1 rfl <|
g_callv0 (g_V F dX5_laysBoth_2 q3222 mi_X5_takesCells ct_X5 (rm' := rmX5_takesCells) ⟨Nat.le_of_ble_eq_true rfl, Nat.le_of_ble_eq_true rfl⟩ ⟨Nat.le_refl 0, Nat.le_refl 0⟩ (As := [aI v1]) (rest := []) rfl rfl (Nat.le_of_ble_eq_true rfl) hk (fun a2 hk => m_X5_takesCells F.ok a2 v1 h _ hk)) ⟨rfl, rfl⟩ fun h1 hk =>
g_aload_n F dX5_laysBoth_5 rfl 0 rfl <|
g_aload_n F dX5_laysBoth_6 rfl 0 rfl <|
g_getR F dX5_laysBoth_7 fo_X5_10_LockstepRoomModel in_X5 fl_LockstepRoomModel_31_X5 hk fun x3 hk =>
g_callv0 (g_V F dX5_laysBoth_10 q3226 mi_X5_laysTree ct_X5 (rm' := rmX5_laysTree) ⟨Nat.le_of_ble_eq_true rfl, Nat.le_of_ble_eq_true rfl⟩ ⟨Nat.le_refl 0, Nat.le_refl 0⟩ (As := [aR x3]) (rest := []) rfl rfl (Nat.le_of_ble_eq_true rfl) hk (fun a5 hk => m_X5_laysTree F.ok a5 x3 h1 _ hk)) ⟨rfl, rfl⟩ fun h4 hk =>
g_aload_n F dX5_laysBoth_13 rfl 0 rfl <|
g_iload_n F dX5_laysBoth_14 rfl 2 rfl <|
g_callv0 (g_V F dX5_laysBoth_15 q3222 mi_X5_takesCells ct_X5 (rm' := rmX5_takesCells) ⟨Nat.le_of_ble_eq_true rfl, Nat.le_of_ble_eq_true rfl⟩ ⟨Nat.le_refl 0, Nat.le_refl 0⟩ (As := [aI v2]) (rest := []) rfl rfl (Nat.le_of_ble_eq_true rfl) hk (fun a7 hk => m_X5_takesCells F.ok a7 v2 h4 _ hk)) ⟨rfl, rfl⟩ fun h6 hk =>
g_aload_n F dX5_laysBoth_18 rfl 0 rfl <|
g_aload_n F dX5_laysBoth_19 rfl 0 rfl <|
g_getR F dX5_laysBoth_20 fo_X5_11_LockstepRoomModel in_X5 fl_LockstepRoomModel_34_X5 hk fun x8 hk =>
g_callv0 (g_V F dX5_laysBoth_23 q3226 mi_X5_laysTree ct_X5 (rm' := rmX5_laysTree) ⟨Nat.le_of_ble_eq_true rfl, Nat.le_of_ble_eq_true rfl⟩ ⟨Nat.le_refl 0, Nat.le_refl 0⟩ (As := [aR x8]) (rest := []) rfl rfl (Nat.le_of_ble_eq_true rfl) hk (fun a10 hk => m_X5_laysTree F.ok a10 x8 h6 _ hk)) ⟨rfl, rfl⟩ fun h9 hk =>
g_vret F dX5_laysBoth_26 (Nat.le_refl 0) (Nat.le_refl 0) hk
abbrev rmX5_goesDown (d : Nat) : Room := { frames := 2 + d, cells := 0, slots := 0, locals := 40 + d * 21 }
theorem m_X5_goesDown {S : Sx} (hS0 : Sok S) (d : Nat) (v0 : Nat) (v1 : Int32) (h : hH) (Q : hH → Prop) (hk : f_X5_goesDown S.E d v0 v1 h Q) : Ct S yX5_goesDown (ws_ yX5_goesDown cX5_goesDown 2 none) (rmX5_goesDown d) ([aR (some v0), aI v1].map vv) h (qV Q) := by
  induction d generalizing v0 v1 h Q with
  | zero => exact False.elim hk
  | succ d ih =>
    refine Ct.of hS0 (by decide +kernel) rfl (Nat.le_of_ble_eq_true rfl) fun x hxS F hnm => ?_
    subst hxS
    unfold f_X5_goesDown at hk
    exact g_aload_n F dX5_goesDown_0 rfl 0 rfl <|
g_dup F dX5_goesDown_1 rfl <|
g_getI F dX5_goesDown_2 fo_X5_13_LockstepRoomModel in_X5 fl_LockstepRoomModel_79_X5 hk fun x1 hk =>
g_iconst F dX5_goesDown_5 ic_1 <|
g_iadd F dX5_goesDown_6 <|
g_putV F dX5_goesDown_7 fo_X5_13_LockstepRoomModel ck_X5 fl_LockstepRoomModel_79_X5 rfl (v := aI (x1 + (1:Int32))) (fit_i (x1 + (1:Int32))) hk fun h2 hk =>
g_aload_n F dX5_goesDown_10 rfl 0 rfl <|
g_getR F dX5_goesDown_11 fo_X5_10_LockstepRoomModel in_X5 fl_LockstepRoomModel_31_X5 hk fun x3 hk =>
g_iload_n F dX5_goesDown_14 rfl 1 rfl <|
g_iald F dX5_goesDown_15 hk fun x4 hk =>
g_aload_n F dX5_goesDown_16 rfl 0 rfl <|
g_getR F dX5_goesDown_17 fo_X5_11_LockstepRoomModel in_X5 fl_LockstepRoomModel_34_X5 hk fun x5 hk =>
g_iload_n F dX5_goesDown_20 rfl 1 rfl <|
g_iald F dX5_goesDown_21 hk fun x6 hk =>
g_icmp_ne F dX5_goesDown_22 (tgt := 26) rfl (fun hc => have hk := hk.2 hc
g_iload_n F dX5_goesDown_26 rfl 1 rfl <|
g_bipush F dX5_goesDown_27 bp_16 <|
g_icmp_lt F dX5_goesDown_29 (tgt := 48) rfl (fun hc => have hk := hk.1 hc
g_aload_n F dX5_goesDown_48 rfl 0 rfl <|
g_iconst F dX5_goesDown_49 ic_2 <|
g_iload_n F dX5_goesDown_50 rfl 1 rfl <|
g_imul F dX5_goesDown_51 <|
g_callv0 (g_V F dX5_goesDown_52 q3362 mi_X5_goesDown ct_X5 (rm' := (rmX5_goesDown d)) ⟨show 2 + d + 1 ≤ 2 + (d + 1) by omega, show 8 + (2 + 11) + (40 + d * 21) ≤ 40 + (d + 1) * 21 by omega⟩ ⟨Nat.le_refl 0, Nat.le_refl 0⟩ (As := [aI ((2:Int32) * v1)]) (rest := []) rfl rfl (Nat.le_of_ble_eq_true rfl) hk (fun a8 hk => ih a8 ((2:Int32) * v1) h2 _ hk)) ⟨rfl, rfl⟩ fun h7 hk =>
g_aload_n F dX5_goesDown_55 rfl 0 rfl <|
g_iconst F dX5_goesDown_56 ic_2 <|
g_iload_n F dX5_goesDown_57 rfl 1 rfl <|
g_imul F dX5_goesDown_58 <|
g_iconst F dX5_goesDown_59 ic_1 <|
g_iadd F dX5_goesDown_60 <|
g_callv0 (g_V F dX5_goesDown_61 q3362 mi_X5_goesDown ct_X5 (rm' := (rmX5_goesDown d)) ⟨show 2 + d + 1 ≤ 2 + (d + 1) by omega, show 8 + (2 + 11) + (40 + d * 21) ≤ 40 + (d + 1) * 21 by omega⟩ ⟨Nat.le_refl 0, Nat.le_refl 0⟩ (As := [aI (((2:Int32) * v1) + (1:Int32))]) (rest := []) rfl rfl (Nat.le_of_ble_eq_true rfl) hk (fun a10 hk => ih a10 (((2:Int32) * v1) + (1:Int32)) h7 _ hk)) ⟨rfl, rfl⟩ fun h9 hk =>
g_vret F dX5_goesDown_64 (Nat.le_refl 0) (Nat.le_refl 0) hk) (fun hc => have hk := hk.2 hc
g_aload_n F dX5_goesDown_32 rfl 0 rfl <|
g_dup F dX5_goesDown_33 rfl <|
g_getI F dX5_goesDown_34 fo_X5_12_LockstepRoomModel in_X5 fl_LockstepRoomModel_82_X5 hk fun x11 hk =>
g_iconst F dX5_goesDown_37 ic_1 <|
g_iload_n F dX5_goesDown_38 rfl 1 rfl <|
g_bipush F dX5_goesDown_39 bp_16 <|
g_isub F dX5_goesDown_41 <|
g_ishl F dX5_goesDown_42 <|
g_ior F dX5_goesDown_43 <|
g_putV F dX5_goesDown_44 fo_X5_12_LockstepRoomModel ck_X5 fl_LockstepRoomModel_82_X5 rfl (v := aI (x11 ||| ((1:Int32) <<< ((v1 - (16:Int32)) &&& 31)))) (fit_i (x11 ||| ((1:Int32) <<< ((v1 - (16:Int32)) &&& 31)))) hk fun h12 hk =>
g_vret F dX5_goesDown_47 (Nat.le_refl 0) (Nat.le_refl 0) hk)) (fun hc => have hk := hk.1 hc
g_vret F dX5_goesDown_25 (Nat.le_refl 0) (Nat.le_refl 0) hk)
abbrev rmX5_compares : Room := { frames := 9, cells := 0, slots := 0, locals := 187 }
theorem m_X5_compares {S : Sx} (hS0 : Sok S) (v0 : Nat) (v1 : Int32) (v2 : Int32) (h : hH) (Q : hH → Prop) (hk : f_X5_compares S.E v0 v1 v2 h Q) : Ct S yX5_compares (ws_ yX5_compares cX5_compares 3 none) rmX5_compares ([aR (some v0), aI v1, aI v2].map vv) h (qV Q) := by
  refine Ct.of hS0 (by decide +kernel) rfl (Nat.le_of_ble_eq_true rfl) fun x hxS F hnm => ?_
  subst hxS
  unfold f_X5_compares at hk
  exact g_aload_n F dX5_compares_0 rfl 0 rfl <|
g_iconst F dX5_compares_1 ic_0 <|
g_putV F dX5_compares_2 fo_X5_12_LockstepRoomModel ck_X5 fl_LockstepRoomModel_82_X5 rfl (v := aI (0:Int32)) (fit_i (0:Int32)) hk fun h1 hk =>
g_aload_n F dX5_compares_5 rfl 0 rfl <|
g_iconst F dX5_compares_6 ic_0 <|
g_putV F dX5_compares_7 fo_X5_13_LockstepRoomModel ck_X5 fl_LockstepRoomModel_79_X5 rfl (v := aI (0:Int32)) (fit_i (0:Int32)) hk fun h2 hk =>
g_aload_n F dX5_compares_10 rfl 0 rfl <|
g_iload_n F dX5_compares_11 rfl 1 rfl <|
g_iload_n F dX5_compares_12 rfl 2 rfl <|
g_callv0 (g_V F dX5_compares_13 q3358 mi_X5_laysBoth ct_X5 (rm' := rmX5_laysBoth) ⟨Nat.le_of_ble_eq_true rfl, Nat.le_of_ble_eq_true rfl⟩ ⟨Nat.le_refl 0, Nat.le_refl 0⟩ (As := [aI v1, aI v2]) (rest := []) rfl rfl (Nat.le_of_ble_eq_true rfl) hk (fun a4 hk => m_X5_laysBoth F.ok a4 v1 v2 h2 _ hk)) ⟨rfl, rfl⟩ fun h3 hk =>
g_aload_n F dX5_compares_16 rfl 0 rfl <|
g_iconst F dX5_compares_17 ic_1 <|
g_callv0 (g_V F dX5_compares_18 q3362 mi_X5_goesDown ct_X5 (rm' := (rmX5_goesDown 6)) ⟨Nat.le_of_ble_eq_true rfl, Nat.le_of_ble_eq_true rfl⟩ ⟨Nat.le_refl 0, Nat.le_refl 0⟩ (As := [aI (1:Int32)]) (rest := []) rfl rfl (Nat.le_of_ble_eq_true rfl) hk (fun a6 hk => m_X5_goesDown F.ok 6 a6 (1:Int32) h3 _ hk)) ⟨rfl, rfl⟩ fun h5 hk =>
g_vret F dX5_compares_21 (Nat.le_refl 0) (Nat.le_refl 0) hk
abbrev rmX5_firstWrongCell : Room := { frames := 10, cells := 0, slots := 0, locals := 209 }
theorem s_X5_firstWrongCell_l35 {x : Cx} (F : Fx x cX5_firstWrongCell "LockstepRoomModel" 4 (some .int) rmX5_firstWrongCell) {v0 : Nat} {Q : Int32 → hH → Prop} {K58 : Int32 → hH → Prop} (n : Nat) (l3 : Int32) (h : hH) (hk : f_X5_firstWrongCell_l35 x.S.E v0 Q K58 n l3 h) (hK58 : ∀ (l3 : Int32) (h : hH), K58 l3 h → G x (xQ x rmX5_firstWrongCell (qI Q)) 58 [(3, aI l3)] [] h 0 0) : G x (xQ x rmX5_firstWrongCell (qI Q)) 35 [(0, aR (some v0)), (3, aI l3)] [] h 0 0 := by
  induction n generalizing l3 h with
  | zero => exact False.elim hk
  | succ n ih =>
    unfold f_X5_firstWrongCell_l35 at hk
    exact g_iload_n F dX5_firstWrongCell_35 rfl 1 rfl <|
g_bipush F dX5_firstWrongCell_36 bp_16 <|
g_icmp_ge F dX5_firstWrongCell_38 (tgt := 58) rfl (fun hc => have hk := hk.1 hc
G.fewer [1] rfl <| hK58 l3 h hk) (fun hc => have hk := hk.2 hc
g_aload_n F dX5_firstWrongCell_41 rfl 0 rfl <|
g_getI F dX5_firstWrongCell_42 fo_X5_12_LockstepRoomModel in_X5 fl_LockstepRoomModel_82_X5 hk fun x1 hk =>
g_iload_n F dX5_firstWrongCell_45 rfl 1 rfl <|
g_ishr F dX5_firstWrongCell_46 <|
g_iconst F dX5_firstWrongCell_47 ic_1 <|
g_iand F dX5_firstWrongCell_48 <|
g_if_ne F dX5_firstWrongCell_49 (tgt := 58) rfl (fun hc => have hk := hk.2 hc
G.fewer [1] rfl <| hK58 l3 h hk) (fun hc => have hk := hk.1 hc
g_iinc (v := (l3 + (1:Int32))) F dX5_firstWrongCell_52 (j := 1) rfl (iinc_1 l3) (Nat.le_of_ble_eq_true rfl) rfl <|
g_goto F dX5_firstWrongCell_55 (tgt := 35) rfl <|
G.fewer [1, 0] rfl <| ih (l3 + (1:Int32)) h hk))
theorem s_X5_firstWrongCell_j58 {x : Cx} (F : Fx x cX5_firstWrongCell "LockstepRoomModel" 4 (some .int) rmX5_firstWrongCell) {v0 : Nat} {Q : Int32 → hH → Prop} (l3 : Int32) (h : hH) (hk : f_X5_firstWrongCell_j58 x.S.E v0 Q l3 h) : G x (xQ x rmX5_firstWrongCell (qI Q)) 58 [(3, aI l3)] [] h 0 0 := by
  unfold f_X5_firstWrongCell_j58 at hk
  exact g_iload_n F dX5_firstWrongCell_58 rfl 0 rfl <|
g_bipush F dX5_firstWrongCell_59 bp_16 <|
g_icmp_ge F dX5_firstWrongCell_61 (tgt := 68) rfl (fun hc => have hk := hk.1 hc
g_iconst F dX5_firstWrongCell_68 ic_m1 <|
g_iret F dX5_firstWrongCell_69 (Nat.le_refl 0) (Nat.le_refl 0) hk) (fun hc => have hk := hk.2 hc
g_iload_n F dX5_firstWrongCell_64 rfl 0 rfl <|
g_goto F dX5_firstWrongCell_65 (tgt := 69) rfl <|
g_iret F dX5_firstWrongCell_69 (Nat.le_refl 0) (Nat.le_refl 0) hk)
theorem m_X5_firstWrongCell {S : Sx} (hS0 : Sok S) (v0 : Nat) (v1 : Int32) (v2 : Int32) (h : hH) (Q : Int32 → hH → Prop) (hk : f_X5_firstWrongCell S.E v0 v1 v2 h Q) : Ct S yX5_firstWrongCell (ws_ yX5_firstWrongCell cX5_firstWrongCell 4 (some .int)) rmX5_firstWrongCell ([aR (some v0), aI v1, aI v2].map vv) h (qI Q) := by
  refine Ct.of hS0 (by decide +kernel) rfl (Nat.le_of_ble_eq_true rfl) fun x hxS F hnm => ?_
  subst hxS
  unfold f_X5_firstWrongCell at hk
  exact g_aload_n F dX5_firstWrongCell_0 rfl 0 rfl <|
g_iload_n F dX5_firstWrongCell_1 rfl 1 rfl <|
g_iload_n F dX5_firstWrongCell_2 rfl 2 rfl <|
g_calli0 (g_V F dX5_firstWrongCell_3 q3316 mi_X5_checksBoth ct_X5 (rm' := rmX5_checksBoth) ⟨Nat.le_of_ble_eq_true rfl, Nat.le_of_ble_eq_true rfl⟩ ⟨Nat.le_refl 0, Nat.le_refl 0⟩ (As := [aI v1, aI v2]) (rest := []) rfl rfl (Nat.le_of_ble_eq_true rfl) hk (fun a4 hk => m_X5_checksBoth F.ok a4 v1 v2 h _ hk)) ⟨rfl, rfl⟩ fun x3 h2 hk =>
g_if_ne F dX5_firstWrongCell_6 (tgt := 11) rfl (fun hc => have hk := hk.2 hc
g_aload_n F dX5_firstWrongCell_11 rfl 0 rfl <|
g_iload_n F dX5_firstWrongCell_12 rfl 1 rfl <|
g_calli0 (g_V F dX5_firstWrongCell_13 q3210 mi_X5_turnsDone ct_X5 (rm' := rmX5_turnsDone) ⟨Nat.le_of_ble_eq_true rfl, Nat.le_of_ble_eq_true rfl⟩ ⟨Nat.le_refl 0, Nat.le_refl 0⟩ (As := [aI v1]) (rest := []) rfl rfl (Nat.le_of_ble_eq_true rfl) hk (fun a7 hk => m_X5_turnsDone F.ok a7 v1 h2 _ hk)) ⟨rfl, rfl⟩ fun x6 h5 hk =>
g_aload_n F dX5_firstWrongCell_16 rfl 0 rfl <|
g_iload_n F dX5_firstWrongCell_17 rfl 2 rfl <|
g_calli0 (g_V F dX5_firstWrongCell_18 q3210 mi_X5_turnsDone ct_X5 (rm' := rmX5_turnsDone) ⟨Nat.le_of_ble_eq_true rfl, Nat.le_of_ble_eq_true rfl⟩ ⟨Nat.le_refl 0, Nat.le_refl 0⟩ (As := [aI v2]) (rest := [aI x6]) rfl rfl (Nat.le_of_ble_eq_true rfl) hk (fun a10 hk => m_X5_turnsDone F.ok a10 v2 h5 _ hk)) ⟨rfl, rfl⟩ fun x9 h8 hk =>
g_icmp_eq F dX5_firstWrongCell_21 (tgt := 27) rfl (fun hc => have hk := hk.1 hc
g_aload_n F dX5_firstWrongCell_27 rfl 0 rfl <|
g_iload_n F dX5_firstWrongCell_28 rfl 1 rfl <|
g_iload_n F dX5_firstWrongCell_29 rfl 2 rfl <|
g_callv0 (g_V F dX5_firstWrongCell_30 q3354 mi_X5_compares ct_X5 (rm' := rmX5_compares) ⟨Nat.le_of_ble_eq_true rfl, Nat.le_of_ble_eq_true rfl⟩ ⟨Nat.le_refl 0, Nat.le_refl 0⟩ (As := [aI v1, aI v2]) (rest := []) rfl rfl (Nat.le_of_ble_eq_true rfl) hk (fun a12 hk => m_X5_compares F.ok a12 v1 v2 h8 _ hk)) ⟨rfl, rfl⟩ fun h11 hk =>
g_iconst F dX5_firstWrongCell_33 ic_0 <|
g_istore_n F dX5_firstWrongCell_34 rfl (Nat.le_of_ble_eq_true rfl) rfl <|
G.fewer [1, 0] rfl <| s_X5_firstWrongCell_l35 F 1000000 (0:Int32) h11 hk ((fun l3 h hk => s_X5_firstWrongCell_j58 F l3 h hk ))) (fun hc => have hk := hk.2 hc
g_bipush F dX5_firstWrongCell_24 bp_m4 <|
g_iret F dX5_firstWrongCell_26 (Nat.le_refl 0) (Nat.le_refl 0) hk)) (fun hc => have hk := hk.1 hc
g_iconst F dX5_firstWrongCell_9 ic_0 <|
g_iret F dX5_firstWrongCell_10 (Nat.le_refl 0) (Nat.le_refl 0) hk)
abbrev rmX5_wrongCells : Room := { frames := 10, cells := 0, slots := 0, locals := 209 }
theorem m_X5_wrongCells {S : Sx} (hS0 : Sok S) (v0 : Nat) (v1 : Int32) (v2 : Int32) (h : hH) (Q : Int32 → hH → Prop) (hk : f_X5_wrongCells S.E v0 v1 v2 h Q) : Ct S yX5_wrongCells (ws_ yX5_wrongCells cX5_wrongCells 3 (some .int)) rmX5_wrongCells ([aR (some v0), aI v1, aI v2].map vv) h (qI Q) := by
  refine Ct.of hS0 (by decide +kernel) rfl (Nat.le_of_ble_eq_true rfl) fun x hxS F hnm => ?_
  subst hxS
  unfold f_X5_wrongCells at hk
  exact g_aload_n F dX5_wrongCells_0 rfl 0 rfl <|
g_iload_n F dX5_wrongCells_1 rfl 1 rfl <|
g_iload_n F dX5_wrongCells_2 rfl 2 rfl <|
g_calli0 (g_V F dX5_wrongCells_3 q3316 mi_X5_checksBoth ct_X5 (rm' := rmX5_checksBoth) ⟨Nat.le_of_ble_eq_true rfl, Nat.le_of_ble_eq_true rfl⟩ ⟨Nat.le_refl 0, Nat.le_refl 0⟩ (As := [aI v1, aI v2]) (rest := []) rfl rfl (Nat.le_of_ble_eq_true rfl) hk (fun a3 hk => m_X5_checksBoth F.ok a3 v1 v2 h _ hk)) ⟨rfl, rfl⟩ fun x2 h1 hk =>
g_if_ne F dX5_wrongCells_6 (tgt := 11) rfl (fun hc => have hk := hk.2 hc
g_aload_n F dX5_wrongCells_11 rfl 0 rfl <|
g_iload_n F dX5_wrongCells_12 rfl 1 rfl <|
g_iload_n F dX5_wrongCells_13 rfl 2 rfl <|
g_callv0 (g_V F dX5_wrongCells_14 q3354 mi_X5_compares ct_X5 (rm' := rmX5_compares) ⟨Nat.le_of_ble_eq_true rfl, Nat.le_of_ble_eq_true rfl⟩ ⟨Nat.le_refl 0, Nat.le_refl 0⟩ (As := [aI v1, aI v2]) (rest := []) rfl rfl (Nat.le_of_ble_eq_true rfl) hk (fun a5 hk => m_X5_compares F.ok a5 v1 v2 h1 _ hk)) ⟨rfl, rfl⟩ fun h4 hk =>
g_aload_n F dX5_wrongCells_17 rfl 0 rfl <|
g_getI F dX5_wrongCells_18 fo_X5_12_LockstepRoomModel in_X5 fl_LockstepRoomModel_82_X5 hk fun x6 hk =>
g_iret F dX5_wrongCells_21 (Nat.le_refl 0) (Nat.le_refl 0) hk) (fun hc => have hk := hk.1 hc
g_iconst F dX5_wrongCells_9 ic_0 <|
g_iret F dX5_wrongCells_10 (Nat.le_refl 0) (Nat.le_refl 0) hk)
abbrev rmX5_comparisons : Room := { frames := 10, cells := 0, slots := 0, locals := 209 }
theorem m_X5_comparisons {S : Sx} (hS0 : Sok S) (v0 : Nat) (v1 : Int32) (v2 : Int32) (h : hH) (Q : Int32 → hH → Prop) (hk : f_X5_comparisons S.E v0 v1 v2 h Q) : Ct S yX5_comparisons (ws_ yX5_comparisons cX5_comparisons 3 (some .int)) rmX5_comparisons ([aR (some v0), aI v1, aI v2].map vv) h (qI Q) := by
  refine Ct.of hS0 (by decide +kernel) rfl (Nat.le_of_ble_eq_true rfl) fun x hxS F hnm => ?_
  subst hxS
  unfold f_X5_comparisons at hk
  exact g_aload_n F dX5_comparisons_0 rfl 0 rfl <|
g_iload_n F dX5_comparisons_1 rfl 1 rfl <|
g_iload_n F dX5_comparisons_2 rfl 2 rfl <|
g_calli0 (g_V F dX5_comparisons_3 q3316 mi_X5_checksBoth ct_X5 (rm' := rmX5_checksBoth) ⟨Nat.le_of_ble_eq_true rfl, Nat.le_of_ble_eq_true rfl⟩ ⟨Nat.le_refl 0, Nat.le_refl 0⟩ (As := [aI v1, aI v2]) (rest := []) rfl rfl (Nat.le_of_ble_eq_true rfl) hk (fun a3 hk => m_X5_checksBoth F.ok a3 v1 v2 h _ hk)) ⟨rfl, rfl⟩ fun x2 h1 hk =>
g_if_ne F dX5_comparisons_6 (tgt := 11) rfl (fun hc => have hk := hk.2 hc
g_aload_n F dX5_comparisons_11 rfl 0 rfl <|
g_iload_n F dX5_comparisons_12 rfl 1 rfl <|
g_iload_n F dX5_comparisons_13 rfl 2 rfl <|
g_callv0 (g_V F dX5_comparisons_14 q3354 mi_X5_compares ct_X5 (rm' := rmX5_compares) ⟨Nat.le_of_ble_eq_true rfl, Nat.le_of_ble_eq_true rfl⟩ ⟨Nat.le_refl 0, Nat.le_refl 0⟩ (As := [aI v1, aI v2]) (rest := []) rfl rfl (Nat.le_of_ble_eq_true rfl) hk (fun a5 hk => m_X5_compares F.ok a5 v1 v2 h1 _ hk)) ⟨rfl, rfl⟩ fun h4 hk =>
g_aload_n F dX5_comparisons_17 rfl 0 rfl <|
g_getI F dX5_comparisons_18 fo_X5_13_LockstepRoomModel in_X5 fl_LockstepRoomModel_79_X5 hk fun x6 hk =>
g_iret F dX5_comparisons_21 (Nat.le_refl 0) (Nat.le_refl 0) hk) (fun hc => have hk := hk.1 hc
g_iconst F dX5_comparisons_9 ic_0 <|
g_iret F dX5_comparisons_10 (Nat.le_refl 0) (Nat.le_refl 0) hk)
abbrev rmX5_isActive : Room := { frames := 3, cells := 0, slots := 0, locals := 62 }
theorem m_X5_isActive {S : Sx} (hS0 : Sok S) (v0 : Nat) (v1 : Int32) (h : hH) (Q : Int32 → hH → Prop) (hk : f_X5_isActive S.E v0 v1 h Q) : Ct S yX5_isActive (ws_ yX5_isActive cX5_isActive 2 (some .boolean)) rmX5_isActive ([aR (some v0), aI v1].map vv) h (qI Q) := by
  refine Ct.of hS0 (by decide +kernel) rfl (Nat.le_of_ble_eq_true rfl) fun x hxS F hnm => ?_
  subst hxS
  unfold f_X5_isActive at hk
  exact g_aload_n F dX5_isActive_0 rfl 0 rfl <|
g_iload_n F dX5_isActive_1 rfl 1 rfl <|
g_iconst F dX5_isActive_2 ic_2 <|
g_calli0 (g_V F dX5_isActive_3 q3214 mi_X5_of ct_X5 (rm' := rmX5_of) ⟨Nat.le_of_ble_eq_true rfl, Nat.le_of_ble_eq_true rfl⟩ ⟨Nat.le_refl 0, Nat.le_refl 0⟩ (As := [aI v1, aI (2:Int32)]) (rest := []) rfl rfl (Nat.le_of_ble_eq_true rfl) hk (fun a3 hk => m_X5_of F.ok a3 v1 (2:Int32) h _ hk)) ⟨rfl, rfl⟩ fun x2 h1 hk =>
g_iconst F dX5_isActive_6 ic_1 <|
g_icmp_ne F dX5_isActive_7 (tgt := 14) rfl (fun hc => have hk := hk.2 hc
g_iconst F dX5_isActive_14 ic_0 <|
g_zret F dX5_isActive_15 (Nat.le_refl 0) (Nat.le_refl 0) rfl hk) (fun hc => have hk := hk.1 hc
g_iconst F dX5_isActive_10 ic_1 <|
g_goto F dX5_isActive_11 (tgt := 15) rfl <|
g_zret F dX5_isActive_15 (Nat.le_refl 0) (Nat.le_refl 0) rfl hk)
abbrev rmX5_votesFor : Room := { frames := 5, cells := 0, slots := 0, locals := 105 }
theorem s_X5_votesFor_j55 {x : Cx} (F : Fx x cX5_votesFor "LockstepRoomModel" 5 (some .int) rmX5_votesFor) {v0 : Nat} {Q : Int32 → hH → Prop} {K5 : Int32 → Int32 → Int32 → Int32 → hH → Prop} (s0 : Int32) (s1 : Int32) (l1 : Int32) (l2 : Int32) (l4 : Int32) (h : hH) (hk : f_X5_votesFor_j55 x.S.E v0 Q K5 s0 s1 l1 l2 l4 h) (hK5 : ∀ (l1 : Int32) (l2 : Int32) (l3 : Int32) (l4 : Int32) (h : hH), K5 l1 l2 l3 l4 h → G x (xQ x rmX5_votesFor (qI Q)) 5 [(0, aR (some v0)), (1, aI l1), (2, aI l2), (3, aI l3), (4, aI l4)] [] h 0 0) : G x (xQ x rmX5_votesFor (qI Q)) 55 [(0, aR (some v0)), (1, aI l1), (2, aI l2), (4, aI l4)] [aI s1, aI s0] h 0 0 := by
  unfold f_X5_votesFor_j55 at hk
  exact g_iadd F dX5_votesFor_55 <|
g_istore_n F dX5_votesFor_56 rfl (Nat.le_of_ble_eq_true rfl) rfl <|
g_iinc (v := (l4 + (1:Int32))) F dX5_votesFor_57 (j := 4) rfl (iinc_1 l4) (Nat.le_of_ble_eq_true rfl) rfl <|
g_goto F dX5_votesFor_60 (tgt := 5) rfl <|
G.fewer [2, 3, 4, 1, 0] rfl <| hK5 l1 l2 (s0 + s1) (l4 + (1:Int32)) h hk
theorem s_X5_votesFor_j54 {x : Cx} (F : Fx x cX5_votesFor "LockstepRoomModel" 5 (some .int) rmX5_votesFor) {v0 : Nat} {Q : Int32 → hH → Prop} {K5 : Int32 → Int32 → Int32 → Int32 → hH → Prop} (s0 : Int32) (l1 : Int32) (l2 : Int32) (l4 : Int32) (h : hH) (hk : f_X5_votesFor_j54 x.S.E v0 Q K5 s0 l1 l2 l4 h) (hK5 : ∀ (l1 : Int32) (l2 : Int32) (l3 : Int32) (l4 : Int32) (h : hH), K5 l1 l2 l3 l4 h → G x (xQ x rmX5_votesFor (qI Q)) 5 [(0, aR (some v0)), (1, aI l1), (2, aI l2), (3, aI l3), (4, aI l4)] [] h 0 0) : G x (xQ x rmX5_votesFor (qI Q)) 54 [(0, aR (some v0)), (1, aI l1), (2, aI l2), (4, aI l4)] [aI s0] h 0 0 := by
  unfold f_X5_votesFor_j54 at hk
  exact g_iconst F dX5_votesFor_54 ic_0 <|
s_X5_votesFor_j55 F s0 (0:Int32) l1 l2 l4 h hk hK5
theorem s_X5_votesFor_l5 {x : Cx} (F : Fx x cX5_votesFor "LockstepRoomModel" 5 (some .int) rmX5_votesFor) {v0 : Nat} {Q : Int32 → hH → Prop} {K63 : Int32 → hH → Prop} (n : Nat) (l1 : Int32) (l2 : Int32) (l3 : Int32) (l4 : Int32) (h : hH) (hk : f_X5_votesFor_l5 x.S.E v0 Q K63 n l1 l2 l3 l4 h) (hK63 : ∀ (l3 : Int32) (h : hH), K63 l3 h → G x (xQ x rmX5_votesFor (qI Q)) 63 [(3, aI l3)] [] h 0 0) : G x (xQ x rmX5_votesFor (qI Q)) 5 [(0, aR (some v0)), (1, aI l1), (2, aI l2), (3, aI l3), (4, aI l4)] [] h 0 0 := by
  induction n generalizing l1 l2 l3 l4 h with
  | zero => exact False.elim hk
  | succ n ih =>
    unfold f_X5_votesFor_l5 at hk
    exact g_iload F dX5_votesFor_5 4 rfl <|
g_aload_n F dX5_votesFor_7 rfl 0 rfl <|
g_calli0 (g_V F dX5_votesFor_8 q3146 mi_X5_members ct_X5 (rm' := rmX5_members) ⟨Nat.le_of_ble_eq_true rfl, Nat.le_of_ble_eq_true rfl⟩ ⟨Nat.le_refl 0, Nat.le_refl 0⟩ (As := []) (rest := [aI l4]) rfl rfl (Nat.le_of_ble_eq_true rfl) hk (fun a3 hk => m_X5_members F.ok a3 h _ hk)) ⟨rfl, rfl⟩ fun x2 h1 hk =>
g_icmp_ge F dX5_votesFor_11 (tgt := 63) rfl (fun hc => have hk := hk.1 hc
G.fewer [3] rfl <| hK63 l3 h1 hk) (fun hc => have hk := hk.2 hc
g_iload_n F dX5_votesFor_14 rfl 3 rfl <|
g_aload_n F dX5_votesFor_15 rfl 0 rfl <|
g_iload F dX5_votesFor_16 4 rfl <|
g_calli0 (g_V F dX5_votesFor_18 q3382 mi_X5_isActive ct_X5 (rm' := rmX5_isActive) ⟨Nat.le_of_ble_eq_true rfl, Nat.le_of_ble_eq_true rfl⟩ ⟨Nat.le_refl 0, Nat.le_refl 0⟩ (As := [aI l4]) (rest := [aI l3]) rfl rfl (Nat.le_of_ble_eq_true rfl) hk (fun a6 hk => m_X5_isActive F.ok a6 l4 h1 _ hk)) ⟨rfl, rfl⟩ fun x5 h4 hk =>
g_if_eq F dX5_votesFor_21 (tgt := 54) rfl (fun hc => have hk := hk.1 hc
G.fewer [0, 1, 2, 4] rfl <| s_X5_votesFor_j54 F l3 l1 l2 l4 h4 hk ih) (fun hc => have hk := hk.2 hc
g_aload_n F dX5_votesFor_24 rfl 0 rfl <|
g_iload F dX5_votesFor_25 4 rfl <|
g_iload_n F dX5_votesFor_27 rfl 2 rfl <|
g_calli0 (g_V F dX5_votesFor_28 q3304 mi_X5_hasAt ct_X5 (rm' := rmX5_hasAt) ⟨Nat.le_of_ble_eq_true rfl, Nat.le_of_ble_eq_true rfl⟩ ⟨Nat.le_refl 0, Nat.le_refl 0⟩ (As := [aI l4, aI l2]) (rest := [aI l3]) rfl rfl (Nat.le_of_ble_eq_true rfl) hk (fun a9 hk => m_X5_hasAt F.ok a9 l4 l2 h4 _ hk)) ⟨rfl, rfl⟩ fun x8 h7 hk =>
g_if_eq F dX5_votesFor_31 (tgt := 54) rfl (fun hc => have hk := hk.1 hc
G.fewer [0, 1, 2, 4] rfl <| s_X5_votesFor_j54 F l3 l1 l2 l4 h7 hk ih) (fun hc => have hk := hk.2 hc
g_aload_n F dX5_votesFor_34 rfl 0 rfl <|
g_iload F dX5_votesFor_35 4 rfl <|
g_iload_n F dX5_votesFor_37 rfl 2 rfl <|
g_calli0 (g_V F dX5_votesFor_38 q3308 mi_X5_record ct_X5 (rm' := rmX5_record) ⟨Nat.le_of_ble_eq_true rfl, Nat.le_of_ble_eq_true rfl⟩ ⟨Nat.le_refl 0, Nat.le_refl 0⟩ (As := [aI l4, aI l2]) (rest := [aI l3]) rfl rfl (Nat.le_of_ble_eq_true rfl) hk (fun a12 hk => m_X5_record F.ok a12 l4 l2 h7 _ hk)) ⟨rfl, rfl⟩ fun x11 h10 hk =>
g_aload_n F dX5_votesFor_41 rfl 0 rfl <|
g_iload_n F dX5_votesFor_42 rfl 1 rfl <|
g_iload_n F dX5_votesFor_43 rfl 2 rfl <|
g_calli0 (g_V F dX5_votesFor_44 q3308 mi_X5_record ct_X5 (rm' := rmX5_record) ⟨Nat.le_of_ble_eq_true rfl, Nat.le_of_ble_eq_true rfl⟩ ⟨Nat.le_refl 0, Nat.le_refl 0⟩ (As := [aI l1, aI l2]) (rest := [aI x11, aI l3]) rfl rfl (Nat.le_of_ble_eq_true rfl) hk (fun a15 hk => m_X5_record F.ok a15 l1 l2 h10 _ hk)) ⟨rfl, rfl⟩ fun x14 h13 hk =>
g_icmp_ne F dX5_votesFor_47 (tgt := 54) rfl (fun hc => have hk := hk.2 hc
G.fewer [0, 1, 2, 4] rfl <| s_X5_votesFor_j54 F l3 l1 l2 l4 h13 hk ih) (fun hc => have hk := hk.1 hc
g_iconst F dX5_votesFor_50 ic_1 <|
g_goto F dX5_votesFor_51 (tgt := 55) rfl <|
G.fewer [0, 1, 2, 4] rfl <| s_X5_votesFor_j55 F l3 (1:Int32) l1 l2 l4 h13 hk ih))))
theorem m_X5_votesFor {S : Sx} (hS0 : Sok S) (v0 : Nat) (v1 : Int32) (v2 : Int32) (h : hH) (Q : Int32 → hH → Prop) (hk : f_X5_votesFor S.E v0 v1 v2 h Q) : Ct S yX5_votesFor (ws_ yX5_votesFor cX5_votesFor 5 (some .int)) rmX5_votesFor ([aR (some v0), aI v1, aI v2].map vv) h (qI Q) := by
  refine Ct.of hS0 (by decide +kernel) rfl (Nat.le_of_ble_eq_true rfl) fun x hxS F hnm => ?_
  subst hxS
  unfold f_X5_votesFor at hk
  exact g_iconst F dX5_votesFor_0 ic_0 <|
g_istore_n F dX5_votesFor_1 rfl (Nat.le_of_ble_eq_true rfl) rfl <|
g_iconst F dX5_votesFor_2 ic_0 <|
g_istore F dX5_votesFor_3 (Nat.le_of_ble_eq_true rfl) rfl <|
G.fewer [2, 3, 4, 1, 0] rfl <| s_X5_votesFor_l5 F 1000000 v1 v2 (0:Int32) (0:Int32) h hk ((fun l3 h hk => g_iload_n F dX5_votesFor_63 rfl 0 rfl <|
g_iret F dX5_votesFor_64 (Nat.le_refl 0) (Nat.le_refl 0) hk))
abbrev rmX5_votes : Room := { frames := 6, cells := 0, slots := 0, locals := 129 }
theorem m_X5_votes {S : Sx} (hS0 : Sok S) (v0 : Nat) (v1 : Int32) (v2 : Int32) (h : hH) (Q : Int32 → hH → Prop) (hk : f_X5_votes S.E v0 v1 v2 h Q) : Ct S yX5_votes (ws_ yX5_votes cX5_votes 3 (some .int)) rmX5_votes ([aR (some v0), aI v1, aI v2].map vv) h (qI Q) := by
  refine Ct.of hS0 (by decide +kernel) rfl (Nat.le_of_ble_eq_true rfl) fun x hxS F hnm => ?_
  subst hxS
  unfold f_X5_votes at hk
  exact g_aload_n F dX5_votes_0 rfl 0 rfl <|
g_aload_n F dX5_votes_1 rfl 0 rfl <|
g_iload_n F dX5_votes_2 rfl 1 rfl <|
g_calli0 (g_V F dX5_votes_3 q3254 mi_X5_isMember ct_X5 (rm' := rmX5_isMember) ⟨Nat.le_of_ble_eq_true rfl, Nat.le_of_ble_eq_true rfl⟩ ⟨Nat.le_refl 0, Nat.le_refl 0⟩ (As := [aI v1]) (rest := [aR (some v0)]) rfl rfl (Nat.le_of_ble_eq_true rfl) hk (fun a3 hk => m_X5_isMember F.ok a3 v1 h _ hk)) ⟨rfl, rfl⟩ fun x2 h1 hk =>
g_calli0 (g_V F dX5_votes_6 q3258 mi_X5_checks ct_X5 (rm' := rmX5_checks) ⟨Nat.le_of_ble_eq_true rfl, Nat.le_of_ble_eq_true rfl⟩ ⟨Nat.le_refl 0, Nat.le_refl 0⟩ (As := [aI x2]) (rest := []) rfl rfl (Nat.le_of_ble_eq_true rfl) hk (fun a6 hk => m_X5_checks F.ok a6 x2 h1 _ hk)) ⟨rfl, rfl⟩ fun x5 h4 hk =>
g_if_ne F dX5_votes_9 (tgt := 14) rfl (fun hc => have hk := hk.2 hc
g_aload_n F dX5_votes_14 rfl 0 rfl <|
g_iload_n F dX5_votes_15 rfl 1 rfl <|
g_iload_n F dX5_votes_16 rfl 2 rfl <|
g_calli0 (g_V F dX5_votes_17 q3304 mi_X5_hasAt ct_X5 (rm' := rmX5_hasAt) ⟨Nat.le_of_ble_eq_true rfl, Nat.le_of_ble_eq_true rfl⟩ ⟨Nat.le_refl 0, Nat.le_refl 0⟩ (As := [aI v1, aI v2]) (rest := []) rfl rfl (Nat.le_of_ble_eq_true rfl) hk (fun a9 hk => m_X5_hasAt F.ok a9 v1 v2 h4 _ hk)) ⟨rfl, rfl⟩ fun x8 h7 hk =>
g_if_eq F dX5_votes_20 (tgt := 32) rfl (fun hc => have hk := hk.1 hc
g_iconst F dX5_votes_32 ic_m1 <|
g_iret F dX5_votes_33 (Nat.le_refl 0) (Nat.le_refl 0) hk) (fun hc => have hk := hk.2 hc
g_aload_n F dX5_votes_23 rfl 0 rfl <|
g_iload_n F dX5_votes_24 rfl 1 rfl <|
g_iload_n F dX5_votes_25 rfl 2 rfl <|
g_calli0 (g_V F dX5_votes_26 q3378 mi_X5_votesFor ct_X5 (rm' := rmX5_votesFor) ⟨Nat.le_of_ble_eq_true rfl, Nat.le_of_ble_eq_true rfl⟩ ⟨Nat.le_refl 0, Nat.le_refl 0⟩ (As := [aI v1, aI v2]) (rest := []) rfl rfl (Nat.le_of_ble_eq_true rfl) hk (fun a12 hk => m_X5_votesFor F.ok a12 v1 v2 h7 _ hk)) ⟨rfl, rfl⟩ fun x11 h10 hk =>
g_goto F dX5_votes_29 (tgt := 33) rfl <|
g_iret F dX5_votes_33 (Nat.le_refl 0) (Nat.le_refl 0) hk)) (fun hc => have hk := hk.1 hc
g_iconst F dX5_votes_12 ic_0 <|
g_iret F dX5_votes_13 (Nat.le_refl 0) (Nat.le_refl 0) hk)
abbrev rmX5_wins : Room := { frames := 6, cells := 0, slots := 0, locals := 129 }
theorem s_X5_wins_j60 {x : Cx} (F : Fx x cX5_wins "LockstepRoomModel" 6 (some .int) rmX5_wins) {v0 : Nat} {Q : Int32 → hH → Prop} {K7 : Int32 → Int32 → Int32 → Int32 → hH → Prop} (s0 : Int32) (l1 : Int32) (l3 : Int32) (l4 : Int32) (l5 : Int32) (h : hH) (hk : f_X5_wins_j60 x.S.E v0 Q K7 s0 l1 l3 l4 l5 h) (hK7 : ∀ (l1 : Int32) (l2 : Int32) (l3 : Int32) (l4 : Int32) (h : hH), K7 l1 l2 l3 l4 h → G x (xQ x rmX5_wins (qI Q)) 7 [(0, aR (some v0)), (1, aI l1), (2, aI l2), (3, aI l3), (4, aI l4)] [] h 0 0) : G x (xQ x rmX5_wins (qI Q)) 60 [(0, aR (some v0)), (1, aI l1), (3, aI l3), (4, aI l4), (5, aI l5)] [aI s0] h 0 0 := by
  unfold f_X5_wins_j60 at hk
  exact g_istore_n F dX5_wins_60 rfl (Nat.le_of_ble_eq_true rfl) rfl <|
g_iload_n F dX5_wins_61 rfl 3 rfl <|
g_iload F dX5_wins_62 5 rfl <|
g_mmax (rest := []) F dX5_wins_64 q3328 q540 q130 q541 (Nat.le_of_ble_eq_true rfl) (Nat.le_of_ble_eq_true rfl) (Nat.le_refl 0) (Nat.le_refl 0) <|
g_istore_n F dX5_wins_67 rfl (Nat.le_of_ble_eq_true rfl) rfl <|
g_iinc (v := (l4 + (1:Int32))) F dX5_wins_68 (j := 4) rfl (iinc_1 l4) (Nat.le_of_ble_eq_true rfl) rfl <|
g_goto F dX5_wins_71 (tgt := 7) rfl <|
G.fewer [3, 4, 2, 1, 0] rfl <| hK7 l1 s0 (iMax l3 l5) (l4 + (1:Int32)) h hk
theorem s_X5_wins_j46 {x : Cx} (F : Fx x cX5_wins "LockstepRoomModel" 6 (some .int) rmX5_wins) {v0 : Nat} {Q : Int32 → hH → Prop} {K7 : Int32 → Int32 → Int32 → Int32 → hH → Prop} (s0 : Int32) (l1 : Int32) (l2 : Int32) (l3 : Int32) (l4 : Int32) (h : hH) (hk : f_X5_wins_j46 x.S.E v0 Q K7 s0 l1 l2 l3 l4 h) (hK7 : ∀ (l1 : Int32) (l2 : Int32) (l3 : Int32) (l4 : Int32) (h : hH), K7 l1 l2 l3 l4 h → G x (xQ x rmX5_wins (qI Q)) 7 [(0, aR (some v0)), (1, aI l1), (2, aI l2), (3, aI l3), (4, aI l4)] [] h 0 0) : G x (xQ x rmX5_wins (qI Q)) 46 [(0, aR (some v0)), (1, aI l1), (2, aI l2), (3, aI l3), (4, aI l4)] [aI s0] h 0 0 := by
  unfold f_X5_wins_j46 at hk
  exact g_istore F dX5_wins_46 (Nat.le_of_ble_eq_true rfl) rfl <|
g_iload F dX5_wins_48 0 rfl <|
g_iload_n F dX5_wins_50 rfl 4 rfl <|
g_icmp_le F dX5_wins_51 (tgt := 59) rfl (fun hc => have hk := hk.1 hc
g_iload_n F dX5_wins_59 rfl 3 rfl <|
G.fewer [1, 2, 4, 5, 0] rfl <| s_X5_wins_j60 F l2 l1 l3 l4 s0 h hk hK7) (fun hc => have hk := hk.2 hc
g_iload F dX5_wins_54 5 rfl <|
g_goto F dX5_wins_56 (tgt := 60) rfl <|
G.fewer [1, 2, 4, 5, 0] rfl <| s_X5_wins_j60 F l4 l1 l3 l4 s0 h hk hK7)
theorem s_X5_wins_j45 {x : Cx} (F : Fx x cX5_wins "LockstepRoomModel" 6 (some .int) rmX5_wins) {v0 : Nat} {Q : Int32 → hH → Prop} {K7 : Int32 → Int32 → Int32 → Int32 → hH → Prop} (l1 : Int32) (l2 : Int32) (l3 : Int32) (l4 : Int32) (h : hH) (hk : f_X5_wins_j45 x.S.E v0 Q K7 l1 l2 l3 l4 h) (hK7 : ∀ (l1 : Int32) (l2 : Int32) (l3 : Int32) (l4 : Int32) (h : hH), K7 l1 l2 l3 l4 h → G x (xQ x rmX5_wins (qI Q)) 7 [(0, aR (some v0)), (1, aI l1), (2, aI l2), (3, aI l3), (4, aI l4)] [] h 0 0) : G x (xQ x rmX5_wins (qI Q)) 45 [(0, aR (some v0)), (1, aI l1), (2, aI l2), (3, aI l3), (4, aI l4)] [] h 0 0 := by
  unfold f_X5_wins_j45 at hk
  exact g_iconst F dX5_wins_45 ic_0 <|
s_X5_wins_j46 F (0:Int32) l1 l2 l3 l4 h hk hK7
theorem s_X5_wins_l7 {x : Cx} (F : Fx x cX5_wins "LockstepRoomModel" 6 (some .int) rmX5_wins) {v0 : Nat} {Q : Int32 → hH → Prop} {K74 : Int32 → Int32 → hH → Prop} (n : Nat) (l1 : Int32) (l2 : Int32) (l3 : Int32) (l4 : Int32) (h : hH) (hk : f_X5_wins_l7 x.S.E v0 Q K74 n l1 l2 l3 l4 h) (hK74 : ∀ (l2 : Int32) (l3 : Int32) (h : hH), K74 l2 l3 h → G x (xQ x rmX5_wins (qI Q)) 74 [(0, aR (some v0)), (2, aI l2), (3, aI l3)] [] h 0 0) : G x (xQ x rmX5_wins (qI Q)) 7 [(0, aR (some v0)), (1, aI l1), (2, aI l2), (3, aI l3), (4, aI l4)] [] h 0 0 := by
  induction n generalizing l1 l2 l3 l4 h with
  | zero => exact False.elim hk
  | succ n ih =>
    unfold f_X5_wins_l7 at hk
    exact g_iload F dX5_wins_7 4 rfl <|
g_aload_n F dX5_wins_9 rfl 0 rfl <|
g_calli0 (g_V F dX5_wins_10 q3146 mi_X5_members ct_X5 (rm' := rmX5_members) ⟨Nat.le_of_ble_eq_true rfl, Nat.le_of_ble_eq_true rfl⟩ ⟨Nat.le_refl 0, Nat.le_refl 0⟩ (As := []) (rest := [aI l4]) rfl rfl (Nat.le_of_ble_eq_true rfl) hk (fun a3 hk => m_X5_members F.ok a3 h _ hk)) ⟨rfl, rfl⟩ fun x2 h1 hk =>
g_icmp_ge F dX5_wins_13 (tgt := 74) rfl (fun hc => have hk := hk.1 hc
G.fewer [0, 2, 3] rfl <| hK74 l2 l3 h1 hk) (fun hc => have hk := hk.2 hc
g_aload_n F dX5_wins_16 rfl 0 rfl <|
g_iload F dX5_wins_17 4 rfl <|
g_calli0 (g_V F dX5_wins_19 q3382 mi_X5_isActive ct_X5 (rm' := rmX5_isActive) ⟨Nat.le_of_ble_eq_true rfl, Nat.le_of_ble_eq_true rfl⟩ ⟨Nat.le_refl 0, Nat.le_refl 0⟩ (As := [aI l4]) (rest := []) rfl rfl (Nat.le_of_ble_eq_true rfl) hk (fun a6 hk => m_X5_isActive F.ok a6 l4 h1 _ hk)) ⟨rfl, rfl⟩ fun x5 h4 hk =>
g_if_eq F dX5_wins_22 (tgt := 45) rfl (fun hc => have hk := hk.1 hc
s_X5_wins_j45 F l1 l2 l3 l4 h4 hk ih) (fun hc => have hk := hk.2 hc
g_aload_n F dX5_wins_25 rfl 0 rfl <|
g_iload F dX5_wins_26 4 rfl <|
g_iload_n F dX5_wins_28 rfl 1 rfl <|
g_calli0 (g_V F dX5_wins_29 q3304 mi_X5_hasAt ct_X5 (rm' := rmX5_hasAt) ⟨Nat.le_of_ble_eq_true rfl, Nat.le_of_ble_eq_true rfl⟩ ⟨Nat.le_refl 0, Nat.le_refl 0⟩ (As := [aI l4, aI l1]) (rest := []) rfl rfl (Nat.le_of_ble_eq_true rfl) hk (fun a9 hk => m_X5_hasAt F.ok a9 l4 l1 h4 _ hk)) ⟨rfl, rfl⟩ fun x8 h7 hk =>
g_if_eq F dX5_wins_32 (tgt := 45) rfl (fun hc => have hk := hk.1 hc
s_X5_wins_j45 F l1 l2 l3 l4 h7 hk ih) (fun hc => have hk := hk.2 hc
g_aload_n F dX5_wins_35 rfl 0 rfl <|
g_iload F dX5_wins_36 4 rfl <|
g_iload_n F dX5_wins_38 rfl 1 rfl <|
g_calli0 (g_V F dX5_wins_39 q3378 mi_X5_votesFor ct_X5 (rm' := rmX5_votesFor) ⟨Nat.le_of_ble_eq_true rfl, Nat.le_of_ble_eq_true rfl⟩ ⟨Nat.le_refl 0, Nat.le_refl 0⟩ (As := [aI l4, aI l1]) (rest := []) rfl rfl (Nat.le_of_ble_eq_true rfl) hk (fun a12 hk => m_X5_votesFor F.ok a12 l4 l1 h7 _ hk)) ⟨rfl, rfl⟩ fun x11 h10 hk =>
g_goto F dX5_wins_42 (tgt := 46) rfl <|
s_X5_wins_j46 F x11 l1 l2 l3 l4 h10 hk ih)))
theorem m_X5_wins {S : Sx} (hS0 : Sok S) (v0 : Nat) (v1 : Int32) (h : hH) (Q : Int32 → hH → Prop) (hk : f_X5_wins S.E v0 v1 h Q) : Ct S yX5_wins (ws_ yX5_wins cX5_wins 6 (some .int)) rmX5_wins ([aR (some v0), aI v1].map vv) h (qI Q) := by
  refine Ct.of hS0 (by decide +kernel) rfl (Nat.le_of_ble_eq_true rfl) fun x hxS F hnm => ?_
  subst hxS
  unfold f_X5_wins at hk
  exact g_iconst F dX5_wins_0 ic_m1 <|
g_istore_n F dX5_wins_1 rfl (Nat.le_of_ble_eq_true rfl) rfl <|
g_iconst F dX5_wins_2 ic_0 <|
g_istore_n F dX5_wins_3 rfl (Nat.le_of_ble_eq_true rfl) rfl <|
g_iconst F dX5_wins_4 ic_0 <|
g_istore F dX5_wins_5 (Nat.le_of_ble_eq_true rfl) rfl <|
G.fewer [3, 4, 2, 1, 0] rfl <| s_X5_wins_l7 F 1000000 v1 (-1:Int32) (0:Int32) (0:Int32) h hk ((fun l2 l3 h hk => g_iload_n F dX5_wins_74 rfl 2 rfl <|
g_aload_n F dX5_wins_75 rfl 0 rfl <|
g_getR F dX5_wins_76 fo_X5_5_LockstepRoomModel in_X5 fl_LockstepRoomModel_19_X5 hk fun x13 hk =>
g_iconst F dX5_wins_79 ic_1 <|
g_iald F dX5_wins_80 hk fun x14 hk =>
g_icmp_ge F dX5_wins_81 (tgt := 88) rfl (fun hc => have hk := hk.1 hc
g_iload_n F dX5_wins_88 rfl 1 rfl <|
g_iret F dX5_wins_89 (Nat.le_refl 0) (Nat.le_refl 0) hk) (fun hc => have hk := hk.2 hc
g_iconst F dX5_wins_84 ic_m1 <|
g_goto F dX5_wins_85 (tgt := 89) rfl <|
g_iret F dX5_wins_89 (Nat.le_refl 0) (Nat.le_refl 0) hk)))
abbrev rmX5_winner : Room := { frames := 7, cells := 0, slots := 0, locals := 154 }
theorem m_X5_winner {S : Sx} (hS0 : Sok S) (v0 : Nat) (v1 : Int32) (h : hH) (Q : Int32 → hH → Prop) (hk : f_X5_winner S.E v0 v1 h Q) : Ct S yX5_winner (ws_ yX5_winner cX5_winner 2 (some .int)) rmX5_winner ([aR (some v0), aI v1].map vv) h (qI Q) := by
  refine Ct.of hS0 (by decide +kernel) rfl (Nat.le_of_ble_eq_true rfl) fun x hxS F hnm => ?_
  subst hxS
  unfold f_X5_winner at hk
  exact g_aload_n F dX5_winner_0 rfl 0 rfl <|
g_iconst F dX5_winner_1 ic_0 <|
g_putV F dX5_winner_2 fo_X5_0_LockstepRoomModel ck_X5 fl_LockstepRoomModel_47_X5 rfl (v := aI (0:Int32)) (fit_i (0:Int32)) hk fun h1 hk =>
g_aload_n F dX5_winner_5 rfl 0 rfl <|
g_iload_n F dX5_winner_6 rfl 1 rfl <|
g_calli0 (g_V F dX5_winner_7 q3390 mi_X5_wins ct_X5 (rm' := rmX5_wins) ⟨Nat.le_of_ble_eq_true rfl, Nat.le_of_ble_eq_true rfl⟩ ⟨Nat.le_refl 0, Nat.le_refl 0⟩ (As := [aI v1]) (rest := []) rfl rfl (Nat.le_of_ble_eq_true rfl) hk (fun a4 hk => m_X5_wins F.ok a4 v1 h1 _ hk)) ⟨rfl, rfl⟩ fun x3 h2 hk =>
g_iret F dX5_winner_10 (Nat.le_refl 0) (Nat.le_refl 0) hk
abbrev rmX5_isOff : Room := { frames := 7, cells := 0, slots := 0, locals := 154 }
theorem m_X5_isOff {S : Sx} (hS0 : Sok S) (v0 : Nat) (v1 : Int32) (h : hH) (Q : Int32 → hH → Prop) (hk : f_X5_isOff S.E v0 v1 h Q) : Ct S yX5_isOff (ws_ yX5_isOff cX5_isOff 4 (some .boolean)) rmX5_isOff ([aR (some v0), aI v1].map vv) h (qI Q) := by
  refine Ct.of hS0 (by decide +kernel) rfl (Nat.le_of_ble_eq_true rfl) fun x hxS F hnm => ?_
  subst hxS
  unfold f_X5_isOff at hk
  exact g_aload_n F dX5_isOff_0 rfl 0 rfl <|
g_iload_n F dX5_isOff_1 rfl 1 rfl <|
g_calli0 (g_V F dX5_isOff_2 q3210 mi_X5_turnsDone ct_X5 (rm' := rmX5_turnsDone) ⟨Nat.le_of_ble_eq_true rfl, Nat.le_of_ble_eq_true rfl⟩ ⟨Nat.le_refl 0, Nat.le_refl 0⟩ (As := [aI v1]) (rest := []) rfl rfl (Nat.le_of_ble_eq_true rfl) hk (fun a3 hk => m_X5_turnsDone F.ok a3 v1 h _ hk)) ⟨rfl, rfl⟩ fun x2 h1 hk =>
g_istore_n F dX5_isOff_5 rfl (Nat.le_of_ble_eq_true rfl) rfl <|
g_aload_n F dX5_isOff_6 rfl 1 rfl <|
g_iload_n F dX5_isOff_7 rfl 0 rfl <|
g_calli0 (g_V F dX5_isOff_8 q3390 mi_X5_wins ct_X5 (rm' := rmX5_wins) ⟨Nat.le_of_ble_eq_true rfl, Nat.le_of_ble_eq_true rfl⟩ ⟨Nat.le_refl 0, Nat.le_refl 0⟩ (As := [aI x2]) (rest := []) rfl rfl (Nat.le_of_ble_eq_true rfl) hk (fun a6 hk => m_X5_wins F.ok a6 x2 h1 _ hk)) ⟨rfl, rfl⟩ fun x5 h4 hk =>
g_istore_n F dX5_isOff_11 rfl (Nat.le_of_ble_eq_true rfl) rfl <|
g_aload_n F dX5_isOff_12 rfl 2 rfl <|
g_iload_n F dX5_isOff_13 rfl 3 rfl <|
g_calli0 (g_V F dX5_isOff_14 q3382 mi_X5_isActive ct_X5 (rm' := rmX5_isActive) ⟨Nat.le_of_ble_eq_true rfl, Nat.le_of_ble_eq_true rfl⟩ ⟨Nat.le_refl 0, Nat.le_refl 0⟩ (As := [aI v1]) (rest := []) rfl rfl (Nat.le_of_ble_eq_true rfl) hk (fun a9 hk => m_X5_isActive F.ok a9 v1 h4 _ hk)) ⟨rfl, rfl⟩ fun x8 h7 hk =>
g_if_eq F dX5_isOff_17 (tgt := 44) rfl (fun hc => have hk := hk.1 hc
g_iconst F dX5_isOff_44 ic_0 <|
g_zret F dX5_isOff_45 (Nat.le_refl 0) (Nat.le_refl 0) rfl hk) (fun hc => have hk := hk.2 hc
g_iload_n F dX5_isOff_20 rfl 0 rfl <|
g_iconst F dX5_isOff_21 ic_m1 <|
g_icmp_eq F dX5_isOff_22 (tgt := 44) rfl (fun hc => have hk := hk.1 hc
g_iconst F dX5_isOff_44 ic_0 <|
g_zret F dX5_isOff_45 (Nat.le_refl 0) (Nat.le_refl 0) rfl hk) (fun hc => have hk := hk.2 hc
g_aload_n F dX5_isOff_25 rfl 2 rfl <|
g_iload_n F dX5_isOff_26 rfl 3 rfl <|
g_iload_n F dX5_isOff_27 rfl 1 rfl <|
g_calli0 (g_V F dX5_isOff_28 q3308 mi_X5_record ct_X5 (rm' := rmX5_record) ⟨Nat.le_of_ble_eq_true rfl, Nat.le_of_ble_eq_true rfl⟩ ⟨Nat.le_refl 0, Nat.le_refl 0⟩ (As := [aI v1, aI x2]) (rest := []) rfl rfl (Nat.le_of_ble_eq_true rfl) hk (fun a12 hk => m_X5_record F.ok a12 v1 x2 h7 _ hk)) ⟨rfl, rfl⟩ fun x11 h10 hk =>
g_aload_n F dX5_isOff_31 rfl 2 rfl <|
g_iload_n F dX5_isOff_32 rfl 0 rfl <|
g_iload_n F dX5_isOff_33 rfl 1 rfl <|
g_calli0 (g_V F dX5_isOff_34 q3308 mi_X5_record ct_X5 (rm' := rmX5_record) ⟨Nat.le_of_ble_eq_true rfl, Nat.le_of_ble_eq_true rfl⟩ ⟨Nat.le_refl 0, Nat.le_refl 0⟩ (As := [aI x5, aI x2]) (rest := [aI x11]) rfl rfl (Nat.le_of_ble_eq_true rfl) hk (fun a15 hk => m_X5_record F.ok a15 x5 x2 h10 _ hk)) ⟨rfl, rfl⟩ fun x14 h13 hk =>
g_icmp_eq F dX5_isOff_37 (tgt := 44) rfl (fun hc => have hk := hk.1 hc
g_iconst F dX5_isOff_44 ic_0 <|
g_zret F dX5_isOff_45 (Nat.le_refl 0) (Nat.le_refl 0) rfl hk) (fun hc => have hk := hk.2 hc
g_iconst F dX5_isOff_40 ic_1 <|
g_goto F dX5_isOff_41 (tgt := 45) rfl <|
g_zret F dX5_isOff_45 (Nat.le_refl 0) (Nat.le_refl 0) rfl hk)))
abbrev rmX5_isWrong : Room := { frames := 8, cells := 0, slots := 0, locals := 177 }
theorem m_X5_isWrong {S : Sx} (hS0 : Sok S) (v0 : Nat) (v1 : Int32) (h : hH) (Q : Int32 → hH → Prop) (hk : f_X5_isWrong S.E v0 v1 h Q) : Ct S yX5_isWrong (ws_ yX5_isWrong cX5_isWrong 2 (some .boolean)) rmX5_isWrong ([aR (some v0), aI v1].map vv) h (qI Q) := by
  refine Ct.of hS0 (by decide +kernel) rfl (Nat.le_of_ble_eq_true rfl) fun x hxS F hnm => ?_
  subst hxS
  unfold f_X5_isWrong at hk
  exact g_aload_n F dX5_isWrong_0 rfl 0 rfl <|
g_aload_n F dX5_isWrong_1 rfl 0 rfl <|
g_iload_n F dX5_isWrong_2 rfl 1 rfl <|
g_calli0 (g_V F dX5_isWrong_3 q3254 mi_X5_isMember ct_X5 (rm' := rmX5_isMember) ⟨Nat.le_of_ble_eq_true rfl, Nat.le_of_ble_eq_true rfl⟩ ⟨Nat.le_refl 0, Nat.le_refl 0⟩ (As := [aI v1]) (rest := [aR (some v0)]) rfl rfl (Nat.le_of_ble_eq_true rfl) hk (fun a3 hk => m_X5_isMember F.ok a3 v1 h _ hk)) ⟨rfl, rfl⟩ fun x2 h1 hk =>
g_calli0 (g_V F dX5_isWrong_6 q3258 mi_X5_checks ct_X5 (rm' := rmX5_checks) ⟨Nat.le_of_ble_eq_true rfl, Nat.le_of_ble_eq_true rfl⟩ ⟨Nat.le_refl 0, Nat.le_refl 0⟩ (As := [aI x2]) (rest := []) rfl rfl (Nat.le_of_ble_eq_true rfl) hk (fun a6 hk => m_X5_checks F.ok a6 x2 h1 _ hk)) ⟨rfl, rfl⟩ fun x5 h4 hk =>
g_if_eq F dX5_isWrong_9 (tgt := 24) rfl (fun hc => have hk := hk.1 hc
g_iconst F dX5_isWrong_24 ic_0 <|
g_zret F dX5_isWrong_25 (Nat.le_refl 0) (Nat.le_refl 0) rfl hk) (fun hc => have hk := hk.2 hc
g_aload_n F dX5_isWrong_12 rfl 0 rfl <|
g_iload_n F dX5_isWrong_13 rfl 1 rfl <|
g_calli0 (g_V F dX5_isWrong_14 q3398 mi_X5_isOff ct_X5 (rm' := rmX5_isOff) ⟨Nat.le_of_ble_eq_true rfl, Nat.le_of_ble_eq_true rfl⟩ ⟨Nat.le_refl 0, Nat.le_refl 0⟩ (As := [aI v1]) (rest := []) rfl rfl (Nat.le_of_ble_eq_true rfl) hk (fun a9 hk => m_X5_isOff F.ok a9 v1 h4 _ hk)) ⟨rfl, rfl⟩ fun x8 h7 hk =>
g_if_eq F dX5_isWrong_17 (tgt := 24) rfl (fun hc => have hk := hk.1 hc
g_iconst F dX5_isWrong_24 ic_0 <|
g_zret F dX5_isWrong_25 (Nat.le_refl 0) (Nat.le_refl 0) rfl hk) (fun hc => have hk := hk.2 hc
g_iconst F dX5_isWrong_20 ic_1 <|
g_goto F dX5_isWrong_21 (tgt := 25) rfl <|
g_zret F dX5_isWrong_25 (Nat.le_refl 0) (Nat.le_refl 0) rfl hk))
abbrev rmX5_wrongMembers : Room := { frames := 8, cells := 0, slots := 0, locals := 177 }
theorem s_X5_wrongMembers_j33 {x : Cx} (F : Fx x cX5_wrongMembers "LockstepRoomModel" 3 (some .int) rmX5_wrongMembers) {v0 : Nat} {Q : Int32 → hH → Prop} {K9 : Int32 → Int32 → hH → Prop} (s0 : Int32) (s1 : Int32) (l2 : Int32) (h : hH) (hk : f_X5_wrongMembers_j33 x.S.E v0 Q K9 s0 s1 l2 h) (hK9 : ∀ (l1 : Int32) (l2 : Int32) (h : hH), K9 l1 l2 h → G x (xQ x rmX5_wrongMembers (qI Q)) 9 [(0, aR (some v0)), (1, aI l1), (2, aI l2)] [] h 0 0) : G x (xQ x rmX5_wrongMembers (qI Q)) 33 [(0, aR (some v0)), (2, aI l2)] [aI s1, aI s0] h 0 0 := by
  unfold f_X5_wrongMembers_j33 at hk
  exact g_ior F dX5_wrongMembers_33 <|
g_istore_n F dX5_wrongMembers_34 rfl (Nat.le_of_ble_eq_true rfl) rfl <|
g_iinc (v := (l2 + (1:Int32))) F dX5_wrongMembers_35 (j := 2) rfl (iinc_1 l2) (Nat.le_of_ble_eq_true rfl) rfl <|
g_goto F dX5_wrongMembers_38 (tgt := 9) rfl <|
G.fewer [2, 1, 0] rfl <| hK9 (s0 ||| s1) (l2 + (1:Int32)) h hk
theorem s_X5_wrongMembers_l9 {x : Cx} (F : Fx x cX5_wrongMembers "LockstepRoomModel" 3 (some .int) rmX5_wrongMembers) {v0 : Nat} {Q : Int32 → hH → Prop} {K41 : Int32 → hH → Prop} (n : Nat) (l1 : Int32) (l2 : Int32) (h : hH) (hk : f_X5_wrongMembers_l9 x.S.E v0 Q K41 n l1 l2 h) (hK41 : ∀ (l1 : Int32) (h : hH), K41 l1 h → G x (xQ x rmX5_wrongMembers (qI Q)) 41 [(1, aI l1)] [] h 0 0) : G x (xQ x rmX5_wrongMembers (qI Q)) 9 [(0, aR (some v0)), (1, aI l1), (2, aI l2)] [] h 0 0 := by
  induction n generalizing l1 l2 h with
  | zero => exact False.elim hk
  | succ n ih =>
    unfold f_X5_wrongMembers_l9 at hk
    exact g_iload_n F dX5_wrongMembers_9 rfl 2 rfl <|
g_aload_n F dX5_wrongMembers_10 rfl 0 rfl <|
g_calli0 (g_V F dX5_wrongMembers_11 q3146 mi_X5_members ct_X5 (rm' := rmX5_members) ⟨Nat.le_of_ble_eq_true rfl, Nat.le_of_ble_eq_true rfl⟩ ⟨Nat.le_refl 0, Nat.le_refl 0⟩ (As := []) (rest := [aI l2]) rfl rfl (Nat.le_of_ble_eq_true rfl) hk (fun a3 hk => m_X5_members F.ok a3 h _ hk)) ⟨rfl, rfl⟩ fun x2 h1 hk =>
g_icmp_ge F dX5_wrongMembers_14 (tgt := 41) rfl (fun hc => have hk := hk.1 hc
G.fewer [1] rfl <| hK41 l1 h1 hk) (fun hc => have hk := hk.2 hc
g_iload_n F dX5_wrongMembers_17 rfl 1 rfl <|
g_aload_n F dX5_wrongMembers_18 rfl 0 rfl <|
g_iload_n F dX5_wrongMembers_19 rfl 2 rfl <|
g_calli0 (g_V F dX5_wrongMembers_20 q3398 mi_X5_isOff ct_X5 (rm' := rmX5_isOff) ⟨Nat.le_of_ble_eq_true rfl, Nat.le_of_ble_eq_true rfl⟩ ⟨Nat.le_refl 0, Nat.le_refl 0⟩ (As := [aI l2]) (rest := [aI l1]) rfl rfl (Nat.le_of_ble_eq_true rfl) hk (fun a6 hk => m_X5_isOff F.ok a6 l2 h1 _ hk)) ⟨rfl, rfl⟩ fun x5 h4 hk =>
g_if_eq F dX5_wrongMembers_23 (tgt := 32) rfl (fun hc => have hk := hk.1 hc
g_iconst F dX5_wrongMembers_32 ic_0 <|
G.fewer [0, 2] rfl <| s_X5_wrongMembers_j33 F l1 (0:Int32) l2 h4 hk ih) (fun hc => have hk := hk.2 hc
g_iconst F dX5_wrongMembers_26 ic_1 <|
g_iload_n F dX5_wrongMembers_27 rfl 2 rfl <|
g_ishl F dX5_wrongMembers_28 <|
g_goto F dX5_wrongMembers_29 (tgt := 33) rfl <|
G.fewer [0, 2] rfl <| s_X5_wrongMembers_j33 F l1 ((1:Int32) <<< (l2 &&& 31)) l2 h4 hk ih))
theorem m_X5_wrongMembers {S : Sx} (hS0 : Sok S) (v0 : Nat) (h : hH) (Q : Int32 → hH → Prop) (hk : f_X5_wrongMembers S.E v0 h Q) : Ct S yX5_wrongMembers (ws_ yX5_wrongMembers cX5_wrongMembers 3 (some .int)) rmX5_wrongMembers ([aR (some v0)].map vv) h (qI Q) := by
  refine Ct.of hS0 (by decide +kernel) rfl (Nat.le_of_ble_eq_true rfl) fun x hxS F hnm => ?_
  subst hxS
  unfold f_X5_wrongMembers at hk
  exact g_aload_n F dX5_wrongMembers_0 rfl 0 rfl <|
g_iconst F dX5_wrongMembers_1 ic_0 <|
g_putV F dX5_wrongMembers_2 fo_X5_0_LockstepRoomModel ck_X5 fl_LockstepRoomModel_47_X5 rfl (v := aI (0:Int32)) (fit_i (0:Int32)) hk fun h7 hk =>
g_iconst F dX5_wrongMembers_5 ic_0 <|
g_istore_n F dX5_wrongMembers_6 rfl (Nat.le_of_ble_eq_true rfl) rfl <|
g_iconst F dX5_wrongMembers_7 ic_0 <|
g_istore_n F dX5_wrongMembers_8 rfl (Nat.le_of_ble_eq_true rfl) rfl <|
G.fewer [2, 1, 0] rfl <| s_X5_wrongMembers_l9 F 1000000 (0:Int32) (0:Int32) h7 hk ((fun l1 h hk => g_iload_n F dX5_wrongMembers_41 rfl 0 rfl <|
g_iret F dX5_wrongMembers_42 (Nat.le_refl 0) (Nat.le_refl 0) hk))
abbrev rmX5_giver : Room := { frames := 7, cells := 0, slots := 0, locals := 154 }
theorem s_X5_giver_j93 {x : Cx} (F : Fx x cX5_giver "LockstepRoomModel" 6 (some .int) rmX5_giver) {v0 : Nat} {Q : Int32 → hH → Prop} {K12 : Int32 → Int32 → Int32 → Int32 → Int32 → hH → Prop} (l1 : Int32) (l2 : Int32) (l3 : Int32) (l5 : Int32) (h : hH) (hk : f_X5_giver_j93 x.S.E v0 Q K12 l1 l2 l3 l5 h) (hK12 : ∀ (l1 : Int32) (l2 : Int32) (l3 : Int32) (l4 : Int32) (l5 : Int32) (h : hH), K12 l1 l2 l3 l4 l5 h → G x (xQ x rmX5_giver (qI Q)) 12 [(0, aR (some v0)), (1, aI l1), (2, aI l2), (3, aI l3), (4, aI l4), (5, aI l5)] [] h 0 0) : G x (xQ x rmX5_giver (qI Q)) 93 [(0, aR (some v0)), (1, aI l1), (2, aI l2), (3, aI l3), (5, aI l5)] [] h 0 0 := by
  unfold f_X5_giver_j93 at hk
  exact g_iload F dX5_giver_93 4 rfl <|
g_istore F dX5_giver_95 (Nat.le_of_ble_eq_true rfl) rfl <|
g_iinc (v := (l5 + (1:Int32))) F dX5_giver_97 (j := 5) rfl (iinc_1 l5) (Nat.le_of_ble_eq_true rfl) rfl <|
g_goto F dX5_giver_100 (tgt := 12) rfl <|
G.fewer [2, 3, 4, 5, 1, 0] rfl <| hK12 l1 l2 l3 l5 (l5 + (1:Int32)) h hk
theorem s_X5_giver_l12 {x : Cx} (F : Fx x cX5_giver "LockstepRoomModel" 6 (some .int) rmX5_giver) {v0 : Nat} {Q : Int32 → hH → Prop} {K103 : Int32 → hH → Prop} (n : Nat) (l1 : Int32) (l2 : Int32) (l3 : Int32) (l4 : Int32) (l5 : Int32) (h : hH) (hk : f_X5_giver_l12 x.S.E v0 Q K103 n l1 l2 l3 l4 l5 h) (hK103 : ∀ (l4 : Int32) (h : hH), K103 l4 h → G x (xQ x rmX5_giver (qI Q)) 103 [(4, aI l4)] [] h 0 0) : G x (xQ x rmX5_giver (qI Q)) 12 [(0, aR (some v0)), (1, aI l1), (2, aI l2), (3, aI l3), (4, aI l4), (5, aI l5)] [] h 0 0 := by
  induction n generalizing l1 l2 l3 l4 l5 h with
  | zero => exact False.elim hk
  | succ n ih =>
    unfold f_X5_giver_l12 at hk
    exact g_iload F dX5_giver_12 5 rfl <|
g_aload_n F dX5_giver_14 rfl 0 rfl <|
g_calli0 (g_V F dX5_giver_15 q3146 mi_X5_members ct_X5 (rm' := rmX5_members) ⟨Nat.le_of_ble_eq_true rfl, Nat.le_of_ble_eq_true rfl⟩ ⟨Nat.le_refl 0, Nat.le_refl 0⟩ (As := []) (rest := [aI l5]) rfl rfl (Nat.le_of_ble_eq_true rfl) hk (fun a3 hk => m_X5_members F.ok a3 h _ hk)) ⟨rfl, rfl⟩ fun x2 h1 hk =>
g_icmp_ge F dX5_giver_18 (tgt := 103) rfl (fun hc => have hk := hk.1 hc
G.fewer [4] rfl <| hK103 l4 h1 hk) (fun hc => have hk := hk.2 hc
g_iload_n F dX5_giver_21 rfl 3 rfl <|
g_iconst F dX5_giver_22 ic_m1 <|
g_icmp_eq F dX5_giver_23 (tgt := 103) rfl (fun hc => have hk := hk.1 hc
G.fewer [4] rfl <| hK103 l4 h1 hk) (fun hc => have hk := hk.2 hc
g_iload F dX5_giver_26 5 rfl <|
g_iload_n F dX5_giver_28 rfl 2 rfl <|
g_icmp_eq F dX5_giver_29 (tgt := 97) rfl (fun hc => have hk := hk.1 hc
g_iinc (v := (l5 + (1:Int32))) F dX5_giver_97 (j := 5) rfl (iinc_1 l5) (Nat.le_of_ble_eq_true rfl) rfl <|
g_goto F dX5_giver_100 (tgt := 12) rfl <|
G.fewer [1, 2, 3, 4, 5, 0] rfl <| ih l1 l2 l3 l4 (l5 + (1:Int32)) h1 hk) (fun hc => have hk := hk.2 hc
g_aload_n F dX5_giver_32 rfl 0 rfl <|
g_iload F dX5_giver_33 5 rfl <|
g_calli0 (g_V F dX5_giver_35 q3382 mi_X5_isActive ct_X5 (rm' := rmX5_isActive) ⟨Nat.le_of_ble_eq_true rfl, Nat.le_of_ble_eq_true rfl⟩ ⟨Nat.le_refl 0, Nat.le_refl 0⟩ (As := [aI l5]) (rest := []) rfl rfl (Nat.le_of_ble_eq_true rfl) hk (fun a6 hk => m_X5_isActive F.ok a6 l5 h1 _ hk)) ⟨rfl, rfl⟩ fun x5 h4 hk =>
g_if_eq F dX5_giver_38 (tgt := 97) rfl (fun hc => have hk := hk.1 hc
g_iinc (v := (l5 + (1:Int32))) F dX5_giver_97 (j := 5) rfl (iinc_1 l5) (Nat.le_of_ble_eq_true rfl) rfl <|
g_goto F dX5_giver_100 (tgt := 12) rfl <|
G.fewer [1, 2, 3, 4, 5, 0] rfl <| ih l1 l2 l3 l4 (l5 + (1:Int32)) h4 hk) (fun hc => have hk := hk.2 hc
g_aload_n F dX5_giver_41 rfl 0 rfl <|
g_iload F dX5_giver_42 5 rfl <|
g_calli0 (g_V F dX5_giver_44 q3210 mi_X5_turnsDone ct_X5 (rm' := rmX5_turnsDone) ⟨Nat.le_of_ble_eq_true rfl, Nat.le_of_ble_eq_true rfl⟩ ⟨Nat.le_refl 0, Nat.le_refl 0⟩ (As := [aI l5]) (rest := []) rfl rfl (Nat.le_of_ble_eq_true rfl) hk (fun a9 hk => m_X5_turnsDone F.ok a9 l5 h4 _ hk)) ⟨rfl, rfl⟩ fun x8 h7 hk =>
g_iload_n F dX5_giver_47 rfl 1 rfl <|
g_icmp_ne F dX5_giver_48 (tgt := 97) rfl (fun hc => have hk := hk.2 hc
g_iinc (v := (l5 + (1:Int32))) F dX5_giver_97 (j := 5) rfl (iinc_1 l5) (Nat.le_of_ble_eq_true rfl) rfl <|
g_goto F dX5_giver_100 (tgt := 12) rfl <|
G.fewer [1, 2, 3, 4, 5, 0] rfl <| ih l1 l2 l3 l4 (l5 + (1:Int32)) h7 hk) (fun hc => have hk := hk.1 hc
g_aload_n F dX5_giver_51 rfl 0 rfl <|
g_iload F dX5_giver_52 5 rfl <|
g_iload_n F dX5_giver_54 rfl 1 rfl <|
g_calli0 (g_V F dX5_giver_55 q3308 mi_X5_record ct_X5 (rm' := rmX5_record) ⟨Nat.le_of_ble_eq_true rfl, Nat.le_of_ble_eq_true rfl⟩ ⟨Nat.le_refl 0, Nat.le_refl 0⟩ (As := [aI l5, aI l1]) (rest := []) rfl rfl (Nat.le_of_ble_eq_true rfl) hk (fun a12 hk => m_X5_record F.ok a12 l5 l1 h7 _ hk)) ⟨rfl, rfl⟩ fun x11 h10 hk =>
g_aload_n F dX5_giver_58 rfl 0 rfl <|
g_iload_n F dX5_giver_59 rfl 3 rfl <|
g_iload_n F dX5_giver_60 rfl 1 rfl <|
g_calli0 (g_V F dX5_giver_61 q3308 mi_X5_record ct_X5 (rm' := rmX5_record) ⟨Nat.le_of_ble_eq_true rfl, Nat.le_of_ble_eq_true rfl⟩ ⟨Nat.le_refl 0, Nat.le_refl 0⟩ (As := [aI l3, aI l1]) (rest := [aI x11]) rfl rfl (Nat.le_of_ble_eq_true rfl) hk (fun a15 hk => m_X5_record F.ok a15 l3 l1 h10 _ hk)) ⟨rfl, rfl⟩ fun x14 h13 hk =>
g_icmp_eq F dX5_giver_64 (tgt := 70) rfl (fun hc => have hk := hk.1 hc
g_iload F dX5_giver_70 4 rfl <|
g_iconst F dX5_giver_72 ic_m1 <|
g_icmp_eq F dX5_giver_73 (tgt := 93) rfl (fun hc => have hk := hk.1 hc
G.fewer [0, 1, 2, 3, 5] rfl <| s_X5_giver_j93 F l1 l2 l3 l5 h13 hk ih) (fun hc => have hk := hk.2 hc
g_aload_n F dX5_giver_76 rfl 0 rfl <|
g_iload F dX5_giver_77 5 rfl <|
g_iconst F dX5_giver_79 ic_3 <|
g_calli0 (g_V F dX5_giver_80 q3214 mi_X5_of ct_X5 (rm' := rmX5_of) ⟨Nat.le_of_ble_eq_true rfl, Nat.le_of_ble_eq_true rfl⟩ ⟨Nat.le_refl 0, Nat.le_refl 0⟩ (As := [aI l5, aI (3:Int32)]) (rest := []) rfl rfl (Nat.le_of_ble_eq_true rfl) hk (fun a18 hk => m_X5_of F.ok a18 l5 (3:Int32) h13 _ hk)) ⟨rfl, rfl⟩ fun x17 h16 hk =>
g_aload_n F dX5_giver_83 rfl 0 rfl <|
g_iload F dX5_giver_84 4 rfl <|
g_iconst F dX5_giver_86 ic_3 <|
g_calli0 (g_V F dX5_giver_87 q3214 mi_X5_of ct_X5 (rm' := rmX5_of) ⟨Nat.le_of_ble_eq_true rfl, Nat.le_of_ble_eq_true rfl⟩ ⟨Nat.le_refl 0, Nat.le_refl 0⟩ (As := [aI l4, aI (3:Int32)]) (rest := [aI x17]) rfl rfl (Nat.le_of_ble_eq_true rfl) hk (fun a21 hk => m_X5_of F.ok a21 l4 (3:Int32) h16 _ hk)) ⟨rfl, rfl⟩ fun x20 h19 hk =>
g_icmp_ge F dX5_giver_90 (tgt := 97) rfl (fun hc => have hk := hk.1 hc
g_iinc (v := (l5 + (1:Int32))) F dX5_giver_97 (j := 5) rfl (iinc_1 l5) (Nat.le_of_ble_eq_true rfl) rfl <|
g_goto F dX5_giver_100 (tgt := 12) rfl <|
G.fewer [1, 2, 3, 4, 5, 0] rfl <| ih l1 l2 l3 l4 (l5 + (1:Int32)) h19 hk) (fun hc => have hk := hk.2 hc
G.fewer [0, 1, 2, 3, 5] rfl <| s_X5_giver_j93 F l1 l2 l3 l5 h19 hk ih))) (fun hc => have hk := hk.2 hc
g_goto F dX5_giver_67 (tgt := 97) rfl <|
g_iinc (v := (l5 + (1:Int32))) F dX5_giver_97 (j := 5) rfl (iinc_1 l5) (Nat.le_of_ble_eq_true rfl) rfl <|
g_goto F dX5_giver_100 (tgt := 12) rfl <|
G.fewer [1, 2, 3, 4, 5, 0] rfl <| ih l1 l2 l3 l4 (l5 + (1:Int32)) h13 hk))))))
theorem m_X5_giver {S : Sx} (hS0 : Sok S) (v0 : Nat) (v1 : Int32) (v2 : Int32) (h : hH) (Q : Int32 → hH → Prop) (hk : f_X5_giver S.E v0 v1 v2 h Q) : Ct S yX5_giver (ws_ yX5_giver cX5_giver 6 (some .int)) rmX5_giver ([aR (some v0), aI v1, aI v2].map vv) h (qI Q) := by
  refine Ct.of hS0 (by decide +kernel) rfl (Nat.le_of_ble_eq_true rfl) fun x hxS F hnm => ?_
  subst hxS
  unfold f_X5_giver at hk
  exact g_aload_n F dX5_giver_0 rfl 0 rfl <|
g_iload_n F dX5_giver_1 rfl 1 rfl <|
g_calli0 (g_V F dX5_giver_2 q3390 mi_X5_wins ct_X5 (rm' := rmX5_wins) ⟨Nat.le_of_ble_eq_true rfl, Nat.le_of_ble_eq_true rfl⟩ ⟨Nat.le_refl 0, Nat.le_refl 0⟩ (As := [aI v1]) (rest := []) rfl rfl (Nat.le_of_ble_eq_true rfl) hk (fun a24 hk => m_X5_wins F.ok a24 v1 h _ hk)) ⟨rfl, rfl⟩ fun x23 h22 hk =>
g_istore_n F dX5_giver_5 rfl (Nat.le_of_ble_eq_true rfl) rfl <|
g_iconst F dX5_giver_6 ic_m1 <|
g_istore F dX5_giver_7 (Nat.le_of_ble_eq_true rfl) rfl <|
g_iconst F dX5_giver_9 ic_0 <|
g_istore F dX5_giver_10 (Nat.le_of_ble_eq_true rfl) rfl <|
G.fewer [3, 4, 5, 2, 1, 0] rfl <| s_X5_giver_l12 F 1000000 v1 v2 x23 (-1:Int32) (0:Int32) h22 hk ((fun l4 h hk => g_iload F dX5_giver_103 0 rfl <|
g_iret F dX5_giver_105 (Nat.le_refl 0) (Nat.le_refl 0) hk))
abbrev rmX5_donorFor : Room := { frames := 8, cells := 0, slots := 0, locals := 179 }
theorem m_X5_donorFor {S : Sx} (hS0 : Sok S) (v0 : Nat) (v1 : Int32) (h : hH) (Q : Int32 → hH → Prop) (hk : f_X5_donorFor S.E v0 v1 h Q) : Ct S yX5_donorFor (ws_ yX5_donorFor cX5_donorFor 2 (some .int)) rmX5_donorFor ([aR (some v0), aI v1].map vv) h (qI Q) := by
  refine Ct.of hS0 (by decide +kernel) rfl (Nat.le_of_ble_eq_true rfl) fun x hxS F hnm => ?_
  subst hxS
  unfold f_X5_donorFor at hk
  exact g_aload_n F dX5_donorFor_0 rfl 0 rfl <|
g_aload_n F dX5_donorFor_1 rfl 0 rfl <|
g_iload_n F dX5_donorFor_2 rfl 1 rfl <|
g_calli0 (g_V F dX5_donorFor_3 q3254 mi_X5_isMember ct_X5 (rm' := rmX5_isMember) ⟨Nat.le_of_ble_eq_true rfl, Nat.le_of_ble_eq_true rfl⟩ ⟨Nat.le_refl 0, Nat.le_refl 0⟩ (As := [aI v1]) (rest := [aR (some v0)]) rfl rfl (Nat.le_of_ble_eq_true rfl) hk (fun a3 hk => m_X5_isMember F.ok a3 v1 h _ hk)) ⟨rfl, rfl⟩ fun x2 h1 hk =>
g_calli0 (g_V F dX5_donorFor_6 q3258 mi_X5_checks ct_X5 (rm' := rmX5_checks) ⟨Nat.le_of_ble_eq_true rfl, Nat.le_of_ble_eq_true rfl⟩ ⟨Nat.le_refl 0, Nat.le_refl 0⟩ (As := [aI x2]) (rest := []) rfl rfl (Nat.le_of_ble_eq_true rfl) hk (fun a6 hk => m_X5_checks F.ok a6 x2 h1 _ hk)) ⟨rfl, rfl⟩ fun x5 h4 hk =>
g_if_eq F dX5_donorFor_9 (tgt := 25) rfl (fun hc => have hk := hk.1 hc
g_iconst F dX5_donorFor_25 ic_0 <|
g_iret F dX5_donorFor_26 (Nat.le_refl 0) (Nat.le_refl 0) hk) (fun hc => have hk := hk.2 hc
g_aload_n F dX5_donorFor_12 rfl 0 rfl <|
g_aload_n F dX5_donorFor_13 rfl 0 rfl <|
g_iload_n F dX5_donorFor_14 rfl 1 rfl <|
g_calli0 (g_V F dX5_donorFor_15 q3210 mi_X5_turnsDone ct_X5 (rm' := rmX5_turnsDone) ⟨Nat.le_of_ble_eq_true rfl, Nat.le_of_ble_eq_true rfl⟩ ⟨Nat.le_refl 0, Nat.le_refl 0⟩ (As := [aI v1]) (rest := [aR (some v0)]) rfl rfl (Nat.le_of_ble_eq_true rfl) hk (fun a9 hk => m_X5_turnsDone F.ok a9 v1 h4 _ hk)) ⟨rfl, rfl⟩ fun x8 h7 hk =>
g_iload_n F dX5_donorFor_18 rfl 1 rfl <|
g_calli0 (g_V F dX5_donorFor_19 q3410 mi_X5_giver ct_X5 (rm' := rmX5_giver) ⟨Nat.le_of_ble_eq_true rfl, Nat.le_of_ble_eq_true rfl⟩ ⟨Nat.le_refl 0, Nat.le_refl 0⟩ (As := [aI x8, aI v1]) (rest := []) rfl rfl (Nat.le_of_ble_eq_true rfl) hk (fun a12 hk => m_X5_giver F.ok a12 x8 v1 h7 _ hk)) ⟨rfl, rfl⟩ fun x11 h10 hk =>
g_goto F dX5_donorFor_22 (tgt := 26) rfl <|
g_iret F dX5_donorFor_26 (Nat.le_refl 0) (Nat.le_refl 0) hk)
abbrev rmX5_stops : Room := { frames := 8, cells := 0, slots := 0, locals := 179 }
theorem m_X5_stops {S : Sx} (hS0 : Sok S) (v0 : Nat) (v1 : Int32) (h : hH) (Q : Int32 → hH → Prop) (hk : f_X5_stops S.E v0 v1 h Q) : Ct S yX5_stops (ws_ yX5_stops cX5_stops 2 (some .int)) rmX5_stops ([aR (some v0), aI v1].map vv) h (qI Q) := by
  refine Ct.of hS0 (by decide +kernel) rfl (Nat.le_of_ble_eq_true rfl) fun x hxS F hnm => ?_
  subst hxS
  unfold f_X5_stops at hk
  exact g_aload_n F dX5_stops_0 rfl 0 rfl <|
g_iload_n F dX5_stops_1 rfl 1 rfl <|
g_calli0 (g_V F dX5_stops_2 q3382 mi_X5_isActive ct_X5 (rm' := rmX5_isActive) ⟨Nat.le_of_ble_eq_true rfl, Nat.le_of_ble_eq_true rfl⟩ ⟨Nat.le_refl 0, Nat.le_refl 0⟩ (As := [aI v1]) (rest := []) rfl rfl (Nat.le_of_ble_eq_true rfl) hk (fun a3 hk => m_X5_isActive F.ok a3 v1 h _ hk)) ⟨rfl, rfl⟩ fun x2 h1 hk =>
g_if_ne F dX5_stops_5 (tgt := 10) rfl (fun hc => have hk := hk.2 hc
g_aload_n F dX5_stops_10 rfl 0 rfl <|
g_aload_n F dX5_stops_11 rfl 0 rfl <|
g_iload_n F dX5_stops_12 rfl 1 rfl <|
g_calli0 (g_V F dX5_stops_13 q3210 mi_X5_turnsDone ct_X5 (rm' := rmX5_turnsDone) ⟨Nat.le_of_ble_eq_true rfl, Nat.le_of_ble_eq_true rfl⟩ ⟨Nat.le_refl 0, Nat.le_refl 0⟩ (As := [aI v1]) (rest := [aR (some v0)]) rfl rfl (Nat.le_of_ble_eq_true rfl) hk (fun a6 hk => m_X5_turnsDone F.ok a6 v1 h1 _ hk)) ⟨rfl, rfl⟩ fun x5 h4 hk =>
g_calli0 (g_V F dX5_stops_16 q3390 mi_X5_wins ct_X5 (rm' := rmX5_wins) ⟨Nat.le_of_ble_eq_true rfl, Nat.le_of_ble_eq_true rfl⟩ ⟨Nat.le_refl 0, Nat.le_refl 0⟩ (As := [aI x5]) (rest := []) rfl rfl (Nat.le_of_ble_eq_true rfl) hk (fun a9 hk => m_X5_wins F.ok a9 x5 h4 _ hk)) ⟨rfl, rfl⟩ fun x8 h7 hk =>
g_iconst F dX5_stops_19 ic_m1 <|
g_icmp_ne F dX5_stops_20 (tgt := 25) rfl (fun hc => have hk := hk.2 hc
g_aload_n F dX5_stops_25 rfl 0 rfl <|
g_iload_n F dX5_stops_26 rfl 1 rfl <|
g_calli0 (g_V F dX5_stops_27 q3398 mi_X5_isOff ct_X5 (rm' := rmX5_isOff) ⟨Nat.le_of_ble_eq_true rfl, Nat.le_of_ble_eq_true rfl⟩ ⟨Nat.le_refl 0, Nat.le_refl 0⟩ (As := [aI v1]) (rest := []) rfl rfl (Nat.le_of_ble_eq_true rfl) hk (fun a12 hk => m_X5_isOff F.ok a12 v1 h7 _ hk)) ⟨rfl, rfl⟩ fun x11 h10 hk =>
g_if_ne F dX5_stops_30 (tgt := 35) rfl (fun hc => have hk := hk.2 hc
g_aload_n F dX5_stops_35 rfl 0 rfl <|
g_aload_n F dX5_stops_36 rfl 0 rfl <|
g_iload_n F dX5_stops_37 rfl 1 rfl <|
g_calli0 (g_V F dX5_stops_38 q3210 mi_X5_turnsDone ct_X5 (rm' := rmX5_turnsDone) ⟨Nat.le_of_ble_eq_true rfl, Nat.le_of_ble_eq_true rfl⟩ ⟨Nat.le_refl 0, Nat.le_refl 0⟩ (As := [aI v1]) (rest := [aR (some v0)]) rfl rfl (Nat.le_of_ble_eq_true rfl) hk (fun a15 hk => m_X5_turnsDone F.ok a15 v1 h10 _ hk)) ⟨rfl, rfl⟩ fun x14 h13 hk =>
g_iload_n F dX5_stops_41 rfl 1 rfl <|
g_calli0 (g_V F dX5_stops_42 q3410 mi_X5_giver ct_X5 (rm' := rmX5_giver) ⟨Nat.le_of_ble_eq_true rfl, Nat.le_of_ble_eq_true rfl⟩ ⟨Nat.le_refl 0, Nat.le_refl 0⟩ (As := [aI x14, aI v1]) (rest := []) rfl rfl (Nat.le_of_ble_eq_true rfl) hk (fun a18 hk => m_X5_giver F.ok a18 x14 v1 h13 _ hk)) ⟨rfl, rfl⟩ fun x17 h16 hk =>
g_iconst F dX5_stops_45 ic_m1 <|
g_icmp_ne F dX5_stops_46 (tgt := 53) rfl (fun hc => have hk := hk.2 hc
g_iconst F dX5_stops_53 ic_0 <|
g_iret F dX5_stops_54 (Nat.le_refl 0) (Nat.le_refl 0) hk) (fun hc => have hk := hk.1 hc
g_iconst F dX5_stops_49 ic_4 <|
g_goto F dX5_stops_50 (tgt := 54) rfl <|
g_iret F dX5_stops_54 (Nat.le_refl 0) (Nat.le_refl 0) hk)) (fun hc => have hk := hk.1 hc
g_iconst F dX5_stops_33 ic_3 <|
g_iret F dX5_stops_34 (Nat.le_refl 0) (Nat.le_refl 0) hk)) (fun hc => have hk := hk.1 hc
g_iconst F dX5_stops_23 ic_2 <|
g_iret F dX5_stops_24 (Nat.le_refl 0) (Nat.le_refl 0) hk)) (fun hc => have hk := hk.1 hc
g_iconst F dX5_stops_8 ic_1 <|
g_iret F dX5_stops_9 (Nat.le_refl 0) (Nat.le_refl 0) hk)
abbrev rmX5_whyNot : Room := { frames := 9, cells := 0, slots := 0, locals := 200 }
theorem m_X5_whyNot {S : Sx} (hS0 : Sok S) (v0 : Nat) (v1 : Int32) (h : hH) (Q : Int32 → hH → Prop) (hk : f_X5_whyNot S.E v0 v1 h Q) : Ct S yX5_whyNot (ws_ yX5_whyNot cX5_whyNot 2 (some .int)) rmX5_whyNot ([aR (some v0), aI v1].map vv) h (qI Q) := by
  refine Ct.of hS0 (by decide +kernel) rfl (Nat.le_of_ble_eq_true rfl) fun x hxS F hnm => ?_
  subst hxS
  unfold f_X5_whyNot at hk
  exact g_aload_n F dX5_whyNot_0 rfl 0 rfl <|
g_aload_n F dX5_whyNot_1 rfl 0 rfl <|
g_iload_n F dX5_whyNot_2 rfl 1 rfl <|
g_calli0 (g_V F dX5_whyNot_3 q3254 mi_X5_isMember ct_X5 (rm' := rmX5_isMember) ⟨Nat.le_of_ble_eq_true rfl, Nat.le_of_ble_eq_true rfl⟩ ⟨Nat.le_refl 0, Nat.le_refl 0⟩ (As := [aI v1]) (rest := [aR (some v0)]) rfl rfl (Nat.le_of_ble_eq_true rfl) hk (fun a3 hk => m_X5_isMember F.ok a3 v1 h _ hk)) ⟨rfl, rfl⟩ fun x2 h1 hk =>
g_calli0 (g_V F dX5_whyNot_6 q3258 mi_X5_checks ct_X5 (rm' := rmX5_checks) ⟨Nat.le_of_ble_eq_true rfl, Nat.le_of_ble_eq_true rfl⟩ ⟨Nat.le_refl 0, Nat.le_refl 0⟩ (As := [aI x2]) (rest := []) rfl rfl (Nat.le_of_ble_eq_true rfl) hk (fun a6 hk => m_X5_checks F.ok a6 x2 h1 _ hk)) ⟨rfl, rfl⟩ fun x5 h4 hk =>
g_if_eq F dX5_whyNot_9 (tgt := 20) rfl (fun hc => have hk := hk.1 hc
g_iconst F dX5_whyNot_20 ic_0 <|
g_iret F dX5_whyNot_21 (Nat.le_refl 0) (Nat.le_refl 0) hk) (fun hc => have hk := hk.2 hc
g_aload_n F dX5_whyNot_12 rfl 0 rfl <|
g_iload_n F dX5_whyNot_13 rfl 1 rfl <|
g_calli0 (g_V F dX5_whyNot_14 q3418 mi_X5_stops ct_X5 (rm' := rmX5_stops) ⟨Nat.le_of_ble_eq_true rfl, Nat.le_of_ble_eq_true rfl⟩ ⟨Nat.le_refl 0, Nat.le_refl 0⟩ (As := [aI v1]) (rest := []) rfl rfl (Nat.le_of_ble_eq_true rfl) hk (fun a9 hk => m_X5_stops F.ok a9 v1 h4 _ hk)) ⟨rfl, rfl⟩ fun x8 h7 hk =>
g_goto F dX5_whyNot_17 (tgt := 21) rfl <|
g_iret F dX5_whyNot_21 (Nat.le_refl 0) (Nat.le_refl 0) hk)
abbrev rmX5_extreme : Room := { frames := 4, cells := 0, slots := 0, locals := 83 }
theorem s_X5_extreme_l4 {x : Cx} (F : Fx x cX5_extreme "LockstepRoomModel" 5 (some .int) rmX5_extreme) {v0 : Nat} {Q : Int32 → hH → Prop} {K66 : Int32 → hH → Prop} (n : Nat) (l1 : Int32) (l2 : Int32) (l3 : Int32) (h : hH) (hk : f_X5_extreme_l4 x.S.E v0 Q K66 n l1 l2 l3 h) (hK66 : ∀ (l2 : Int32) (h : hH), K66 l2 h → G x (xQ x rmX5_extreme (qI Q)) 66 [(2, aI l2)] [] h 0 0) : G x (xQ x rmX5_extreme (qI Q)) 4 [(0, aR (some v0)), (1, aI l1), (2, aI l2), (3, aI l3)] [] h 0 0 := by
  induction n generalizing l1 l2 l3 h with
  | zero => exact False.elim hk
  | succ n ih =>
    unfold f_X5_extreme_l4 at hk
    exact g_iload_n F dX5_extreme_4 rfl 3 rfl <|
g_aload_n F dX5_extreme_5 rfl 0 rfl <|
g_calli0 (g_V F dX5_extreme_6 q3146 mi_X5_members ct_X5 (rm' := rmX5_members) ⟨Nat.le_of_ble_eq_true rfl, Nat.le_of_ble_eq_true rfl⟩ ⟨Nat.le_refl 0, Nat.le_refl 0⟩ (As := []) (rest := [aI l3]) rfl rfl (Nat.le_of_ble_eq_true rfl) hk (fun a3 hk => m_X5_members F.ok a3 h _ hk)) ⟨rfl, rfl⟩ fun x2 h1 hk =>
g_icmp_ge F dX5_extreme_9 (tgt := 66) rfl (fun hc => have hk := hk.1 hc
G.fewer [2] rfl <| hK66 l2 h1 hk) (fun hc => have hk := hk.2 hc
g_aload_n F dX5_extreme_12 rfl 0 rfl <|
g_iload_n F dX5_extreme_13 rfl 3 rfl <|
g_calli0 (g_V F dX5_extreme_14 q3382 mi_X5_isActive ct_X5 (rm' := rmX5_isActive) ⟨Nat.le_of_ble_eq_true rfl, Nat.le_of_ble_eq_true rfl⟩ ⟨Nat.le_refl 0, Nat.le_refl 0⟩ (As := [aI l3]) (rest := []) rfl rfl (Nat.le_of_ble_eq_true rfl) hk (fun a6 hk => m_X5_isActive F.ok a6 l3 h1 _ hk)) ⟨rfl, rfl⟩ fun x5 h4 hk =>
g_if_ne F dX5_extreme_17 (tgt := 23) rfl (fun hc => have hk := hk.2 hc
g_aload_n F dX5_extreme_23 rfl 0 rfl <|
g_iload_n F dX5_extreme_24 rfl 3 rfl <|
g_calli0 (g_V F dX5_extreme_25 q3210 mi_X5_turnsDone ct_X5 (rm' := rmX5_turnsDone) ⟨Nat.le_of_ble_eq_true rfl, Nat.le_of_ble_eq_true rfl⟩ ⟨Nat.le_refl 0, Nat.le_refl 0⟩ (As := [aI l3]) (rest := []) rfl rfl (Nat.le_of_ble_eq_true rfl) hk (fun a9 hk => m_X5_turnsDone F.ok a9 l3 h4 _ hk)) ⟨rfl, rfl⟩ fun x8 h7 hk =>
g_istore F dX5_extreme_28 (Nat.le_of_ble_eq_true rfl) rfl <|
g_iload_n F dX5_extreme_30 rfl 3 rfl <|
g_iconst F dX5_extreme_31 ic_m1 <|
g_icmp_ne F dX5_extreme_32 (tgt := 40) rfl (fun hc => have hk := hk.2 hc
g_iload_n F dX5_extreme_40 rfl 2 rfl <|
g_if_eq F dX5_extreme_41 (tgt := 53) rfl (fun hc => have hk := hk.1 hc
g_iload_n F dX5_extreme_53 rfl 3 rfl <|
g_iload F dX5_extreme_54 0 rfl <|
g_mmin (rest := []) F dX5_extreme_56 q3333 q556 q130 q557 (Nat.le_of_ble_eq_true rfl) (Nat.le_of_ble_eq_true rfl) (Nat.le_refl 0) (Nat.le_refl 0) <|
g_istore_n F dX5_extreme_59 rfl (Nat.le_of_ble_eq_true rfl) rfl <|
g_iinc (v := (l3 + (1:Int32))) F dX5_extreme_60 (j := 4) rfl (iinc_1 l3) (Nat.le_of_ble_eq_true rfl) rfl <|
g_goto F dX5_extreme_63 (tgt := 4) rfl <|
G.fewer [3, 4, 1, 0] rfl <| ih l1 (iMin l2 x8) (l3 + (1:Int32)) h7 hk) (fun hc => have hk := hk.2 hc
g_iload_n F dX5_extreme_44 rfl 3 rfl <|
g_iload F dX5_extreme_45 0 rfl <|
g_mmax (rest := []) F dX5_extreme_47 q3328 q540 q130 q541 (Nat.le_of_ble_eq_true rfl) (Nat.le_of_ble_eq_true rfl) (Nat.le_refl 0) (Nat.le_refl 0) <|
g_goto F dX5_extreme_50 (tgt := 59) rfl <|
g_istore_n F dX5_extreme_59 rfl (Nat.le_of_ble_eq_true rfl) rfl <|
g_iinc (v := (l3 + (1:Int32))) F dX5_extreme_60 (j := 4) rfl (iinc_1 l3) (Nat.le_of_ble_eq_true rfl) rfl <|
g_goto F dX5_extreme_63 (tgt := 4) rfl <|
G.fewer [3, 4, 1, 0] rfl <| ih l1 (iMax l2 x8) (l3 + (1:Int32)) h7 hk)) (fun hc => have hk := hk.1 hc
g_iload F dX5_extreme_35 0 rfl <|
g_goto F dX5_extreme_37 (tgt := 59) rfl <|
g_istore_n F dX5_extreme_59 rfl (Nat.le_of_ble_eq_true rfl) rfl <|
g_iinc (v := (l3 + (1:Int32))) F dX5_extreme_60 (j := 4) rfl (iinc_1 l3) (Nat.le_of_ble_eq_true rfl) rfl <|
g_goto F dX5_extreme_63 (tgt := 4) rfl <|
G.fewer [3, 4, 1, 0] rfl <| ih l1 x8 (l3 + (1:Int32)) h7 hk)) (fun hc => have hk := hk.1 hc
g_goto F dX5_extreme_20 (tgt := 60) rfl <|
g_iinc (v := (l3 + (1:Int32))) F dX5_extreme_60 (j := 3) rfl (iinc_1 l3) (Nat.le_of_ble_eq_true rfl) rfl <|
g_goto F dX5_extreme_63 (tgt := 4) rfl <|
G.fewer [1, 2, 3, 0] rfl <| ih l1 l2 (l3 + (1:Int32)) h4 hk))
theorem m_X5_extreme {S : Sx} (hS0 : Sok S) (v0 : Nat) (v1 : Int32) (h : hH) (Q : Int32 → hH → Prop) (hk : f_X5_extreme S.E v0 v1 h Q) : Ct S yX5_extreme (ws_ yX5_extreme cX5_extreme 5 (some .int)) rmX5_extreme ([aR (some v0), aI v1].map vv) h (qI Q) := by
  refine Ct.of hS0 (by decide +kernel) rfl (Nat.le_of_ble_eq_true rfl) fun x hxS F hnm => ?_
  subst hxS
  unfold f_X5_extreme at hk
  exact g_iconst F dX5_extreme_0 ic_m1 <|
g_istore_n F dX5_extreme_1 rfl (Nat.le_of_ble_eq_true rfl) rfl <|
g_iconst F dX5_extreme_2 ic_0 <|
g_istore_n F dX5_extreme_3 rfl (Nat.le_of_ble_eq_true rfl) rfl <|
G.fewer [2, 3, 1, 0] rfl <| s_X5_extreme_l4 F 1000000 v1 (-1:Int32) (0:Int32) h hk ((fun l2 h hk => g_iload_n F dX5_extreme_66 rfl 0 rfl <|
g_iret F dX5_extreme_67 (Nat.le_refl 0) (Nat.le_refl 0) hk))
abbrev rmX5_reached : Room := { frames := 5, cells := 0, slots := 0, locals := 107 }
theorem m_X5_reached {S : Sx} (hS0 : Sok S) (v0 : Nat) (v1 : Int32) (h : hH) (Q : Int32 → hH → Prop) (hk : f_X5_reached S.E v0 v1 h Q) : Ct S yX5_reached (ws_ yX5_reached cX5_reached 2 (some .int)) rmX5_reached ([aR (some v0), aI v1].map vv) h (qI Q) := by
  refine Ct.of hS0 (by decide +kernel) rfl (Nat.le_of_ble_eq_true rfl) fun x hxS F hnm => ?_
  subst hxS
  unfold f_X5_reached at hk
  exact g_aload_n F dX5_reached_0 rfl 0 rfl <|
g_iconst F dX5_reached_1 ic_0 <|
g_putV F dX5_reached_2 fo_X5_0_LockstepRoomModel ck_X5 fl_LockstepRoomModel_47_X5 rfl (v := aI (0:Int32)) (fit_i (0:Int32)) hk fun h1 hk =>
g_aload_n F dX5_reached_5 rfl 0 rfl <|
g_iload_n F dX5_reached_6 rfl 1 rfl <|
g_calli0 (g_V F dX5_reached_7 q3426 mi_X5_extreme ct_X5 (rm' := rmX5_extreme) ⟨Nat.le_of_ble_eq_true rfl, Nat.le_of_ble_eq_true rfl⟩ ⟨Nat.le_refl 0, Nat.le_refl 0⟩ (As := [aI v1]) (rest := []) rfl rfl (Nat.le_of_ble_eq_true rfl) hk (fun a4 hk => m_X5_extreme F.ok a4 v1 h1 _ hk)) ⟨rfl, rfl⟩ fun x3 h2 hk =>
g_iret F dX5_reached_10 (Nat.le_refl 0) (Nat.le_refl 0) hk
abbrev rmX5_may : Room := { frames := 4, cells := 0, slots := 0, locals := 83 }
theorem m_X5_may {S : Sx} (hS0 : Sok S) (v0 : Nat) (v1 : Int32) (v2 : Int32) (h : hH) (Q : Int32 → hH → Prop) (hk : f_X5_may S.E v0 v1 v2 h Q) : Ct S yX5_may (ws_ yX5_may cX5_may 3 (some .int)) rmX5_may ([aR (some v0), aI v1, aI v2].map vv) h (qI Q) := by
  refine Ct.of hS0 (by decide +kernel) rfl (Nat.le_of_ble_eq_true rfl) fun x hxS F hnm => ?_
  subst hxS
  unfold f_X5_may at hk
  exact g_aload_n F dX5_may_0 rfl 0 rfl <|
g_iload_n F dX5_may_1 rfl 1 rfl <|
g_calli0 (g_V F dX5_may_2 q3382 mi_X5_isActive ct_X5 (rm' := rmX5_isActive) ⟨Nat.le_of_ble_eq_true rfl, Nat.le_of_ble_eq_true rfl⟩ ⟨Nat.le_refl 0, Nat.le_refl 0⟩ (As := [aI v1]) (rest := []) rfl rfl (Nat.le_of_ble_eq_true rfl) hk (fun a3 hk => m_X5_isActive F.ok a3 v1 h _ hk)) ⟨rfl, rfl⟩ fun x2 h1 hk =>
g_if_eq F dX5_may_5 (tgt := 40) rfl (fun hc => have hk := hk.1 hc
g_iconst F dX5_may_40 ic_0 <|
g_iret F dX5_may_41 (Nat.le_refl 0) (Nat.le_refl 0) hk) (fun hc => have hk := hk.2 hc
g_iconst F dX5_may_8 ic_0 <|
g_aload_n F dX5_may_9 rfl 0 rfl <|
g_getR F dX5_may_10 fo_X5_5_LockstepRoomModel in_X5 fl_LockstepRoomModel_19_X5 hk fun x4 hk =>
g_sipush F dX5_may_13 sp_387 <|
g_iald F dX5_may_16 hk fun x5 hk =>
g_iload_n F dX5_may_17 rfl 2 rfl <|
g_aload_n F dX5_may_18 rfl 0 rfl <|
g_getR F dX5_may_19 fo_X5_5_LockstepRoomModel in_X5 fl_LockstepRoomModel_19_X5 hk fun x6 hk =>
g_iconst F dX5_may_22 ic_0 <|
g_iald F dX5_may_23 hk fun x7 hk =>
g_iadd F dX5_may_24 <|
g_mmin (rest := [aI (0:Int32)]) F dX5_may_25 q3333 q556 q130 q557 (Nat.le_of_ble_eq_true rfl) (Nat.le_of_ble_eq_true rfl) (Nat.le_refl 0) (Nat.le_refl 0) <|
g_aload_n F dX5_may_28 rfl 0 rfl <|
g_iload_n F dX5_may_29 rfl 1 rfl <|
g_calli0 (g_V F dX5_may_30 q3210 mi_X5_turnsDone ct_X5 (rm' := rmX5_turnsDone) ⟨Nat.le_of_ble_eq_true rfl, Nat.le_of_ble_eq_true rfl⟩ ⟨Nat.le_refl 0, Nat.le_refl 0⟩ (As := [aI v1]) (rest := [aI (iMin x5 (v2 + x7)), aI (0:Int32)]) rfl rfl (Nat.le_of_ble_eq_true rfl) hk (fun a10 hk => m_X5_turnsDone F.ok a10 v1 h1 _ hk)) ⟨rfl, rfl⟩ fun x9 h8 hk =>
g_isub F dX5_may_33 <|
g_mmax (rest := []) F dX5_may_34 q3328 q540 q130 q541 (Nat.le_of_ble_eq_true rfl) (Nat.le_of_ble_eq_true rfl) (Nat.le_refl 0) (Nat.le_refl 0) <|
g_goto F dX5_may_37 (tgt := 41) rfl <|
g_iret F dX5_may_41 (Nat.le_refl 0) (Nat.le_refl 0) hk)
abbrev rmX5_mayRun : Room := { frames := 5, cells := 0, slots := 0, locals := 107 }
theorem m_X5_mayRun {S : Sx} (hS0 : Sok S) (v0 : Nat) (v1 : Int32) (h : hH) (Q : Int32 → hH → Prop) (hk : f_X5_mayRun S.E v0 v1 h Q) : Ct S yX5_mayRun (ws_ yX5_mayRun cX5_mayRun 2 (some .int)) rmX5_mayRun ([aR (some v0), aI v1].map vv) h (qI Q) := by
  refine Ct.of hS0 (by decide +kernel) rfl (Nat.le_of_ble_eq_true rfl) fun x hxS F hnm => ?_
  subst hxS
  unfold f_X5_mayRun at hk
  exact g_aload_n F dX5_mayRun_0 rfl 0 rfl <|
g_aload_n F dX5_mayRun_1 rfl 0 rfl <|
g_iload_n F dX5_mayRun_2 rfl 1 rfl <|
g_calli0 (g_V F dX5_mayRun_3 q3254 mi_X5_isMember ct_X5 (rm' := rmX5_isMember) ⟨Nat.le_of_ble_eq_true rfl, Nat.le_of_ble_eq_true rfl⟩ ⟨Nat.le_refl 0, Nat.le_refl 0⟩ (As := [aI v1]) (rest := [aR (some v0)]) rfl rfl (Nat.le_of_ble_eq_true rfl) hk (fun a3 hk => m_X5_isMember F.ok a3 v1 h _ hk)) ⟨rfl, rfl⟩ fun x2 h1 hk =>
g_calli0 (g_V F dX5_mayRun_6 q3258 mi_X5_checks ct_X5 (rm' := rmX5_checks) ⟨Nat.le_of_ble_eq_true rfl, Nat.le_of_ble_eq_true rfl⟩ ⟨Nat.le_refl 0, Nat.le_refl 0⟩ (As := [aI x2]) (rest := []) rfl rfl (Nat.le_of_ble_eq_true rfl) hk (fun a6 hk => m_X5_checks F.ok a6 x2 h1 _ hk)) ⟨rfl, rfl⟩ fun x5 h4 hk =>
g_if_eq F dX5_mayRun_9 (tgt := 25) rfl (fun hc => have hk := hk.1 hc
g_iconst F dX5_mayRun_25 ic_0 <|
g_iret F dX5_mayRun_26 (Nat.le_refl 0) (Nat.le_refl 0) hk) (fun hc => have hk := hk.2 hc
g_aload_n F dX5_mayRun_12 rfl 0 rfl <|
g_iload_n F dX5_mayRun_13 rfl 1 rfl <|
g_aload_n F dX5_mayRun_14 rfl 0 rfl <|
g_iconst F dX5_mayRun_15 ic_0 <|
g_calli0 (g_V F dX5_mayRun_16 q3426 mi_X5_extreme ct_X5 (rm' := rmX5_extreme) ⟨Nat.le_of_ble_eq_true rfl, Nat.le_of_ble_eq_true rfl⟩ ⟨Nat.le_refl 0, Nat.le_refl 0⟩ (As := [aI (0:Int32)]) (rest := [aI v1, aR (some v0)]) rfl rfl (Nat.le_of_ble_eq_true rfl) hk (fun a9 hk => m_X5_extreme F.ok a9 (0:Int32) h4 _ hk)) ⟨rfl, rfl⟩ fun x8 h7 hk =>
g_calli0 (g_V F dX5_mayRun_19 q3434 mi_X5_may ct_X5 (rm' := rmX5_may) ⟨Nat.le_of_ble_eq_true rfl, Nat.le_of_ble_eq_true rfl⟩ ⟨Nat.le_refl 0, Nat.le_refl 0⟩ (As := [aI v1, aI x8]) (rest := []) rfl rfl (Nat.le_of_ble_eq_true rfl) hk (fun a12 hk => m_X5_may F.ok a12 v1 x8 h7 _ hk)) ⟨rfl, rfl⟩ fun x11 h10 hk =>
g_goto F dX5_mayRun_22 (tgt := 26) rfl <|
g_iret F dX5_mayRun_26 (Nat.le_refl 0) (Nat.le_refl 0) hk)
abbrev rmX5_meanTurns : Room := { frames := 4, cells := 0, slots := 0, locals := 83 }
theorem s_X5_meanTurns_j53 {x : Cx} (F : Fx x cX5_meanTurns "LockstepRoomModel" 4 (some .double) rmX5_meanTurns) {v0 : Nat} {Q : UInt64 → hH → Prop} {K11 : Int32 → Int32 → Int32 → hH → Prop} (s0 : Int32) (s1 : Int32) (l1 : Int32) (l3 : Int32) (h : hH) (hk : f_X5_meanTurns_j53 x.S.E v0 Q K11 s0 s1 l1 l3 h) (hK11 : ∀ (l1 : Int32) (l2 : Int32) (l3 : Int32) (h : hH), K11 l1 l2 l3 h → G x (xQ x rmX5_meanTurns (qD Q)) 11 [(0, aR (some v0)), (1, aI l1), (2, aI l2), (3, aI l3)] [] h 0 0) : G x (xQ x rmX5_meanTurns (qD Q)) 53 [(0, aR (some v0)), (1, aI l1), (3, aI l3)] [aI s1, aI s0] h 0 0 := by
  unfold f_X5_meanTurns_j53 at hk
  exact g_iadd F dX5_meanTurns_53 <|
g_istore_n F dX5_meanTurns_54 rfl (Nat.le_of_ble_eq_true rfl) rfl <|
g_iinc (v := (l3 + (1:Int32))) F dX5_meanTurns_55 (j := 3) rfl (iinc_1 l3) (Nat.le_of_ble_eq_true rfl) rfl <|
g_goto F dX5_meanTurns_58 (tgt := 11) rfl <|
G.fewer [2, 3, 1, 0] rfl <| hK11 l1 (s0 + s1) (l3 + (1:Int32)) h hk
theorem s_X5_meanTurns_j37 {x : Cx} (F : Fx x cX5_meanTurns "LockstepRoomModel" 4 (some .double) rmX5_meanTurns) {v0 : Nat} {Q : UInt64 → hH → Prop} {K11 : Int32 → Int32 → Int32 → hH → Prop} (s0 : Int32) (s1 : Int32) (l2 : Int32) (l3 : Int32) (h : hH) (hk : f_X5_meanTurns_j37 x.S.E v0 Q K11 s0 s1 l2 l3 h) (hK11 : ∀ (l1 : Int32) (l2 : Int32) (l3 : Int32) (h : hH), K11 l1 l2 l3 h → G x (xQ x rmX5_meanTurns (qD Q)) 11 [(0, aR (some v0)), (1, aI l1), (2, aI l2), (3, aI l3)] [] h 0 0) : G x (xQ x rmX5_meanTurns (qD Q)) 37 [(0, aR (some v0)), (2, aI l2), (3, aI l3)] [aI s1, aI s0] h 0 0 := by
  unfold f_X5_meanTurns_j37 at hk
  exact g_iadd F dX5_meanTurns_37 <|
g_istore_n F dX5_meanTurns_38 rfl (Nat.le_of_ble_eq_true rfl) rfl <|
g_iload_n F dX5_meanTurns_39 rfl 2 rfl <|
g_aload_n F dX5_meanTurns_40 rfl 1 rfl <|
g_iload_n F dX5_meanTurns_41 rfl 3 rfl <|
g_calli0 (g_V F dX5_meanTurns_42 q3382 mi_X5_isActive ct_X5 (rm' := rmX5_isActive) ⟨Nat.le_of_ble_eq_true rfl, Nat.le_of_ble_eq_true rfl⟩ ⟨Nat.le_refl 0, Nat.le_refl 0⟩ (As := [aI l3]) (rest := [aI l2]) rfl rfl (Nat.le_of_ble_eq_true rfl) hk (fun a3 hk => m_X5_isActive F.ok a3 l3 h _ hk)) ⟨rfl, rfl⟩ fun x2 h1 hk =>
g_if_eq F dX5_meanTurns_45 (tgt := 52) rfl (fun hc => have hk := hk.1 hc
g_iconst F dX5_meanTurns_52 ic_0 <|
G.fewer [1, 0, 3] rfl <| s_X5_meanTurns_j53 F l2 (0:Int32) (s0 + s1) l3 h1 hk hK11) (fun hc => have hk := hk.2 hc
g_iconst F dX5_meanTurns_48 ic_1 <|
g_goto F dX5_meanTurns_49 (tgt := 53) rfl <|
G.fewer [1, 0, 3] rfl <| s_X5_meanTurns_j53 F l2 (1:Int32) (s0 + s1) l3 h1 hk hK11)
theorem s_X5_meanTurns_l11 {x : Cx} (F : Fx x cX5_meanTurns "LockstepRoomModel" 4 (some .double) rmX5_meanTurns) {v0 : Nat} {Q : UInt64 → hH → Prop} {K61 : Int32 → Int32 → hH → Prop} (n : Nat) (l1 : Int32) (l2 : Int32) (l3 : Int32) (h : hH) (hk : f_X5_meanTurns_l11 x.S.E v0 Q K61 n l1 l2 l3 h) (hK61 : ∀ (l1 : Int32) (l2 : Int32) (h : hH), K61 l1 l2 h → G x (xQ x rmX5_meanTurns (qD Q)) 61 [(1, aI l1), (2, aI l2)] [] h 0 0) : G x (xQ x rmX5_meanTurns (qD Q)) 11 [(0, aR (some v0)), (1, aI l1), (2, aI l2), (3, aI l3)] [] h 0 0 := by
  induction n generalizing l1 l2 l3 h with
  | zero => exact False.elim hk
  | succ n ih =>
    unfold f_X5_meanTurns_l11 at hk
    exact g_iload_n F dX5_meanTurns_11 rfl 3 rfl <|
g_aload_n F dX5_meanTurns_12 rfl 0 rfl <|
g_calli0 (g_V F dX5_meanTurns_13 q3146 mi_X5_members ct_X5 (rm' := rmX5_members) ⟨Nat.le_of_ble_eq_true rfl, Nat.le_of_ble_eq_true rfl⟩ ⟨Nat.le_refl 0, Nat.le_refl 0⟩ (As := []) (rest := [aI l3]) rfl rfl (Nat.le_of_ble_eq_true rfl) hk (fun a6 hk => m_X5_members F.ok a6 h _ hk)) ⟨rfl, rfl⟩ fun x5 h4 hk =>
g_icmp_ge F dX5_meanTurns_16 (tgt := 61) rfl (fun hc => have hk := hk.1 hc
G.fewer [1, 2] rfl <| hK61 l1 l2 h4 hk) (fun hc => have hk := hk.2 hc
g_iload_n F dX5_meanTurns_19 rfl 1 rfl <|
g_aload_n F dX5_meanTurns_20 rfl 0 rfl <|
g_iload_n F dX5_meanTurns_21 rfl 3 rfl <|
g_calli0 (g_V F dX5_meanTurns_22 q3382 mi_X5_isActive ct_X5 (rm' := rmX5_isActive) ⟨Nat.le_of_ble_eq_true rfl, Nat.le_of_ble_eq_true rfl⟩ ⟨Nat.le_refl 0, Nat.le_refl 0⟩ (As := [aI l3]) (rest := [aI l1]) rfl rfl (Nat.le_of_ble_eq_true rfl) hk (fun a9 hk => m_X5_isActive F.ok a9 l3 h4 _ hk)) ⟨rfl, rfl⟩ fun x8 h7 hk =>
g_if_eq F dX5_meanTurns_25 (tgt := 36) rfl (fun hc => have hk := hk.1 hc
g_iconst F dX5_meanTurns_36 ic_0 <|
G.fewer [0, 2, 3] rfl <| s_X5_meanTurns_j37 F l1 (0:Int32) l2 l3 h7 hk ih) (fun hc => have hk := hk.2 hc
g_aload_n F dX5_meanTurns_28 rfl 0 rfl <|
g_iload_n F dX5_meanTurns_29 rfl 3 rfl <|
g_calli0 (g_V F dX5_meanTurns_30 q3210 mi_X5_turnsDone ct_X5 (rm' := rmX5_turnsDone) ⟨Nat.le_of_ble_eq_true rfl, Nat.le_of_ble_eq_true rfl⟩ ⟨Nat.le_refl 0, Nat.le_refl 0⟩ (As := [aI l3]) (rest := [aI l1]) rfl rfl (Nat.le_of_ble_eq_true rfl) hk (fun a12 hk => m_X5_turnsDone F.ok a12 l3 h7 _ hk)) ⟨rfl, rfl⟩ fun x11 h10 hk =>
g_goto F dX5_meanTurns_33 (tgt := 37) rfl <|
G.fewer [0, 2, 3] rfl <| s_X5_meanTurns_j37 F l1 x11 l2 l3 h10 hk ih))
theorem m_X5_meanTurns {S : Sx} (hS0 : Sok S) (v0 : Nat) (h : hH) (Q : UInt64 → hH → Prop) (hk : f_X5_meanTurns S.E v0 h Q) : Ct S yX5_meanTurns (ws_ yX5_meanTurns cX5_meanTurns 4 (some .double)) rmX5_meanTurns ([aR (some v0)].map vv) h (qD Q) := by
  refine Ct.of hS0 (by decide +kernel) rfl (Nat.le_of_ble_eq_true rfl) fun x hxS F hnm => ?_
  subst hxS
  unfold f_X5_meanTurns at hk
  exact g_aload_n F dX5_meanTurns_0 rfl 0 rfl <|
g_iconst F dX5_meanTurns_1 ic_0 <|
g_putV F dX5_meanTurns_2 fo_X5_0_LockstepRoomModel ck_X5 fl_LockstepRoomModel_47_X5 rfl (v := aI (0:Int32)) (fit_i (0:Int32)) hk fun h13 hk =>
g_iconst F dX5_meanTurns_5 ic_0 <|
g_istore_n F dX5_meanTurns_6 rfl (Nat.le_of_ble_eq_true rfl) rfl <|
g_iconst F dX5_meanTurns_7 ic_0 <|
g_istore_n F dX5_meanTurns_8 rfl (Nat.le_of_ble_eq_true rfl) rfl <|
g_iconst F dX5_meanTurns_9 ic_0 <|
g_istore_n F dX5_meanTurns_10 rfl (Nat.le_of_ble_eq_true rfl) rfl <|
G.fewer [3, 2, 1, 0] rfl <| s_X5_meanTurns_l11 F 1000000 (0:Int32) (0:Int32) (0:Int32) h13 hk ((fun l1 l2 h hk => g_iload_n F dX5_meanTurns_61 rfl 1 rfl <|
g_if_ne F dX5_meanTurns_62 (tgt := 69) rfl (fun hc => have hk := hk.2 hc
g_iload_n F dX5_meanTurns_69 rfl 0 rfl <|
g_i2d F dX5_meanTurns_70 <|
g_iload_n F dX5_meanTurns_71 rfl 1 rfl <|
g_i2d F dX5_meanTurns_72 <|
g_ddiv F dX5_meanTurns_73 hk.1 <|
(fun hk => g_dret F dX5_meanTurns_74 (Nat.le_refl 0) (Nat.le_refl 0) hk) hk.2) (fun hc => have hk := hk.1 hc
g_dconst0 F dX5_meanTurns_65 <|
g_goto F dX5_meanTurns_66 (tgt := 74) rfl <|
g_dret F dX5_meanTurns_74 (Nat.le_refl 0) (Nat.le_refl 0) hk)))
abbrev rmX5_takesStart : Room := { frames := 2, cells := 0, slots := 0, locals := 40 }
theorem s_X5_takesStart_l2 {x : Cx} (F : Fx x cX5_takesStart "LockstepRoomModel" 2 none rmX5_takesStart) {v0 : Nat} {Q : hH → Prop} {K26 : hH → Prop} (n : Nat) (l1 : Int32) (h : hH) (hk : f_X5_takesStart_l2 x.S.E v0 Q K26 n l1 h) (hK26 : ∀ (h : hH), K26 h → G x (xQ x rmX5_takesStart (qV Q)) 26 [] [] h 0 0) : G x (xQ x rmX5_takesStart (qV Q)) 2 [(0, aR (some v0)), (1, aI l1)] [] h 0 0 := by
  induction n generalizing l1 h with
  | zero => exact False.elim hk
  | succ n ih =>
    unfold f_X5_takesStart_l2 at hk
    exact g_iload_n F dX5_takesStart_2 rfl 1 rfl <|
g_bipush F dX5_takesStart_3 bp_16 <|
g_icmp_ge F dX5_takesStart_5 (tgt := 26) rfl (fun hc => have hk := hk.1 hc
G.fewer [] rfl <| hK26 h hk) (fun hc => have hk := hk.2 hc
g_aload_n F dX5_takesStart_8 rfl 0 rfl <|
g_getR F dX5_takesStart_9 fo_X5_9_LockstepRoomModel in_X5 fl_LockstepRoomModel_28_X5 hk fun x1 hk =>
g_iload_n F dX5_takesStart_12 rfl 1 rfl <|
g_aload_n F dX5_takesStart_13 rfl 0 rfl <|
g_getR F dX5_takesStart_14 fo_X5_3_LockstepRoomModel in_X5 fl_LockstepRoomModel_13_X5 hk fun x2 hk =>
g_iload_n F dX5_takesStart_17 rfl 1 rfl <|
g_iald F dX5_takesStart_18 hk fun x3 hk =>
g_iast F dX5_takesStart_19 hk fun h4 hk =>
g_iinc (v := (l1 + (1:Int32))) F dX5_takesStart_20 (j := 1) rfl (iinc_1 l1) (Nat.le_of_ble_eq_true rfl) rfl <|
g_goto F dX5_takesStart_23 (tgt := 2) rfl <|
G.fewer [1, 0] rfl <| ih (l1 + (1:Int32)) h4 hk)
theorem m_X5_takesStart {S : Sx} (hS0 : Sok S) (v0 : Nat) (h : hH) (Q : hH → Prop) (hk : f_X5_takesStart S.E v0 h Q) : Ct S yX5_takesStart (ws_ yX5_takesStart cX5_takesStart 2 none) rmX5_takesStart ([aR (some v0)].map vv) h (qV Q) := by
  refine Ct.of hS0 (by decide +kernel) rfl (Nat.le_of_ble_eq_true rfl) fun x hxS F hnm => ?_
  subst hxS
  unfold f_X5_takesStart at hk
  exact g_iconst F dX5_takesStart_0 ic_0 <|
g_istore_n F dX5_takesStart_1 rfl (Nat.le_of_ble_eq_true rfl) rfl <|
G.fewer [1, 0] rfl <| s_X5_takesStart_l2 F 1000000 (0:Int32) h hk ((fun h hk => g_vret F dX5_takesStart_26 (Nat.le_refl 0) (Nat.le_refl 0) hk))
abbrev rmX5_does : Room := { frames := 2, cells := 0, slots := 0, locals := 40 }
theorem m_X5_does {S : Sx} (hS0 : Sok S) (v0 : Nat) (v1 : Int32) (v2 : Int32) (v3 : Int32) (h : hH) (Q : hH → Prop) (hk : f_X5_does S.E v0 v1 v2 v3 h Q) : Ct S yX5_does (ws_ yX5_does cX5_does 5 none) rmX5_does ([aR (some v0), aI v1, aI v2, aI v3].map vv) h (qV Q) := by
  refine Ct.of hS0 (by decide +kernel) rfl (Nat.le_of_ble_eq_true rfl) fun x hxS F hnm => ?_
  subst hxS
  unfold f_X5_does at hk
  exact g_aload_n F dX5_does_0 rfl 0 rfl <|
g_getR F dX5_does_1 fo_X5_9_LockstepRoomModel in_X5 fl_LockstepRoomModel_28_X5 hk fun x1 hk =>
g_iload_n F dX5_does_4 rfl 2 rfl <|
g_iald F dX5_does_5 hk fun x2 hk =>
g_istore F dX5_does_6 (Nat.le_of_ble_eq_true rfl) rfl <|
g_iload_n F dX5_does_8 rfl 2 rfl <|
if hc0 : v1 = (0:Int32) then (have hk := hk.1 hc0
g_tableIn (tgt := 44) (off := 35) F dX5_does_9 (by rw [hc0]; decide) (by rw [hc0]; decide) (by rw [hc0]; rfl) rfl <|
g_aload_n F dX5_does_44 rfl 1 rfl <|
g_getR F dX5_does_45 fo_X5_9_LockstepRoomModel in_X5 fl_LockstepRoomModel_28_X5 hk fun x3 hk =>
g_iload_n F dX5_does_48 rfl 3 rfl <|
g_iload_n F dX5_does_49 rfl 4 rfl <|
g_iast F dX5_does_50 hk fun h4 hk =>
g_goto F dX5_does_51 (tgt := 150) rfl <|
g_vret F dX5_does_150 (Nat.le_refl 0) (Nat.le_refl 0) hk) else have hk := hk.2 hc0
if hc1 : v1 = (1:Int32) then (have hk := hk.1 hc1
g_tableIn (tgt := 54) (off := 45) F dX5_does_9 (by rw [hc1]; decide) (by rw [hc1]; decide) (by rw [hc1]; rfl) rfl <|
g_aload_n F dX5_does_54 rfl 1 rfl <|
g_getR F dX5_does_55 fo_X5_9_LockstepRoomModel in_X5 fl_LockstepRoomModel_28_X5 hk fun x5 hk =>
g_iload_n F dX5_does_58 rfl 3 rfl <|
g_iload F dX5_does_59 0 rfl <|
g_iload_n F dX5_does_61 rfl 4 rfl <|
g_iadd F dX5_does_62 <|
g_sipush F dX5_does_63 sp_10000 <|
g_irem F dX5_does_66 nz_10000_Int32 <|
g_iast F dX5_does_67 hk fun h6 hk =>
g_goto F dX5_does_68 (tgt := 150) rfl <|
g_vret F dX5_does_150 (Nat.le_refl 0) (Nat.le_refl 0) hk) else have hk := hk.2 hc1
if hc2 : v1 = (2:Int32) then (have hk := hk.1 hc2
g_tableIn (tgt := 71) (off := 62) F dX5_does_9 (by rw [hc2]; decide) (by rw [hc2]; decide) (by rw [hc2]; rfl) rfl <|
g_aload_n F dX5_does_71 rfl 1 rfl <|
g_getR F dX5_does_72 fo_X5_9_LockstepRoomModel in_X5 fl_LockstepRoomModel_28_X5 hk fun x7 hk =>
g_iload_n F dX5_does_75 rfl 3 rfl <|
g_aload_n F dX5_does_76 rfl 1 rfl <|
g_getR F dX5_does_77 fo_X5_9_LockstepRoomModel in_X5 fl_LockstepRoomModel_28_X5 hk fun x8 hk =>
g_iload_n F dX5_does_80 rfl 4 rfl <|
g_iald F dX5_does_81 hk fun x9 hk =>
g_iast F dX5_does_82 hk fun h10 hk =>
g_goto F dX5_does_83 (tgt := 150) rfl <|
g_vret F dX5_does_150 (Nat.le_refl 0) (Nat.le_refl 0) hk) else have hk := hk.2 hc2
if hc3 : v1 = (3:Int32) then (have hk := hk.1 hc3
g_tableIn (tgt := 86) (off := 77) F dX5_does_9 (by rw [hc3]; decide) (by rw [hc3]; decide) (by rw [hc3]; rfl) rfl <|
g_aload_n F dX5_does_86 rfl 1 rfl <|
g_getR F dX5_does_87 fo_X5_9_LockstepRoomModel in_X5 fl_LockstepRoomModel_28_X5 hk fun x11 hk =>
g_iload_n F dX5_does_90 rfl 3 rfl <|
g_iload F dX5_does_91 0 rfl <|
g_aload_n F dX5_does_93 rfl 1 rfl <|
g_getR F dX5_does_94 fo_X5_9_LockstepRoomModel in_X5 fl_LockstepRoomModel_28_X5 hk fun x12 hk =>
g_iload_n F dX5_does_97 rfl 4 rfl <|
g_iald F dX5_does_98 hk fun x13 hk =>
g_iadd F dX5_does_99 <|
g_sipush F dX5_does_100 sp_10000 <|
g_irem F dX5_does_103 nz_10000_Int32 <|
g_iast F dX5_does_104 hk fun h14 hk =>
g_goto F dX5_does_105 (tgt := 150) rfl <|
g_vret F dX5_does_150 (Nat.le_refl 0) (Nat.le_refl 0) hk) else have hk := hk.2 hc3
if hc4 : v1 = (4:Int32) then (have hk := hk.1 hc4
g_tableIn (tgt := 108) (off := 99) F dX5_does_9 (by rw [hc4]; decide) (by rw [hc4]; decide) (by rw [hc4]; rfl) rfl <|
g_aload_n F dX5_does_108 rfl 1 rfl <|
g_getR F dX5_does_109 fo_X5_9_LockstepRoomModel in_X5 fl_LockstepRoomModel_28_X5 hk fun x15 hk =>
g_iload_n F dX5_does_112 rfl 3 rfl <|
g_aload_n F dX5_does_113 rfl 1 rfl <|
g_getR F dX5_does_114 fo_X5_9_LockstepRoomModel in_X5 fl_LockstepRoomModel_28_X5 hk fun x16 hk =>
g_iload_n F dX5_does_117 rfl 4 rfl <|
g_iald F dX5_does_118 hk fun x17 hk =>
g_iast F dX5_does_119 hk fun h18 hk =>
g_aload_n F dX5_does_120 rfl 1 rfl <|
g_getR F dX5_does_121 fo_X5_9_LockstepRoomModel in_X5 fl_LockstepRoomModel_28_X5 hk fun x19 hk =>
g_iload_n F dX5_does_124 rfl 4 rfl <|
g_iload F dX5_does_125 0 rfl <|
g_iast F dX5_does_127 hk fun h20 hk =>
g_goto F dX5_does_128 (tgt := 150) rfl <|
g_vret F dX5_does_150 (Nat.le_refl 0) (Nat.le_refl 0) hk) else have hk := hk.2 hc4
g_tableOut (tgt := 131) F dX5_does_9 (sw_out_0_1_2_3_4 hc0 hc1 hc2 hc3 hc4) rfl <|
g_aload_n F dX5_does_131 rfl 1 rfl <|
g_getR F dX5_does_132 fo_X5_9_LockstepRoomModel in_X5 fl_LockstepRoomModel_28_X5 hk fun x21 hk =>
g_iload_n F dX5_does_135 rfl 3 rfl <|
g_iload F dX5_does_136 0 rfl <|
g_aload_n F dX5_does_138 rfl 1 rfl <|
g_getR F dX5_does_139 fo_X5_9_LockstepRoomModel in_X5 fl_LockstepRoomModel_28_X5 hk fun x22 hk =>
g_iload_n F dX5_does_142 rfl 4 rfl <|
g_iald F dX5_does_143 hk fun x23 hk =>
g_imul F dX5_does_144 <|
g_sipush F dX5_does_145 sp_10000 <|
g_irem F dX5_does_148 nz_10000_Int32 <|
g_iast F dX5_does_149 hk fun h24 hk =>
g_vret F dX5_does_150 (Nat.le_refl 0) (Nat.le_refl 0) hk
abbrev rmX5_doesTurn : Room := { frames := 3, cells := 0, slots := 0, locals := 64 }
theorem s_X5_doesTurn_l11 {x : Cx} (F : Fx x cX5_doesTurn "LockstepRoomModel" 5 none rmX5_doesTurn) {v0 : Nat} {Q : hH → Prop} {K67 : hH → Prop} (n : Nat) (l2 : Int32) (l3 : Int32) (h : hH) (hk : f_X5_doesTurn_l11 x.S.E v0 Q K67 n l2 l3 h) (hK67 : ∀ (h : hH), K67 h → G x (xQ x rmX5_doesTurn (qV Q)) 67 [] [] h 0 0) : G x (xQ x rmX5_doesTurn (qV Q)) 11 [(0, aR (some v0)), (2, aI l2), (3, aI l3)] [] h 0 0 := by
  induction n generalizing l2 l3 h with
  | zero => exact False.elim hk
  | succ n ih =>
    unfold f_X5_doesTurn_l11 at hk
    exact g_iload_n F dX5_doesTurn_11 rfl 2 rfl <|
g_aload_n F dX5_doesTurn_12 rfl 0 rfl <|
g_getR F dX5_doesTurn_13 fo_X5_5_LockstepRoomModel in_X5 fl_LockstepRoomModel_19_X5 hk fun x1 hk =>
g_iload_n F dX5_doesTurn_16 rfl 1 rfl <|
g_iald F dX5_doesTurn_17 hk fun x2 hk =>
g_icmp_ge F dX5_doesTurn_18 (tgt := 67) rfl (fun hc => have hk := hk.1 hc
G.fewer [] rfl <| hK67 h hk) (fun hc => have hk := hk.2 hc
g_iload_n F dX5_doesTurn_21 rfl 1 rfl <|
g_iconst F dX5_doesTurn_22 ic_1 <|
g_iadd F dX5_doesTurn_23 <|
g_iconst F dX5_doesTurn_24 ic_4 <|
g_iload_n F dX5_doesTurn_25 rfl 2 rfl <|
g_imul F dX5_doesTurn_26 <|
g_iadd F dX5_doesTurn_27 <|
g_istore F dX5_doesTurn_28 (Nat.le_of_ble_eq_true rfl) rfl <|
g_aload_n F dX5_doesTurn_30 rfl 1 rfl <|
g_aload_n F dX5_doesTurn_31 rfl 1 rfl <|
g_getR F dX5_doesTurn_32 fo_X5_5_LockstepRoomModel in_X5 fl_LockstepRoomModel_19_X5 hk fun x3 hk =>
g_iload F dX5_doesTurn_35 0 rfl <|
g_iconst F dX5_doesTurn_37 ic_1 <|
g_iadd F dX5_doesTurn_38 <|
g_iald F dX5_doesTurn_39 hk fun x4 hk =>
g_aload_n F dX5_doesTurn_40 rfl 1 rfl <|
g_getR F dX5_doesTurn_41 fo_X5_5_LockstepRoomModel in_X5 fl_LockstepRoomModel_19_X5 hk fun x5 hk =>
g_iload F dX5_doesTurn_44 0 rfl <|
g_iconst F dX5_doesTurn_46 ic_2 <|
g_iadd F dX5_doesTurn_47 <|
g_iald F dX5_doesTurn_48 hk fun x6 hk =>
g_aload_n F dX5_doesTurn_49 rfl 1 rfl <|
g_getR F dX5_doesTurn_50 fo_X5_5_LockstepRoomModel in_X5 fl_LockstepRoomModel_19_X5 hk fun x7 hk =>
g_iload F dX5_doesTurn_53 0 rfl <|
g_iconst F dX5_doesTurn_55 ic_3 <|
g_iadd F dX5_doesTurn_56 <|
g_iald F dX5_doesTurn_57 hk fun x8 hk =>
g_callv0 (g_V F dX5_doesTurn_58 q3458 mi_X5_does ct_X5 (rm' := rmX5_does) ⟨Nat.le_of_ble_eq_true rfl, Nat.le_of_ble_eq_true rfl⟩ ⟨Nat.le_refl 0, Nat.le_refl 0⟩ (As := [aI x4, aI x6, aI x8]) (rest := []) rfl rfl (Nat.le_of_ble_eq_true rfl) hk (fun a10 hk => m_X5_does F.ok a10 x4 x6 x8 h _ hk)) ⟨rfl, rfl⟩ fun h9 hk =>
g_iinc (v := (l3 + (1:Int32))) F dX5_doesTurn_61 (j := 3) rfl (iinc_1 l3) (Nat.le_of_ble_eq_true rfl) rfl <|
g_goto F dX5_doesTurn_64 (tgt := 11) rfl <|
G.fewer [2, 3, 0] rfl <| ih l2 (l3 + (1:Int32)) h9 hk)
theorem m_X5_doesTurn {S : Sx} (hS0 : Sok S) (v0 : Nat) (v1 : Int32) (h : hH) (Q : hH → Prop) (hk : f_X5_doesTurn S.E v0 v1 h Q) : Ct S yX5_doesTurn (ws_ yX5_doesTurn cX5_doesTurn 5 none) rmX5_doesTurn ([aR (some v0), aI v1].map vv) h (qV Q) := by
  refine Ct.of hS0 (by decide +kernel) rfl (Nat.le_of_ble_eq_true rfl) fun x hxS F hnm => ?_
  subst hxS
  unfold f_X5_doesTurn at hk
  exact g_sipush F dX5_doesTurn_0 sp_388 <|
g_bipush F dX5_doesTurn_3 bp_33 <|
g_iload_n F dX5_doesTurn_5 rfl 1 rfl <|
g_imul F dX5_doesTurn_6 <|
g_iadd F dX5_doesTurn_7 <|
g_istore_n F dX5_doesTurn_8 rfl (Nat.le_of_ble_eq_true rfl) rfl <|
g_iconst F dX5_doesTurn_9 ic_0 <|
g_istore_n F dX5_doesTurn_10 rfl (Nat.le_of_ble_eq_true rfl) rfl <|
G.fewer [2, 1, 0] rfl <| s_X5_doesTurn_l11 F 1000000 ((388:Int32) + ((33:Int32) * v1)) (0:Int32) h hk ((fun h hk => g_vret F dX5_doesTurn_67 (Nat.le_refl 0) (Nat.le_refl 0) hk))
abbrev rmX5_laysTruth : Room := { frames := 4, cells := 0, slots := 0, locals := 88 }
theorem s_X5_laysTruth_l6 {x : Cx} (F : Fx x cX5_laysTruth "LockstepRoomModel" 3 none rmX5_laysTruth) {v0 : Nat} {Q : hH → Prop} {K22 : hH → Prop} (n : Nat) (l1 : Int32) (l2 : Int32) (h : hH) (hk : f_X5_laysTruth_l6 x.S.E v0 Q K22 n l1 l2 h) (hK22 : ∀ (h : hH), K22 h → G x (xQ x rmX5_laysTruth (qV Q)) 22 [] [] h 0 0) : G x (xQ x rmX5_laysTruth (qV Q)) 6 [(0, aR (some v0)), (1, aI l1), (2, aI l2)] [] h 0 0 := by
  induction n generalizing l1 l2 h with
  | zero => exact False.elim hk
  | succ n ih =>
    unfold f_X5_laysTruth_l6 at hk
    exact g_iload_n F dX5_laysTruth_6 rfl 2 rfl <|
g_iload_n F dX5_laysTruth_7 rfl 1 rfl <|
g_icmp_ge F dX5_laysTruth_8 (tgt := 22) rfl (fun hc => have hk := hk.1 hc
G.fewer [] rfl <| hK22 h hk) (fun hc => have hk := hk.2 hc
g_aload_n F dX5_laysTruth_11 rfl 0 rfl <|
g_iload_n F dX5_laysTruth_12 rfl 2 rfl <|
g_callv0 (g_V F dX5_laysTruth_13 q3454 mi_X5_doesTurn ct_X5 (rm' := rmX5_doesTurn) ⟨Nat.le_of_ble_eq_true rfl, Nat.le_of_ble_eq_true rfl⟩ ⟨Nat.le_refl 0, Nat.le_refl 0⟩ (As := [aI l2]) (rest := []) rfl rfl (Nat.le_of_ble_eq_true rfl) hk (fun a2 hk => m_X5_doesTurn F.ok a2 l2 h _ hk)) ⟨rfl, rfl⟩ fun h1 hk =>
g_iinc (v := (l2 + (1:Int32))) F dX5_laysTruth_16 (j := 2) rfl (iinc_1 l2) (Nat.le_of_ble_eq_true rfl) rfl <|
g_goto F dX5_laysTruth_19 (tgt := 6) rfl <|
G.fewer [1, 2, 0] rfl <| ih l1 (l2 + (1:Int32)) h1 hk)
theorem m_X5_laysTruth {S : Sx} (hS0 : Sok S) (v0 : Nat) (v1 : Int32) (h : hH) (Q : hH → Prop) (hk : f_X5_laysTruth S.E v0 v1 h Q) : Ct S yX5_laysTruth (ws_ yX5_laysTruth cX5_laysTruth 3 none) rmX5_laysTruth ([aR (some v0), aI v1].map vv) h (qV Q) := by
  refine Ct.of hS0 (by decide +kernel) rfl (Nat.le_of_ble_eq_true rfl) fun x hxS F hnm => ?_
  subst hxS
  unfold f_X5_laysTruth at hk
  exact g_aload_n F dX5_laysTruth_0 rfl 0 rfl <|
g_callv0 (g_V F dX5_laysTruth_1 q3450 mi_X5_takesStart ct_X5 (rm' := rmX5_takesStart) ⟨Nat.le_of_ble_eq_true rfl, Nat.le_of_ble_eq_true rfl⟩ ⟨Nat.le_refl 0, Nat.le_refl 0⟩ (As := []) (rest := []) rfl rfl (Nat.le_of_ble_eq_true rfl) hk (fun a4 hk => m_X5_takesStart F.ok a4 h _ hk)) ⟨rfl, rfl⟩ fun h3 hk =>
g_iconst F dX5_laysTruth_4 ic_0 <|
g_istore_n F dX5_laysTruth_5 rfl (Nat.le_of_ble_eq_true rfl) rfl <|
G.fewer [1, 2, 0] rfl <| s_X5_laysTruth_l6 F 1000000 v1 (0:Int32) h3 hk ((fun h hk => g_vret F dX5_laysTruth_22 (Nat.le_refl 0) (Nat.le_refl 0) hk))
abbrev rmX5_truth : Room := { frames := 5, cells := 0, slots := 0, locals := 110 }
theorem m_X5_truth {S : Sx} (hS0 : Sok S) (v0 : Nat) (v1 : Int32) (v2 : Int32) (h : hH) (Q : Int32 → hH → Prop) (hk : f_X5_truth S.E v0 v1 v2 h Q) : Ct S yX5_truth (ws_ yX5_truth cX5_truth 3 (some .int)) rmX5_truth ([aR (some v0), aI v1, aI v2].map vv) h (qI Q) := by
  refine Ct.of hS0 (by decide +kernel) rfl (Nat.le_of_ble_eq_true rfl) fun x hxS F hnm => ?_
  subst hxS
  unfold f_X5_truth at hk
  exact g_aload_n F dX5_truth_0 rfl 0 rfl <|
g_iload_n F dX5_truth_1 rfl 2 rfl <|
g_calli0 (g_S F dX5_truth_2 q3273 ms_X5_isCell (rm' := rmX5_isCell) ⟨Nat.le_of_ble_eq_true rfl, Nat.le_of_ble_eq_true rfl⟩ ⟨Nat.le_refl 0, Nat.le_refl 0⟩ (As := [aI v2]) (rest := [aR (some v0)]) rfl rfl (Nat.le_of_ble_eq_true rfl) (m_X5_isCell F.ok v2 h _ hk)) ⟨rfl, rfl⟩ fun x2 h1 hk =>
g_calli0 (g_V F dX5_truth_5 q3258 mi_X5_checks ct_X5 (rm' := rmX5_checks) ⟨Nat.le_of_ble_eq_true rfl, Nat.le_of_ble_eq_true rfl⟩ ⟨Nat.le_refl 0, Nat.le_refl 0⟩ (As := [aI x2]) (rest := []) rfl rfl (Nat.le_of_ble_eq_true rfl) hk (fun a5 hk => m_X5_checks F.ok a5 x2 h1 _ hk)) ⟨rfl, rfl⟩ fun x4 h3 hk =>
g_if_ne F dX5_truth_8 (tgt := 13) rfl (fun hc => have hk := hk.2 hc
g_iload_n F dX5_truth_13 rfl 1 rfl <|
g_if_lt F dX5_truth_14 (tgt := 29) rfl (fun hc => have hk := hk.1 hc
g_iconst F dX5_truth_29 ic_m1 <|
g_iret F dX5_truth_30 (Nat.le_refl 0) (Nat.le_refl 0) hk) (fun hc => have hk := hk.2 hc
g_iload_n F dX5_truth_17 rfl 1 rfl <|
g_aload_n F dX5_truth_18 rfl 0 rfl <|
g_getR F dX5_truth_19 fo_X5_5_LockstepRoomModel in_X5 fl_LockstepRoomModel_19_X5 hk fun x6 hk =>
g_sipush F dX5_truth_22 sp_387 <|
g_iald F dX5_truth_25 hk fun x7 hk =>
g_icmp_le F dX5_truth_26 (tgt := 31) rfl (fun hc => have hk := hk.1 hc
g_aload_n F dX5_truth_31 rfl 0 rfl <|
g_iload_n F dX5_truth_32 rfl 1 rfl <|
g_callv0 (g_V F dX5_truth_33 q3446 mi_X5_laysTruth ct_X5 (rm' := rmX5_laysTruth) ⟨Nat.le_of_ble_eq_true rfl, Nat.le_of_ble_eq_true rfl⟩ ⟨Nat.le_refl 0, Nat.le_refl 0⟩ (As := [aI v1]) (rest := []) rfl rfl (Nat.le_of_ble_eq_true rfl) hk (fun a9 hk => m_X5_laysTruth F.ok a9 v1 h3 _ hk)) ⟨rfl, rfl⟩ fun h8 hk =>
g_aload_n F dX5_truth_36 rfl 0 rfl <|
g_getR F dX5_truth_37 fo_X5_9_LockstepRoomModel in_X5 fl_LockstepRoomModel_28_X5 hk fun x10 hk =>
g_iload_n F dX5_truth_40 rfl 2 rfl <|
g_iald F dX5_truth_41 hk fun x11 hk =>
g_iret F dX5_truth_42 (Nat.le_refl 0) (Nat.le_refl 0) hk) (fun hc => have hk := hk.2 hc
g_iconst F dX5_truth_29 ic_m1 <|
g_iret F dX5_truth_30 (Nat.le_refl 0) (Nat.le_refl 0) hk))) (fun hc => have hk := hk.1 hc
g_iconst F dX5_truth_11 ic_0 <|
g_iret F dX5_truth_12 (Nat.le_refl 0) (Nat.le_refl 0) hk)
abbrev rmX5_trueMembers : Room := { frames := 5, cells := 0, slots := 0, locals := 110 }
theorem s_X5_trueMembers_j66 {x : Cx} (F : Fx x cX5_trueMembers "LockstepRoomModel" 5 (some .int) rmX5_trueMembers) {v0 : Nat} {Q : Int32 → hH → Prop} {K31 : Int32 → Int32 → Int32 → Int32 → hH → Prop} (l1 : Int32) (l2 : Int32) (l4 : Int32) (h : hH) (hk : f_X5_trueMembers_j66 x.S.E v0 Q K31 l1 l2 l4 h) (hK31 : ∀ (l1 : Int32) (l2 : Int32) (l3 : Int32) (l4 : Int32) (h : hH), K31 l1 l2 l3 l4 h → G x (xQ x rmX5_trueMembers (qI Q)) 31 [(0, aR (some v0)), (1, aI l1), (2, aI l2), (3, aI l3), (4, aI l4)] [] h 0 0) : G x (xQ x rmX5_trueMembers (qI Q)) 66 [(0, aR (some v0)), (1, aI l1), (2, aI l2), (4, aI l4)] [] h 0 0 := by
  unfold f_X5_trueMembers_j66 at hk
  exact g_iconst F dX5_trueMembers_66 ic_0 <|
g_istore_n F dX5_trueMembers_67 rfl (Nat.le_of_ble_eq_true rfl) rfl <|
g_iinc (v := (l4 + (1:Int32))) F dX5_trueMembers_68 (j := 4) rfl (iinc_1 l4) (Nat.le_of_ble_eq_true rfl) rfl <|
g_goto F dX5_trueMembers_71 (tgt := 31) rfl <|
G.fewer [2, 3, 4, 1, 0] rfl <| hK31 l1 l2 (0:Int32) (l4 + (1:Int32)) h hk
theorem s_X5_trueMembers_l31 {x : Cx} (F : Fx x cX5_trueMembers "LockstepRoomModel" 5 (some .int) rmX5_trueMembers) {v0 : Nat} {Q : Int32 → hH → Prop} {K74 : Int32 → Int32 → Int32 → hH → Prop} (n : Nat) (l1 : Int32) (l2 : Int32) (l3 : Int32) (l4 : Int32) (h : hH) (hk : f_X5_trueMembers_l31 x.S.E v0 Q K74 n l1 l2 l3 l4 h) (hK74 : ∀ (l1 : Int32) (l2 : Int32) (l3 : Int32) (h : hH), K74 l1 l2 l3 h → G x (xQ x rmX5_trueMembers (qI Q)) 74 [(0, aR (some v0)), (1, aI l1), (2, aI l2), (3, aI l3)] [] h 0 0) : G x (xQ x rmX5_trueMembers (qI Q)) 31 [(0, aR (some v0)), (1, aI l1), (2, aI l2), (3, aI l3), (4, aI l4)] [] h 0 0 := by
  induction n generalizing l1 l2 l3 l4 h with
  | zero => exact False.elim hk
  | succ n ih =>
    unfold f_X5_trueMembers_l31 at hk
    exact g_iload F dX5_trueMembers_31 4 rfl <|
g_bipush F dX5_trueMembers_33 bp_16 <|
g_icmp_ge F dX5_trueMembers_35 (tgt := 74) rfl (fun hc => have hk := hk.1 hc
G.fewer [0, 1, 2, 3] rfl <| hK74 l1 l2 l3 h hk) (fun hc => have hk := hk.2 hc
g_iload_n F dX5_trueMembers_38 rfl 3 rfl <|
g_if_eq F dX5_trueMembers_39 (tgt := 66) rfl (fun hc => have hk := hk.1 hc
G.fewer [0, 1, 2, 4] rfl <| s_X5_trueMembers_j66 F l1 l2 l4 h hk ih) (fun hc => have hk := hk.2 hc
g_aload_n F dX5_trueMembers_42 rfl 0 rfl <|
g_getR F dX5_trueMembers_43 fo_X5_9_LockstepRoomModel in_X5 fl_LockstepRoomModel_28_X5 hk fun x1 hk =>
g_iload F dX5_trueMembers_46 4 rfl <|
g_iald F dX5_trueMembers_48 hk fun x2 hk =>
g_aload_n F dX5_trueMembers_49 rfl 0 rfl <|
g_iload_n F dX5_trueMembers_50 rfl 2 rfl <|
g_bipush F dX5_trueMembers_51 bp_7 <|
g_iload F dX5_trueMembers_53 4 rfl <|
g_iadd F dX5_trueMembers_55 <|
g_calli0 (g_V F dX5_trueMembers_56 q3214 mi_X5_of ct_X5 (rm' := rmX5_of) ⟨Nat.le_of_ble_eq_true rfl, Nat.le_of_ble_eq_true rfl⟩ ⟨Nat.le_refl 0, Nat.le_refl 0⟩ (As := [aI l2, aI ((7:Int32) + l4)]) (rest := [aI x2]) rfl rfl (Nat.le_of_ble_eq_true rfl) hk (fun a5 hk => m_X5_of F.ok a5 l2 ((7:Int32) + l4) h _ hk)) ⟨rfl, rfl⟩ fun x4 h3 hk =>
g_icmp_ne F dX5_trueMembers_59 (tgt := 66) rfl (fun hc => have hk := hk.2 hc
G.fewer [0, 1, 2, 4] rfl <| s_X5_trueMembers_j66 F l1 l2 l4 h3 hk ih) (fun hc => have hk := hk.1 hc
g_iconst F dX5_trueMembers_62 ic_1 <|
g_goto F dX5_trueMembers_63 (tgt := 67) rfl <|
g_istore_n F dX5_trueMembers_67 rfl (Nat.le_of_ble_eq_true rfl) rfl <|
g_iinc (v := (l4 + (1:Int32))) F dX5_trueMembers_68 (j := 4) rfl (iinc_1 l4) (Nat.le_of_ble_eq_true rfl) rfl <|
g_goto F dX5_trueMembers_71 (tgt := 31) rfl <|
G.fewer [2, 3, 4, 1, 0] rfl <| ih l1 l2 (1:Int32) (l4 + (1:Int32)) h3 hk)))
theorem s_X5_trueMembers_j86 {x : Cx} (F : Fx x cX5_trueMembers "LockstepRoomModel" 5 (some .int) rmX5_trueMembers) {v0 : Nat} {Q : Int32 → hH → Prop} {K9 : Int32 → Int32 → hH → Prop} (s0 : Int32) (s1 : Int32) (l2 : Int32) (h : hH) (hk : f_X5_trueMembers_j86 x.S.E v0 Q K9 s0 s1 l2 h) (hK9 : ∀ (l1 : Int32) (l2 : Int32) (h : hH), K9 l1 l2 h → G x (xQ x rmX5_trueMembers (qI Q)) 9 [(0, aR (some v0)), (1, aI l1), (2, aI l2)] [] h 0 0) : G x (xQ x rmX5_trueMembers (qI Q)) 86 [(0, aR (some v0)), (2, aI l2)] [aI s1, aI s0] h 0 0 := by
  unfold f_X5_trueMembers_j86 at hk
  exact g_ior F dX5_trueMembers_86 <|
g_istore_n F dX5_trueMembers_87 rfl (Nat.le_of_ble_eq_true rfl) rfl <|
g_iinc (v := (l2 + (1:Int32))) F dX5_trueMembers_88 (j := 2) rfl (iinc_1 l2) (Nat.le_of_ble_eq_true rfl) rfl <|
g_goto F dX5_trueMembers_91 (tgt := 9) rfl <|
G.fewer [2, 1, 0] rfl <| hK9 (s0 ||| s1) (l2 + (1:Int32)) h hk
theorem s_X5_trueMembers_l9 {x : Cx} (F : Fx x cX5_trueMembers "LockstepRoomModel" 5 (some .int) rmX5_trueMembers) {v0 : Nat} {Q : Int32 → hH → Prop} {K94 : Int32 → hH → Prop} (n : Nat) (l1 : Int32) (l2 : Int32) (h : hH) (hk : f_X5_trueMembers_l9 x.S.E v0 Q K94 n l1 l2 h) (hK94 : ∀ (l1 : Int32) (h : hH), K94 l1 h → G x (xQ x rmX5_trueMembers (qI Q)) 94 [(1, aI l1)] [] h 0 0) : G x (xQ x rmX5_trueMembers (qI Q)) 9 [(0, aR (some v0)), (1, aI l1), (2, aI l2)] [] h 0 0 := by
  induction n generalizing l1 l2 h with
  | zero => exact False.elim hk
  | succ n ih =>
    unfold f_X5_trueMembers_l9 at hk
    exact g_iload_n F dX5_trueMembers_9 rfl 2 rfl <|
g_aload_n F dX5_trueMembers_10 rfl 0 rfl <|
g_calli0 (g_V F dX5_trueMembers_11 q3146 mi_X5_members ct_X5 (rm' := rmX5_members) ⟨Nat.le_of_ble_eq_true rfl, Nat.le_of_ble_eq_true rfl⟩ ⟨Nat.le_refl 0, Nat.le_refl 0⟩ (As := []) (rest := [aI l2]) rfl rfl (Nat.le_of_ble_eq_true rfl) hk (fun a8 hk => m_X5_members F.ok a8 h _ hk)) ⟨rfl, rfl⟩ fun x7 h6 hk =>
g_icmp_ge F dX5_trueMembers_14 (tgt := 94) rfl (fun hc => have hk := hk.1 hc
G.fewer [1] rfl <| hK94 l1 h6 hk) (fun hc => have hk := hk.2 hc
g_aload_n F dX5_trueMembers_17 rfl 0 rfl <|
g_aload_n F dX5_trueMembers_18 rfl 0 rfl <|
g_iload_n F dX5_trueMembers_19 rfl 2 rfl <|
g_calli0 (g_V F dX5_trueMembers_20 q3210 mi_X5_turnsDone ct_X5 (rm' := rmX5_turnsDone) ⟨Nat.le_of_ble_eq_true rfl, Nat.le_of_ble_eq_true rfl⟩ ⟨Nat.le_refl 0, Nat.le_refl 0⟩ (As := [aI l2]) (rest := [aR (some v0)]) rfl rfl (Nat.le_of_ble_eq_true rfl) hk (fun a11 hk => m_X5_turnsDone F.ok a11 l2 h6 _ hk)) ⟨rfl, rfl⟩ fun x10 h9 hk =>
g_callv0 (g_V F dX5_trueMembers_23 q3446 mi_X5_laysTruth ct_X5 (rm' := rmX5_laysTruth) ⟨Nat.le_of_ble_eq_true rfl, Nat.le_of_ble_eq_true rfl⟩ ⟨Nat.le_refl 0, Nat.le_refl 0⟩ (As := [aI x10]) (rest := []) rfl rfl (Nat.le_of_ble_eq_true rfl) hk (fun a13 hk => m_X5_laysTruth F.ok a13 x10 h9 _ hk)) ⟨rfl, rfl⟩ fun h12 hk =>
g_iconst F dX5_trueMembers_26 ic_1 <|
g_istore_n F dX5_trueMembers_27 rfl (Nat.le_of_ble_eq_true rfl) rfl <|
g_iconst F dX5_trueMembers_28 ic_0 <|
g_istore F dX5_trueMembers_29 (Nat.le_of_ble_eq_true rfl) rfl <|
G.fewer [2, 3, 4, 1, 0] rfl <| s_X5_trueMembers_l31 F 1000000 l1 l2 (1:Int32) (0:Int32) h12 hk ((fun l1 l2 l3 h hk => g_iload_n F dX5_trueMembers_74 rfl 1 rfl <|
g_iload_n F dX5_trueMembers_75 rfl 3 rfl <|
g_if_eq F dX5_trueMembers_76 (tgt := 85) rfl (fun hc => have hk := hk.1 hc
g_iconst F dX5_trueMembers_85 ic_0 <|
G.fewer [0, 2] rfl <| s_X5_trueMembers_j86 F l1 (0:Int32) l2 h hk ih) (fun hc => have hk := hk.2 hc
g_iconst F dX5_trueMembers_79 ic_1 <|
g_iload_n F dX5_trueMembers_80 rfl 2 rfl <|
g_ishl F dX5_trueMembers_81 <|
g_goto F dX5_trueMembers_82 (tgt := 86) rfl <|
G.fewer [0, 2] rfl <| s_X5_trueMembers_j86 F l1 ((1:Int32) <<< (l2 &&& 31)) l2 h hk ih))))
theorem m_X5_trueMembers {S : Sx} (hS0 : Sok S) (v0 : Nat) (h : hH) (Q : Int32 → hH → Prop) (hk : f_X5_trueMembers S.E v0 h Q) : Ct S yX5_trueMembers (ws_ yX5_trueMembers cX5_trueMembers 5 (some .int)) rmX5_trueMembers ([aR (some v0)].map vv) h (qI Q) := by
  refine Ct.of hS0 (by decide +kernel) rfl (Nat.le_of_ble_eq_true rfl) fun x hxS F hnm => ?_
  subst hxS
  unfold f_X5_trueMembers at hk
  exact g_aload_n F dX5_trueMembers_0 rfl 0 rfl <|
g_iconst F dX5_trueMembers_1 ic_0 <|
g_putV F dX5_trueMembers_2 fo_X5_0_LockstepRoomModel ck_X5 fl_LockstepRoomModel_47_X5 rfl (v := aI (0:Int32)) (fit_i (0:Int32)) hk fun h14 hk =>
g_iconst F dX5_trueMembers_5 ic_0 <|
g_istore_n F dX5_trueMembers_6 rfl (Nat.le_of_ble_eq_true rfl) rfl <|
g_iconst F dX5_trueMembers_7 ic_0 <|
g_istore_n F dX5_trueMembers_8 rfl (Nat.le_of_ble_eq_true rfl) rfl <|
G.fewer [2, 1, 0] rfl <| s_X5_trueMembers_l9 F 1000000 (0:Int32) (0:Int32) h14 hk ((fun l1 h hk => g_iload_n F dX5_trueMembers_94 rfl 0 rfl <|
g_iret F dX5_trueMembers_95 (Nat.le_refl 0) (Nat.le_refl 0) hk))
abbrev rmX5_errs : Room := { frames := 3, cells := 0, slots := 0, locals := 62 }
theorem s_X5_errs_l2 {x : Cx} (F : Fx x cX5_errs "LockstepRoomModel" 4 none rmX5_errs) {v0 : Nat} {Q : hH → Prop} {K76 : hH → Prop} (n : Nat) (l1 : Int32) (l2 : Int32) (l3 : Int32) (h : hH) (hk : f_X5_errs_l2 x.S.E v0 Q K76 n l1 l2 l3 h) (hK76 : ∀ (h : hH), K76 h → G x (xQ x rmX5_errs (qV Q)) 76 [] [] h 0 0) : G x (xQ x rmX5_errs (qV Q)) 2 [(0, aR (some v0)), (1, aI l1), (2, aI l2), (3, aI l3)] [] h 0 0 := by
  induction n generalizing l1 l2 l3 h with
  | zero => exact False.elim hk
  | succ n ih =>
    unfold f_X5_errs_l2 at hk
    exact g_iload_n F dX5_errs_2 rfl 3 rfl <|
g_aload_n F dX5_errs_3 rfl 0 rfl <|
g_getR F dX5_errs_4 fo_X5_5_LockstepRoomModel in_X5 fl_LockstepRoomModel_19_X5 hk fun x1 hk =>
g_sipush F dX5_errs_7 sp_1741 <|
g_iald F dX5_errs_10 hk fun x2 hk =>
g_icmp_ge F dX5_errs_11 (tgt := 76) rfl (fun hc => have hk := hk.1 hc
G.fewer [] rfl <| hK76 h hk) (fun hc => have hk := hk.2 hc
g_aload_n F dX5_errs_14 rfl 0 rfl <|
g_iload_n F dX5_errs_15 rfl 3 rfl <|
g_iconst F dX5_errs_16 ic_0 <|
g_calli0 (g_V F dX5_errs_17 q3292 mi_X5_fault ct_X5 (rm' := rmX5_fault) ⟨Nat.le_of_ble_eq_true rfl, Nat.le_of_ble_eq_true rfl⟩ ⟨Nat.le_refl 0, Nat.le_refl 0⟩ (As := [aI l3, aI (0:Int32)]) (rest := []) rfl rfl (Nat.le_of_ble_eq_true rfl) hk (fun a5 hk => m_X5_fault F.ok a5 l3 (0:Int32) h _ hk)) ⟨rfl, rfl⟩ fun x4 h3 hk =>
g_iload_n F dX5_errs_20 rfl 1 rfl <|
g_icmp_ne F dX5_errs_21 (tgt := 70) rfl (fun hc => have hk := hk.2 hc
g_iinc (v := (l3 + (1:Int32))) F dX5_errs_70 (j := 3) rfl (iinc_1 l3) (Nat.le_of_ble_eq_true rfl) rfl <|
g_goto F dX5_errs_73 (tgt := 2) rfl <|
G.fewer [1, 2, 3, 0] rfl <| ih l1 l2 (l3 + (1:Int32)) h3 hk) (fun hc => have hk := hk.1 hc
g_aload_n F dX5_errs_24 rfl 0 rfl <|
g_iload_n F dX5_errs_25 rfl 3 rfl <|
g_iconst F dX5_errs_26 ic_1 <|
g_calli0 (g_V F dX5_errs_27 q3292 mi_X5_fault ct_X5 (rm' := rmX5_fault) ⟨Nat.le_of_ble_eq_true rfl, Nat.le_of_ble_eq_true rfl⟩ ⟨Nat.le_refl 0, Nat.le_refl 0⟩ (As := [aI l3, aI (1:Int32)]) (rest := []) rfl rfl (Nat.le_of_ble_eq_true rfl) hk (fun a8 hk => m_X5_fault F.ok a8 l3 (1:Int32) h3 _ hk)) ⟨rfl, rfl⟩ fun x7 h6 hk =>
g_iload_n F dX5_errs_30 rfl 2 rfl <|
g_icmp_eq F dX5_errs_31 (tgt := 37) rfl (fun hc => have hk := hk.1 hc
g_aload_n F dX5_errs_37 rfl 0 rfl <|
g_getR F dX5_errs_38 fo_X5_9_LockstepRoomModel in_X5 fl_LockstepRoomModel_28_X5 hk fun x9 hk =>
g_aload_n F dX5_errs_41 rfl 0 rfl <|
g_iload_n F dX5_errs_42 rfl 3 rfl <|
g_iconst F dX5_errs_43 ic_2 <|
g_calli0 (g_V F dX5_errs_44 q3292 mi_X5_fault ct_X5 (rm' := rmX5_fault) ⟨Nat.le_of_ble_eq_true rfl, Nat.le_of_ble_eq_true rfl⟩ ⟨Nat.le_refl 0, Nat.le_refl 0⟩ (As := [aI l3, aI (2:Int32)]) (rest := [aR x9]) rfl rfl (Nat.le_of_ble_eq_true rfl) hk (fun a12 hk => m_X5_fault F.ok a12 l3 (2:Int32) h6 _ hk)) ⟨rfl, rfl⟩ fun x11 h10 hk =>
g_aload_n F dX5_errs_47 rfl 0 rfl <|
g_getR F dX5_errs_48 fo_X5_9_LockstepRoomModel in_X5 fl_LockstepRoomModel_28_X5 hk fun x13 hk =>
g_aload_n F dX5_errs_51 rfl 0 rfl <|
g_iload_n F dX5_errs_52 rfl 3 rfl <|
g_iconst F dX5_errs_53 ic_2 <|
g_calli0 (g_V F dX5_errs_54 q3292 mi_X5_fault ct_X5 (rm' := rmX5_fault) ⟨Nat.le_of_ble_eq_true rfl, Nat.le_of_ble_eq_true rfl⟩ ⟨Nat.le_refl 0, Nat.le_refl 0⟩ (As := [aI l3, aI (2:Int32)]) (rest := [aR x13, aI x11, aR x9]) rfl rfl (Nat.le_of_ble_eq_true rfl) hk (fun a16 hk => m_X5_fault F.ok a16 l3 (2:Int32) h10 _ hk)) ⟨rfl, rfl⟩ fun x15 h14 hk =>
g_iald F dX5_errs_57 hk fun x17 hk =>
g_aload_n F dX5_errs_58 rfl 0 rfl <|
g_iload_n F dX5_errs_59 rfl 3 rfl <|
g_iconst F dX5_errs_60 ic_3 <|
g_calli0 (g_V F dX5_errs_61 q3292 mi_X5_fault ct_X5 (rm' := rmX5_fault) ⟨Nat.le_of_ble_eq_true rfl, Nat.le_of_ble_eq_true rfl⟩ ⟨Nat.le_refl 0, Nat.le_refl 0⟩ (As := [aI l3, aI (3:Int32)]) (rest := [aI x17, aI x11, aR x9]) rfl rfl (Nat.le_of_ble_eq_true rfl) hk (fun a20 hk => m_X5_fault F.ok a20 l3 (3:Int32) h14 _ hk)) ⟨rfl, rfl⟩ fun x19 h18 hk =>
g_iadd F dX5_errs_64 <|
g_sipush F dX5_errs_65 sp_10000 <|
g_irem F dX5_errs_68 nz_10000_Int32 <|
g_iast F dX5_errs_69 hk fun h21 hk =>
g_iinc (v := (l3 + (1:Int32))) F dX5_errs_70 (j := 3) rfl (iinc_1 l3) (Nat.le_of_ble_eq_true rfl) rfl <|
g_goto F dX5_errs_73 (tgt := 2) rfl <|
G.fewer [1, 2, 3, 0] rfl <| ih l1 l2 (l3 + (1:Int32)) h21 hk) (fun hc => have hk := hk.2 hc
g_goto F dX5_errs_34 (tgt := 70) rfl <|
g_iinc (v := (l3 + (1:Int32))) F dX5_errs_70 (j := 3) rfl (iinc_1 l3) (Nat.le_of_ble_eq_true rfl) rfl <|
g_goto F dX5_errs_73 (tgt := 2) rfl <|
G.fewer [1, 2, 3, 0] rfl <| ih l1 l2 (l3 + (1:Int32)) h6 hk)))
theorem m_X5_errs {S : Sx} (hS0 : Sok S) (v0 : Nat) (v1 : Int32) (v2 : Int32) (h : hH) (Q : hH → Prop) (hk : f_X5_errs S.E v0 v1 v2 h Q) : Ct S yX5_errs (ws_ yX5_errs cX5_errs 4 none) rmX5_errs ([aR (some v0), aI v1, aI v2].map vv) h (qV Q) := by
  refine Ct.of hS0 (by decide +kernel) rfl (Nat.le_of_ble_eq_true rfl) fun x hxS F hnm => ?_
  subst hxS
  unfold f_X5_errs at hk
  exact g_iconst F dX5_errs_0 ic_0 <|
g_istore_n F dX5_errs_1 rfl (Nat.le_of_ble_eq_true rfl) rfl <|
G.fewer [1, 2, 3, 0] rfl <| s_X5_errs_l2 F 1000000 v1 v2 (0:Int32) h hk ((fun h hk => g_vret F dX5_errs_76 (Nat.le_refl 0) (Nat.le_refl 0) hk))
abbrev rmX5_foreseen : Room := { frames := 4, cells := 0, slots := 0, locals := 88 }
theorem s_X5_foreseen_l40 {x : Cx} (F : Fx x cX5_foreseen "LockstepRoomModel" 4 (some .int) rmX5_foreseen) {v0 : Nat} {Q : Int32 → hH → Prop} {K69 : Int32 → hH → Prop} (n : Nat) (l1 : Int32) (l2 : Int32) (l3 : Int32) (h : hH) (hk : f_X5_foreseen_l40 x.S.E v0 Q K69 n l1 l2 l3 h) (hK69 : ∀ (l2 : Int32) (h : hH), K69 l2 h → G x (xQ x rmX5_foreseen (qI Q)) 69 [(0, aR (some v0)), (2, aI l2)] [] h 0 0) : G x (xQ x rmX5_foreseen (qI Q)) 40 [(0, aR (some v0)), (1, aI l1), (2, aI l2), (3, aI l3)] [] h 0 0 := by
  induction n generalizing l1 l2 l3 h with
  | zero => exact False.elim hk
  | succ n ih =>
    unfold f_X5_foreseen_l40 at hk
    exact g_iload_n F dX5_foreseen_40 rfl 3 rfl <|
g_aload_n F dX5_foreseen_41 rfl 0 rfl <|
g_getR F dX5_foreseen_42 fo_X5_5_LockstepRoomModel in_X5 fl_LockstepRoomModel_19_X5 hk fun x1 hk =>
g_sipush F dX5_foreseen_45 sp_387 <|
g_iald F dX5_foreseen_48 hk fun x2 hk =>
g_icmp_ge F dX5_foreseen_49 (tgt := 69) rfl (fun hc => have hk := hk.1 hc
G.fewer [0, 2] rfl <| hK69 l2 h hk) (fun hc => have hk := hk.2 hc
g_aload_n F dX5_foreseen_52 rfl 0 rfl <|
g_iload_n F dX5_foreseen_53 rfl 3 rfl <|
g_callv0 (g_V F dX5_foreseen_54 q3454 mi_X5_doesTurn ct_X5 (rm' := rmX5_doesTurn) ⟨Nat.le_of_ble_eq_true rfl, Nat.le_of_ble_eq_true rfl⟩ ⟨Nat.le_refl 0, Nat.le_refl 0⟩ (As := [aI l3]) (rest := []) rfl rfl (Nat.le_of_ble_eq_true rfl) hk (fun a4 hk => m_X5_doesTurn F.ok a4 l3 h _ hk)) ⟨rfl, rfl⟩ fun h3 hk =>
g_aload_n F dX5_foreseen_57 rfl 0 rfl <|
g_iload_n F dX5_foreseen_58 rfl 1 rfl <|
g_iload_n F dX5_foreseen_59 rfl 3 rfl <|
g_callv0 (g_V F dX5_foreseen_60 q3470 mi_X5_errs ct_X5 (rm' := rmX5_errs) ⟨Nat.le_of_ble_eq_true rfl, Nat.le_of_ble_eq_true rfl⟩ ⟨Nat.le_refl 0, Nat.le_refl 0⟩ (As := [aI l1, aI l3]) (rest := []) rfl rfl (Nat.le_of_ble_eq_true rfl) hk (fun a6 hk => m_X5_errs F.ok a6 l1 l3 h3 _ hk)) ⟨rfl, rfl⟩ fun h5 hk =>
g_iinc (v := (l3 + (1:Int32))) F dX5_foreseen_63 (j := 3) rfl (iinc_1 l3) (Nat.le_of_ble_eq_true rfl) rfl <|
g_goto F dX5_foreseen_66 (tgt := 40) rfl <|
G.fewer [1, 2, 3, 0] rfl <| ih l1 l2 (l3 + (1:Int32)) h5 hk)
theorem s_X5_foreseen_j21 {x : Cx} (F : Fx x cX5_foreseen "LockstepRoomModel" 4 (some .int) rmX5_foreseen) {v0 : Nat} {Q : Int32 → hH → Prop} (s0 : Option Nat) (s1 : Int32) (l1 : Int32) (l2 : Int32) (h : hH) (hk : f_X5_foreseen_j21 x.S.E v0 Q s0 s1 l1 l2 h) : G x (xQ x rmX5_foreseen (qI Q)) 21 [(0, aR (some v0)), (1, aI l1), (2, aI l2)] [aI s1, aR s0] h 0 0 := by
  unfold f_X5_foreseen_j21 at hk
  exact g_calli0 (g_V F dX5_foreseen_21 q3258 mi_X5_checks ct_X5 (rm' := rmX5_checks) ⟨Nat.le_of_ble_eq_true rfl, Nat.le_of_ble_eq_true rfl⟩ ⟨Nat.le_refl 0, Nat.le_refl 0⟩ (As := [aI s1]) (rest := []) rfl rfl (Nat.le_of_ble_eq_true rfl) hk (fun a9 hk => m_X5_checks F.ok a9 s1 h _ hk)) ⟨rfl, rfl⟩ fun x8 h7 hk =>
g_if_ne F dX5_foreseen_24 (tgt := 29) rfl (fun hc => have hk := hk.2 hc
g_aload_n F dX5_foreseen_29 rfl 0 rfl <|
g_iload_n F dX5_foreseen_30 rfl 1 rfl <|
g_callv0 (g_V F dX5_foreseen_31 q3222 mi_X5_takesCells ct_X5 (rm' := rmX5_takesCells) ⟨Nat.le_of_ble_eq_true rfl, Nat.le_of_ble_eq_true rfl⟩ ⟨Nat.le_refl 0, Nat.le_refl 0⟩ (As := [aI l1]) (rest := []) rfl rfl (Nat.le_of_ble_eq_true rfl) hk (fun a11 hk => m_X5_takesCells F.ok a11 l1 h7 _ hk)) ⟨rfl, rfl⟩ fun h10 hk =>
g_aload_n F dX5_foreseen_34 rfl 0 rfl <|
g_iload_n F dX5_foreseen_35 rfl 1 rfl <|
g_calli0 (g_V F dX5_foreseen_36 q3210 mi_X5_turnsDone ct_X5 (rm' := rmX5_turnsDone) ⟨Nat.le_of_ble_eq_true rfl, Nat.le_of_ble_eq_true rfl⟩ ⟨Nat.le_refl 0, Nat.le_refl 0⟩ (As := [aI l1]) (rest := []) rfl rfl (Nat.le_of_ble_eq_true rfl) hk (fun a14 hk => m_X5_turnsDone F.ok a14 l1 h10 _ hk)) ⟨rfl, rfl⟩ fun x13 h12 hk =>
g_istore_n F dX5_foreseen_39 rfl (Nat.le_of_ble_eq_true rfl) rfl <|
G.fewer [1, 2, 3, 0] rfl <| s_X5_foreseen_l40 F 1000000 l1 l2 x13 h12 hk ((fun l2 h hk => g_aload_n F dX5_foreseen_69 rfl 0 rfl <|
g_getR F dX5_foreseen_70 fo_X5_9_LockstepRoomModel in_X5 fl_LockstepRoomModel_28_X5 hk fun x15 hk =>
g_iload_n F dX5_foreseen_73 rfl 1 rfl <|
g_iald F dX5_foreseen_74 hk fun x16 hk =>
g_iret F dX5_foreseen_75 (Nat.le_refl 0) (Nat.le_refl 0) hk))) (fun hc => have hk := hk.1 hc
g_iconst F dX5_foreseen_27 ic_0 <|
g_iret F dX5_foreseen_28 (Nat.le_refl 0) (Nat.le_refl 0) hk)
theorem s_X5_foreseen_j20 {x : Cx} (F : Fx x cX5_foreseen "LockstepRoomModel" 4 (some .int) rmX5_foreseen) {v0 : Nat} {Q : Int32 → hH → Prop} (s0 : Option Nat) (l1 : Int32) (l2 : Int32) (h : hH) (hk : f_X5_foreseen_j20 x.S.E v0 Q s0 l1 l2 h) : G x (xQ x rmX5_foreseen (qI Q)) 20 [(0, aR (some v0)), (1, aI l1), (2, aI l2)] [aR s0] h 0 0 := by
  unfold f_X5_foreseen_j20 at hk
  exact g_iconst F dX5_foreseen_20 ic_0 <|
s_X5_foreseen_j21 F s0 (0:Int32) l1 l2 h hk 
theorem m_X5_foreseen {S : Sx} (hS0 : Sok S) (v0 : Nat) (v1 : Int32) (v2 : Int32) (h : hH) (Q : Int32 → hH → Prop) (hk : f_X5_foreseen S.E v0 v1 v2 h Q) : Ct S yX5_foreseen (ws_ yX5_foreseen cX5_foreseen 4 (some .int)) rmX5_foreseen ([aR (some v0), aI v1, aI v2].map vv) h (qI Q) := by
  refine Ct.of hS0 (by decide +kernel) rfl (Nat.le_of_ble_eq_true rfl) fun x hxS F hnm => ?_
  subst hxS
  unfold f_X5_foreseen at hk
  exact g_aload_n F dX5_foreseen_0 rfl 0 rfl <|
g_aload_n F dX5_foreseen_1 rfl 0 rfl <|
g_iload_n F dX5_foreseen_2 rfl 1 rfl <|
g_calli0 (g_V F dX5_foreseen_3 q3254 mi_X5_isMember ct_X5 (rm' := rmX5_isMember) ⟨Nat.le_of_ble_eq_true rfl, Nat.le_of_ble_eq_true rfl⟩ ⟨Nat.le_refl 0, Nat.le_refl 0⟩ (As := [aI v1]) (rest := [aR (some v0)]) rfl rfl (Nat.le_of_ble_eq_true rfl) hk (fun a19 hk => m_X5_isMember F.ok a19 v1 h _ hk)) ⟨rfl, rfl⟩ fun x18 h17 hk =>
g_if_eq F dX5_foreseen_6 (tgt := 20) rfl (fun hc => have hk := hk.1 hc
s_X5_foreseen_j20 F (some v0) v1 v2 h17 hk ) (fun hc => have hk := hk.2 hc
g_iload_n F dX5_foreseen_9 rfl 2 rfl <|
g_calli0 (g_S F dX5_foreseen_10 q3273 ms_X5_isCell (rm' := rmX5_isCell) ⟨Nat.le_of_ble_eq_true rfl, Nat.le_of_ble_eq_true rfl⟩ ⟨Nat.le_refl 0, Nat.le_refl 0⟩ (As := [aI v2]) (rest := [aR (some v0)]) rfl rfl (Nat.le_of_ble_eq_true rfl) (m_X5_isCell F.ok v2 h17 _ hk)) ⟨rfl, rfl⟩ fun x21 h20 hk =>
g_if_eq F dX5_foreseen_13 (tgt := 20) rfl (fun hc => have hk := hk.1 hc
s_X5_foreseen_j20 F (some v0) v1 v2 h20 hk ) (fun hc => have hk := hk.2 hc
g_iconst F dX5_foreseen_16 ic_1 <|
g_goto F dX5_foreseen_17 (tgt := 21) rfl <|
s_X5_foreseen_j21 F (some v0) (1:Int32) v1 v2 h20 hk ))
abbrev rmX5_changes : Room := { frames := 2, cells := 0, slots := 0, locals := 40 }
theorem s_X5_changes_l12 {x : Cx} (F : Fx x cX5_changes "LockstepRoomModel" 6 (some .boolean) rmX5_changes) {v0 : Nat} {Q : Int32 → hH → Prop} {K72 : hH → Prop} {K80 : hH → Prop} (n : Nat) (l2 : Int32) (l3 : Int32) (l4 : Int32) (h : hH) (hk : f_X5_changes_l12 x.S.E v0 Q K72 K80 n l2 l3 l4 h) (hK72 : ∀ (h : hH), K72 h → G x (xQ x rmX5_changes (qI Q)) 72 [] [] h 0 0) (hK80 : ∀ (h : hH), K80 h → G x (xQ x rmX5_changes (qI Q)) 80 [] [] h 0 0) : G x (xQ x rmX5_changes (qI Q)) 12 [(0, aR (some v0)), (2, aI l2), (3, aI l3), (4, aI l4)] [] h 0 0 := by
  induction n generalizing l2 l3 l4 h with
  | zero => exact False.elim hk
  | succ n ih =>
    unfold f_X5_changes_l12 at hk
    exact g_iload F dX5_changes_12 3 rfl <|
g_aload_n F dX5_changes_14 rfl 0 rfl <|
g_getR F dX5_changes_15 fo_X5_5_LockstepRoomModel in_X5 fl_LockstepRoomModel_19_X5 hk fun x1 hk =>
g_iload_n F dX5_changes_18 rfl 2 rfl <|
g_iald F dX5_changes_19 hk fun x2 hk =>
g_icmp_ge F dX5_changes_20 (tgt := 80) rfl (fun hc => have hk := hk.1 hc
G.fewer [] rfl <| hK80 h hk) (fun hc => have hk := hk.2 hc
g_iload_n F dX5_changes_23 rfl 2 rfl <|
g_iconst F dX5_changes_24 ic_1 <|
g_iadd F dX5_changes_25 <|
g_iconst F dX5_changes_26 ic_4 <|
g_iload F dX5_changes_27 3 rfl <|
g_imul F dX5_changes_29 <|
g_iadd F dX5_changes_30 <|
g_istore F dX5_changes_31 (Nat.le_of_ble_eq_true rfl) rfl <|
g_aload_n F dX5_changes_33 rfl 1 rfl <|
g_getR F dX5_changes_34 fo_X5_5_LockstepRoomModel in_X5 fl_LockstepRoomModel_19_X5 hk fun x3 hk =>
g_iload F dX5_changes_37 0 rfl <|
g_iconst F dX5_changes_39 ic_2 <|
g_iadd F dX5_changes_40 <|
g_iald F dX5_changes_41 hk fun x4 hk =>
g_iload_n F dX5_changes_42 rfl 2 rfl <|
g_icmp_eq F dX5_changes_43 (tgt := 72) rfl (fun hc => have hk := hk.1 hc
G.fewer [] rfl <| hK72 h hk) (fun hc => have hk := hk.2 hc
g_aload_n F dX5_changes_46 rfl 1 rfl <|
g_getR F dX5_changes_47 fo_X5_5_LockstepRoomModel in_X5 fl_LockstepRoomModel_19_X5 hk fun x5 hk =>
g_iload F dX5_changes_50 0 rfl <|
g_iconst F dX5_changes_52 ic_1 <|
g_iadd F dX5_changes_53 <|
g_iald F dX5_changes_54 hk fun x6 hk =>
g_iconst F dX5_changes_55 ic_4 <|
g_icmp_ne F dX5_changes_56 (tgt := 74) rfl (fun hc => have hk := hk.2 hc
g_iinc (v := (l4 + (1:Int32))) F dX5_changes_74 (j := 4) rfl (iinc_1 l4) (Nat.le_of_ble_eq_true rfl) rfl <|
g_goto F dX5_changes_77 (tgt := 12) rfl <|
G.fewer [2, 3, 4, 0] rfl <| ih l2 l3 (l4 + (1:Int32)) h hk) (fun hc => have hk := hk.1 hc
g_aload_n F dX5_changes_59 rfl 1 rfl <|
g_getR F dX5_changes_60 fo_X5_5_LockstepRoomModel in_X5 fl_LockstepRoomModel_19_X5 hk fun x7 hk =>
g_iload F dX5_changes_63 0 rfl <|
g_iconst F dX5_changes_65 ic_3 <|
g_iadd F dX5_changes_66 <|
g_iald F dX5_changes_67 hk fun x8 hk =>
g_iload_n F dX5_changes_68 rfl 2 rfl <|
g_icmp_ne F dX5_changes_69 (tgt := 74) rfl (fun hc => have hk := hk.2 hc
g_iinc (v := (l4 + (1:Int32))) F dX5_changes_74 (j := 4) rfl (iinc_1 l4) (Nat.le_of_ble_eq_true rfl) rfl <|
g_goto F dX5_changes_77 (tgt := 12) rfl <|
G.fewer [2, 3, 4, 0] rfl <| ih l2 l3 (l4 + (1:Int32)) h hk) (fun hc => have hk := hk.1 hc
G.fewer [] rfl <| hK72 h hk))))
theorem m_X5_changes {S : Sx} (hS0 : Sok S) (v0 : Nat) (v1 : Int32) (v2 : Int32) (h : hH) (Q : Int32 → hH → Prop) (hk : f_X5_changes S.E v0 v1 v2 h Q) : Ct S yX5_changes (ws_ yX5_changes cX5_changes 6 (some .boolean)) rmX5_changes ([aR (some v0), aI v1, aI v2].map vv) h (qI Q) := by
  refine Ct.of hS0 (by decide +kernel) rfl (Nat.le_of_ble_eq_true rfl) fun x hxS F hnm => ?_
  subst hxS
  unfold f_X5_changes at hk
  exact g_sipush F dX5_changes_0 sp_388 <|
g_bipush F dX5_changes_3 bp_33 <|
g_iload_n F dX5_changes_5 rfl 1 rfl <|
g_imul F dX5_changes_6 <|
g_iadd F dX5_changes_7 <|
g_istore_n F dX5_changes_8 rfl (Nat.le_of_ble_eq_true rfl) rfl <|
g_iconst F dX5_changes_9 ic_0 <|
g_istore F dX5_changes_10 (Nat.le_of_ble_eq_true rfl) rfl <|
G.fewer [2, 4, 1, 0] rfl <| s_X5_changes_l12 F 1000000 v2 ((388:Int32) + ((33:Int32) * v1)) (0:Int32) h hk ((fun h hk => g_iconst F dX5_changes_72 ic_1 <|
g_zret F dX5_changes_73 (Nat.le_refl 0) (Nat.le_refl 0) rfl hk)) ((fun h hk => g_iconst F dX5_changes_80 ic_0 <|
g_zret F dX5_changes_81 (Nat.le_refl 0) (Nat.le_refl 0) rfl hk))
abbrev rmX5_lastWrite : Room := { frames := 4, cells := 0, slots := 0, locals := 83 }
theorem s_X5_lastWrite_l37 {x : Cx} (F : Fx x cX5_lastWrite "LockstepRoomModel" 4 (some .int) rmX5_lastWrite) {v0 : Nat} {Q : Int32 → hH → Prop} {K56 : Int32 → hH → Prop} (n : Nat) (l2 : Int32) (l3 : Int32) (h : hH) (hk : f_X5_lastWrite_l37 x.S.E v0 Q K56 n l2 l3 h) (hK56 : ∀ (l3 : Int32) (h : hH), K56 l3 h → G x (xQ x rmX5_lastWrite (qI Q)) 56 [(3, aI l3)] [] h 0 0) : G x (xQ x rmX5_lastWrite (qI Q)) 37 [(0, aR (some v0)), (2, aI l2), (3, aI l3)] [] h 0 0 := by
  induction n generalizing l2 l3 h with
  | zero => exact False.elim hk
  | succ n ih =>
    unfold f_X5_lastWrite_l37 at hk
    exact g_iload_n F dX5_lastWrite_37 rfl 2 rfl <|
g_if_lt F dX5_lastWrite_38 (tgt := 56) rfl (fun hc => have hk := hk.1 hc
G.fewer [2] rfl <| hK56 l3 h hk) (fun hc => have hk := hk.2 hc
g_aload_n F dX5_lastWrite_41 rfl 0 rfl <|
g_iload_n F dX5_lastWrite_42 rfl 2 rfl <|
g_iload_n F dX5_lastWrite_43 rfl 1 rfl <|
g_calli0 (g_V F dX5_lastWrite_44 q3478 mi_X5_changes ct_X5 (rm' := rmX5_changes) ⟨Nat.le_of_ble_eq_true rfl, Nat.le_of_ble_eq_true rfl⟩ ⟨Nat.le_refl 0, Nat.le_refl 0⟩ (As := [aI l3, aI l2]) (rest := []) rfl rfl (Nat.le_of_ble_eq_true rfl) hk (fun a3 hk => m_X5_changes F.ok a3 l3 l2 h _ hk)) ⟨rfl, rfl⟩ fun x2 h1 hk =>
g_if_ne F dX5_lastWrite_47 (tgt := 56) rfl (fun hc => have hk := hk.2 hc
G.fewer [2] rfl <| hK56 l3 h1 hk) (fun hc => have hk := hk.1 hc
g_iinc (v := (l3 + (-1:Int32))) F dX5_lastWrite_50 (j := 2) rfl (iinc_m1 l3) (Nat.le_of_ble_eq_true rfl) rfl <|
g_goto F dX5_lastWrite_53 (tgt := 37) rfl <|
G.fewer [1, 2, 0] rfl <| ih l2 (l3 + (-1:Int32)) h1 hk))
theorem s_X5_lastWrite_j21 {x : Cx} (F : Fx x cX5_lastWrite "LockstepRoomModel" 4 (some .int) rmX5_lastWrite) {v0 : Nat} {Q : Int32 → hH → Prop} (s0 : Option Nat) (s1 : Int32) (l1 : Int32) (l2 : Int32) (h : hH) (hk : f_X5_lastWrite_j21 x.S.E v0 Q s0 s1 l1 l2 h) : G x (xQ x rmX5_lastWrite (qI Q)) 21 [(0, aR (some v0)), (1, aI l1), (2, aI l2)] [aI s1, aR s0] h 0 0 := by
  unfold f_X5_lastWrite_j21 at hk
  exact g_calli0 (g_V F dX5_lastWrite_21 q3258 mi_X5_checks ct_X5 (rm' := rmX5_checks) ⟨Nat.le_of_ble_eq_true rfl, Nat.le_of_ble_eq_true rfl⟩ ⟨Nat.le_refl 0, Nat.le_refl 0⟩ (As := [aI s1]) (rest := []) rfl rfl (Nat.le_of_ble_eq_true rfl) hk (fun a6 hk => m_X5_checks F.ok a6 s1 h _ hk)) ⟨rfl, rfl⟩ fun x5 h4 hk =>
g_if_ne F dX5_lastWrite_24 (tgt := 29) rfl (fun hc => have hk := hk.2 hc
g_aload_n F dX5_lastWrite_29 rfl 0 rfl <|
g_iload_n F dX5_lastWrite_30 rfl 1 rfl <|
g_calli0 (g_V F dX5_lastWrite_31 q3210 mi_X5_turnsDone ct_X5 (rm' := rmX5_turnsDone) ⟨Nat.le_of_ble_eq_true rfl, Nat.le_of_ble_eq_true rfl⟩ ⟨Nat.le_refl 0, Nat.le_refl 0⟩ (As := [aI l1]) (rest := []) rfl rfl (Nat.le_of_ble_eq_true rfl) hk (fun a9 hk => m_X5_turnsDone F.ok a9 l1 h4 _ hk)) ⟨rfl, rfl⟩ fun x8 h7 hk =>
g_iconst F dX5_lastWrite_34 ic_1 <|
g_isub F dX5_lastWrite_35 <|
g_istore_n F dX5_lastWrite_36 rfl (Nat.le_of_ble_eq_true rfl) rfl <|
G.fewer [1, 3, 0] rfl <| s_X5_lastWrite_l37 F 1000000 l2 (x8 - (1:Int32)) h7 hk ((fun l3 h hk => g_iload_n F dX5_lastWrite_56 rfl 0 rfl <|
g_iret F dX5_lastWrite_57 (Nat.le_refl 0) (Nat.le_refl 0) hk))) (fun hc => have hk := hk.1 hc
g_iconst F dX5_lastWrite_27 ic_0 <|
g_iret F dX5_lastWrite_28 (Nat.le_refl 0) (Nat.le_refl 0) hk)
theorem s_X5_lastWrite_j20 {x : Cx} (F : Fx x cX5_lastWrite "LockstepRoomModel" 4 (some .int) rmX5_lastWrite) {v0 : Nat} {Q : Int32 → hH → Prop} (s0 : Option Nat) (l1 : Int32) (l2 : Int32) (h : hH) (hk : f_X5_lastWrite_j20 x.S.E v0 Q s0 l1 l2 h) : G x (xQ x rmX5_lastWrite (qI Q)) 20 [(0, aR (some v0)), (1, aI l1), (2, aI l2)] [aR s0] h 0 0 := by
  unfold f_X5_lastWrite_j20 at hk
  exact g_iconst F dX5_lastWrite_20 ic_0 <|
s_X5_lastWrite_j21 F s0 (0:Int32) l1 l2 h hk 
theorem m_X5_lastWrite {S : Sx} (hS0 : Sok S) (v0 : Nat) (v1 : Int32) (v2 : Int32) (h : hH) (Q : Int32 → hH → Prop) (hk : f_X5_lastWrite S.E v0 v1 v2 h Q) : Ct S yX5_lastWrite (ws_ yX5_lastWrite cX5_lastWrite 4 (some .int)) rmX5_lastWrite ([aR (some v0), aI v1, aI v2].map vv) h (qI Q) := by
  refine Ct.of hS0 (by decide +kernel) rfl (Nat.le_of_ble_eq_true rfl) fun x hxS F hnm => ?_
  subst hxS
  unfold f_X5_lastWrite at hk
  exact g_aload_n F dX5_lastWrite_0 rfl 0 rfl <|
g_aload_n F dX5_lastWrite_1 rfl 0 rfl <|
g_iload_n F dX5_lastWrite_2 rfl 1 rfl <|
g_calli0 (g_V F dX5_lastWrite_3 q3254 mi_X5_isMember ct_X5 (rm' := rmX5_isMember) ⟨Nat.le_of_ble_eq_true rfl, Nat.le_of_ble_eq_true rfl⟩ ⟨Nat.le_refl 0, Nat.le_refl 0⟩ (As := [aI v1]) (rest := [aR (some v0)]) rfl rfl (Nat.le_of_ble_eq_true rfl) hk (fun a12 hk => m_X5_isMember F.ok a12 v1 h _ hk)) ⟨rfl, rfl⟩ fun x11 h10 hk =>
g_if_eq F dX5_lastWrite_6 (tgt := 20) rfl (fun hc => have hk := hk.1 hc
s_X5_lastWrite_j20 F (some v0) v1 v2 h10 hk ) (fun hc => have hk := hk.2 hc
g_iload_n F dX5_lastWrite_9 rfl 2 rfl <|
g_calli0 (g_S F dX5_lastWrite_10 q3273 ms_X5_isCell (rm' := rmX5_isCell) ⟨Nat.le_of_ble_eq_true rfl, Nat.le_of_ble_eq_true rfl⟩ ⟨Nat.le_refl 0, Nat.le_refl 0⟩ (As := [aI v2]) (rest := [aR (some v0)]) rfl rfl (Nat.le_of_ble_eq_true rfl) (m_X5_isCell F.ok v2 h10 _ hk)) ⟨rfl, rfl⟩ fun x14 h13 hk =>
g_if_eq F dX5_lastWrite_13 (tgt := 20) rfl (fun hc => have hk := hk.1 hc
s_X5_lastWrite_j20 F (some v0) v1 v2 h13 hk ) (fun hc => have hk := hk.2 hc
g_iconst F dX5_lastWrite_16 ic_1 <|
g_goto F dX5_lastWrite_17 (tgt := 21) rfl <|
s_X5_lastWrite_j21 F (some v0) (1:Int32) v1 v2 h13 hk ))
abbrev rmX5_undo : Room := { frames := 2, cells := 0, slots := 0, locals := 40 }
theorem s_X5_undo_l26 {x : Cx} (F : Fx x cX5_undo "LockstepRoomModel" 2 (some .int) rmX5_undo) {v0 : Nat} {Q : Int32 → hH → Prop} {K60 : hH → Prop} (n : Nat) (l1 : Int32) (h : hH) (hk : f_X5_undo_l26 x.S.E v0 Q K60 n l1 h) (hK60 : ∀ (h : hH), K60 h → G x (xQ x rmX5_undo (qI Q)) 60 [(0, aR (some v0))] [] h 0 0) : G x (xQ x rmX5_undo (qI Q)) 26 [(0, aR (some v0)), (1, aI l1)] [] h 0 0 := by
  induction n generalizing l1 h with
  | zero => exact False.elim hk
  | succ n ih =>
    unfold f_X5_undo_l26 at hk
    exact g_iload_n F dX5_undo_26 rfl 1 rfl <|
g_sipush F dX5_undo_27 sp_1782 <|
g_icmp_ge F dX5_undo_30 (tgt := 60) rfl (fun hc => have hk := hk.1 hc
G.fewer [0] rfl <| hK60 h hk) (fun hc => have hk := hk.2 hc
g_aload_n F dX5_undo_33 rfl 0 rfl <|
g_getR F dX5_undo_34 fo_X5_5_LockstepRoomModel in_X5 fl_LockstepRoomModel_19_X5 hk fun x1 hk =>
g_iload_n F dX5_undo_37 rfl 1 rfl <|
g_aload_n F dX5_undo_38 rfl 0 rfl <|
g_getR F dX5_undo_39 fo_X5_7_LockstepRoomModel in_X5 fl_LockstepRoomModel_25_X5 hk fun x2 hk =>
g_sipush F dX5_undo_42 sp_1782 <|
g_aload_n F dX5_undo_45 rfl 0 rfl <|
g_getI F dX5_undo_46 fo_X5_8_LockstepRoomModel in_X5 fl_LockstepRoomModel_286_X5 hk fun x3 hk =>
g_imul F dX5_undo_49 <|
g_iload_n F dX5_undo_50 rfl 1 rfl <|
g_iadd F dX5_undo_51 <|
g_iald F dX5_undo_52 hk fun x4 hk =>
g_iast F dX5_undo_53 hk fun h5 hk =>
g_iinc (v := (l1 + (1:Int32))) F dX5_undo_54 (j := 1) rfl (iinc_1 l1) (Nat.le_of_ble_eq_true rfl) rfl <|
g_goto F dX5_undo_57 (tgt := 26) rfl <|
G.fewer [1, 0] rfl <| ih (l1 + (1:Int32)) h5 hk)
theorem m_X5_undo {S : Sx} (hS0 : Sok S) (v0 : Nat) (h : hH) (Q : Int32 → hH → Prop) (hk : f_X5_undo S.E v0 h Q) : Ct S yX5_undo (ws_ yX5_undo cX5_undo 2 (some .int)) rmX5_undo ([aR (some v0)].map vv) h (qI Q) := by
  refine Ct.of hS0 (by decide +kernel) rfl (Nat.le_of_ble_eq_true rfl) fun x hxS F hnm => ?_
  subst hxS
  unfold f_X5_undo at hk
  exact g_aload_n F dX5_undo_0 rfl 0 rfl <|
g_iconst F dX5_undo_1 ic_0 <|
g_putV F dX5_undo_2 fo_X5_0_LockstepRoomModel ck_X5 fl_LockstepRoomModel_47_X5 rfl (v := aI (0:Int32)) (fit_i (0:Int32)) hk fun h6 hk =>
g_aload_n F dX5_undo_5 rfl 0 rfl <|
g_getI F dX5_undo_6 fo_X5_8_LockstepRoomModel in_X5 fl_LockstepRoomModel_286_X5 hk fun x7 hk =>
g_if_ne F dX5_undo_9 (tgt := 14) rfl (fun hc => have hk := hk.2 hc
g_aload_n F dX5_undo_14 rfl 0 rfl <|
g_dup F dX5_undo_15 rfl <|
g_getI F dX5_undo_16 fo_X5_8_LockstepRoomModel in_X5 fl_LockstepRoomModel_286_X5 hk fun x8 hk =>
g_iconst F dX5_undo_19 ic_1 <|
g_isub F dX5_undo_20 <|
g_putV F dX5_undo_21 fo_X5_8_LockstepRoomModel ck_X5 fl_LockstepRoomModel_286_X5 rfl (v := aI (x8 - (1:Int32))) (fit_i (x8 - (1:Int32))) hk fun h9 hk =>
g_iconst F dX5_undo_24 ic_0 <|
g_istore_n F dX5_undo_25 rfl (Nat.le_of_ble_eq_true rfl) rfl <|
G.fewer [1, 0] rfl <| s_X5_undo_l26 F 1000000 (0:Int32) h9 hk ((fun h hk => g_aload_n F dX5_undo_60 rfl 0 rfl <|
g_getI F dX5_undo_61 fo_X5_8_LockstepRoomModel in_X5 fl_LockstepRoomModel_286_X5 hk fun x10 hk =>
g_iret F dX5_undo_64 (Nat.le_refl 0) (Nat.le_refl 0) hk))) (fun hc => have hk := hk.1 hc
g_iconst F dX5_undo_12 ic_m1 <|
g_iret F dX5_undo_13 (Nat.le_refl 0) (Nat.le_refl 0) hk)
abbrev rmX5_isOperand : Room := { frames := 2, cells := 0, slots := 0, locals := 40 }
theorem s_X5_isOperand_j18 {x : Cx} (F : Fx x cX5_isOperand "LockstepRoomModel" 2 (some .boolean) rmX5_isOperand) {Q : Int32 → hH → Prop} (s0 : Int32) (s1 : Int32) (h : hH) (hk : f_X5_isOperand_j18 x.S.E Q s0 s1 h) : G x (xQ x rmX5_isOperand (qI Q)) 18 [] [aI s1, aI s0] h 0 0 := by
  unfold f_X5_isOperand_j18 at hk
  exact g_icmp_ge F dX5_isOperand_18 (tgt := 25) rfl (fun hc => have hk := hk.1 hc
g_iconst F dX5_isOperand_25 ic_0 <|
g_zret F dX5_isOperand_26 (Nat.le_refl 0) (Nat.le_refl 0) rfl hk) (fun hc => have hk := hk.2 hc
g_iconst F dX5_isOperand_21 ic_1 <|
g_goto F dX5_isOperand_22 (tgt := 26) rfl <|
g_zret F dX5_isOperand_26 (Nat.le_refl 0) (Nat.le_refl 0) rfl hk)
theorem m_X5_isOperand {S : Sx} (hS0 : Sok S) (v0 : Int32) (v1 : Int32) (h : hH) (Q : Int32 → hH → Prop) (hk : f_X5_isOperand S.E v0 v1 h Q) : Ct S yX5_isOperand (ws_ yX5_isOperand cX5_isOperand 2 (some .boolean)) rmX5_isOperand ([aI v0, aI v1].map vv) h (qI Q) := by
  refine Ct.of hS0 (by decide +kernel) rfl (Nat.le_of_ble_eq_true rfl) fun x hxS F hnm => ?_
  subst hxS
  unfold f_X5_isOperand at hk
  exact g_iload_n F dX5_isOperand_0 rfl 1 rfl <|
g_if_lt F dX5_isOperand_1 (tgt := 25) rfl (fun hc => have hk := hk.1 hc
g_iconst F dX5_isOperand_25 ic_0 <|
g_zret F dX5_isOperand_26 (Nat.le_refl 0) (Nat.le_refl 0) rfl hk) (fun hc => have hk := hk.2 hc
g_iload_n F dX5_isOperand_4 rfl 1 rfl <|
g_iload_n F dX5_isOperand_5 rfl 0 rfl <|
g_iconst F dX5_isOperand_6 ic_1 <|
g_icmp_gt F dX5_isOperand_7 (tgt := 16) rfl (fun hc => have hk := hk.1 hc
g_bipush F dX5_isOperand_16 bp_16 <|
G.fewer [] rfl <| s_X5_isOperand_j18 F v1 (16:Int32) h hk ) (fun hc => have hk := hk.2 hc
g_sipush F dX5_isOperand_10 sp_10000 <|
g_goto F dX5_isOperand_13 (tgt := 18) rfl <|
G.fewer [] rfl <| s_X5_isOperand_j18 F v1 (10000:Int32) h hk ))
abbrev rmX5_keeps : Room := { frames := 2, cells := 0, slots := 0, locals := 40 }
theorem s_X5_keeps_l54 {x : Cx} (F : Fx x cX5_keeps "LockstepRoomModel" 2 none rmX5_keeps) {v0 : Nat} {Q : hH → Prop} {K88 : hH → Prop} (n : Nat) (l1 : Int32) (h : hH) (hk : f_X5_keeps_l54 x.S.E v0 Q K88 n l1 h) (hK88 : ∀ (h : hH), K88 h → G x (xQ x rmX5_keeps (qV Q)) 88 [(0, aR (some v0))] [] h 0 0) : G x (xQ x rmX5_keeps (qV Q)) 54 [(0, aR (some v0)), (1, aI l1)] [] h 0 0 := by
  induction n generalizing l1 h with
  | zero => exact False.elim hk
  | succ n ih =>
    unfold f_X5_keeps_l54 at hk
    exact g_iload_n F dX5_keeps_54 rfl 1 rfl <|
g_sipush F dX5_keeps_55 sp_1782 <|
g_icmp_ge F dX5_keeps_58 (tgt := 88) rfl (fun hc => have hk := hk.1 hc
G.fewer [0] rfl <| hK88 h hk) (fun hc => have hk := hk.2 hc
g_aload_n F dX5_keeps_61 rfl 0 rfl <|
g_getR F dX5_keeps_62 fo_X5_7_LockstepRoomModel in_X5 fl_LockstepRoomModel_25_X5 hk fun x1 hk =>
g_sipush F dX5_keeps_65 sp_1782 <|
g_aload_n F dX5_keeps_68 rfl 0 rfl <|
g_getI F dX5_keeps_69 fo_X5_8_LockstepRoomModel in_X5 fl_LockstepRoomModel_286_X5 hk fun x2 hk =>
g_imul F dX5_keeps_72 <|
g_iload_n F dX5_keeps_73 rfl 1 rfl <|
g_iadd F dX5_keeps_74 <|
g_aload_n F dX5_keeps_75 rfl 0 rfl <|
g_getR F dX5_keeps_76 fo_X5_5_LockstepRoomModel in_X5 fl_LockstepRoomModel_19_X5 hk fun x3 hk =>
g_iload_n F dX5_keeps_79 rfl 1 rfl <|
g_iald F dX5_keeps_80 hk fun x4 hk =>
g_iast F dX5_keeps_81 hk fun h5 hk =>
g_iinc (v := (l1 + (1:Int32))) F dX5_keeps_82 (j := 1) rfl (iinc_1 l1) (Nat.le_of_ble_eq_true rfl) rfl <|
g_goto F dX5_keeps_85 (tgt := 54) rfl <|
G.fewer [1, 0] rfl <| ih (l1 + (1:Int32)) h5 hk)
theorem s_X5_keeps_l13 {x : Cx} (F : Fx x cX5_keeps "LockstepRoomModel" 2 none rmX5_keeps) {v0 : Nat} {Q : hH → Prop} {K42 : hH → Prop} (n : Nat) (l1 : Int32) (h : hH) (hk : f_X5_keeps_l13 x.S.E v0 Q K42 n l1 h) (hK42 : ∀ (h : hH), K42 h → G x (xQ x rmX5_keeps (qV Q)) 42 [(0, aR (some v0))] [] h 0 0) : G x (xQ x rmX5_keeps (qV Q)) 13 [(0, aR (some v0)), (1, aI l1)] [] h 0 0 := by
  induction n generalizing l1 h with
  | zero => exact False.elim hk
  | succ n ih =>
    unfold f_X5_keeps_l13 at hk
    exact g_iload_n F dX5_keeps_13 rfl 1 rfl <|
g_sipush F dX5_keeps_14 sp_17820 <|
g_icmp_ge F dX5_keeps_17 (tgt := 42) rfl (fun hc => have hk := hk.1 hc
G.fewer [0] rfl <| hK42 h hk) (fun hc => have hk := hk.2 hc
g_aload_n F dX5_keeps_20 rfl 0 rfl <|
g_getR F dX5_keeps_21 fo_X5_7_LockstepRoomModel in_X5 fl_LockstepRoomModel_25_X5 hk fun x6 hk =>
g_iload_n F dX5_keeps_24 rfl 1 rfl <|
g_sipush F dX5_keeps_25 sp_1782 <|
g_isub F dX5_keeps_28 <|
g_aload_n F dX5_keeps_29 rfl 0 rfl <|
g_getR F dX5_keeps_30 fo_X5_7_LockstepRoomModel in_X5 fl_LockstepRoomModel_25_X5 hk fun x7 hk =>
g_iload_n F dX5_keeps_33 rfl 1 rfl <|
g_iald F dX5_keeps_34 hk fun x8 hk =>
g_iast F dX5_keeps_35 hk fun h9 hk =>
g_iinc (v := (l1 + (1:Int32))) F dX5_keeps_36 (j := 1) rfl (iinc_1 l1) (Nat.le_of_ble_eq_true rfl) rfl <|
g_goto F dX5_keeps_39 (tgt := 13) rfl <|
G.fewer [1, 0] rfl <| ih (l1 + (1:Int32)) h9 hk)
theorem m_X5_keeps {S : Sx} (hS0 : Sok S) (v0 : Nat) (h : hH) (Q : hH → Prop) (hk : f_X5_keeps S.E v0 h Q) : Ct S yX5_keeps (ws_ yX5_keeps cX5_keeps 2 none) rmX5_keeps ([aR (some v0)].map vv) h (qV Q) := by
  refine Ct.of hS0 (by decide +kernel) rfl (Nat.le_of_ble_eq_true rfl) fun x hxS F hnm => ?_
  subst hxS
  unfold f_X5_keeps at hk
  exact g_aload_n F dX5_keeps_0 rfl 0 rfl <|
g_getI F dX5_keeps_1 fo_X5_8_LockstepRoomModel in_X5 fl_LockstepRoomModel_286_X5 hk fun x10 hk =>
g_bipush F dX5_keeps_4 bp_10 <|
g_icmp_ne F dX5_keeps_6 (tgt := 52) rfl (fun hc => have hk := hk.2 hc
g_iconst F dX5_keeps_52 ic_0 <|
g_istore_n F dX5_keeps_53 rfl (Nat.le_of_ble_eq_true rfl) rfl <|
G.fewer [1, 0] rfl <| s_X5_keeps_l54 F 1000000 (0:Int32) h hk ((fun h hk => g_aload_n F dX5_keeps_88 rfl 0 rfl <|
g_dup F dX5_keeps_89 rfl <|
g_getI F dX5_keeps_90 fo_X5_8_LockstepRoomModel in_X5 fl_LockstepRoomModel_286_X5 hk fun x11 hk =>
g_iconst F dX5_keeps_93 ic_1 <|
g_iadd F dX5_keeps_94 <|
g_putV F dX5_keeps_95 fo_X5_8_LockstepRoomModel ck_X5 fl_LockstepRoomModel_286_X5 rfl (v := aI (x11 + (1:Int32))) (fit_i (x11 + (1:Int32))) hk fun h12 hk =>
g_vret F dX5_keeps_98 (Nat.le_refl 0) (Nat.le_refl 0) hk))) (fun hc => have hk := hk.1 hc
g_sipush F dX5_keeps_9 sp_1782 <|
g_istore_n F dX5_keeps_12 rfl (Nat.le_of_ble_eq_true rfl) rfl <|
G.fewer [1, 0] rfl <| s_X5_keeps_l13 F 1000000 (1782:Int32) h hk ((fun h hk => g_aload_n F dX5_keeps_42 rfl 0 rfl <|
g_dup F dX5_keeps_43 rfl <|
g_getI F dX5_keeps_44 fo_X5_8_LockstepRoomModel in_X5 fl_LockstepRoomModel_286_X5 hk fun x13 hk =>
g_iconst F dX5_keeps_47 ic_1 <|
g_isub F dX5_keeps_48 <|
g_putV F dX5_keeps_49 fo_X5_8_LockstepRoomModel ck_X5 fl_LockstepRoomModel_286_X5 rfl (v := aI (x13 - (1:Int32))) (fit_i (x13 - (1:Int32))) hk fun h14 hk =>
g_iconst F dX5_keeps_52 ic_0 <|
g_istore_n F dX5_keeps_53 rfl (Nat.le_of_ble_eq_true rfl) rfl <|
G.fewer [1, 0] rfl <| s_X5_keeps_l54 F 1000000 (0:Int32) h14 hk ((fun h hk => g_aload_n F dX5_keeps_88 rfl 0 rfl <|
g_dup F dX5_keeps_89 rfl <|
g_getI F dX5_keeps_90 fo_X5_8_LockstepRoomModel in_X5 fl_LockstepRoomModel_286_X5 hk fun x15 hk =>
g_iconst F dX5_keeps_93 ic_1 <|
g_iadd F dX5_keeps_94 <|
g_putV F dX5_keeps_95 fo_X5_8_LockstepRoomModel ck_X5 fl_LockstepRoomModel_286_X5 rfl (v := aI (x15 + (1:Int32))) (fit_i (x15 + (1:Int32))) hk fun h16 hk =>
g_vret F dX5_keeps_98 (Nat.le_refl 0) (Nat.le_refl 0) hk)))))
abbrev rmX5_give : Room := { frames := 4, cells := 0, slots := 0, locals := 83 }
theorem m_X5_give {S : Sx} (hS0 : Sok S) (v0 : Nat) (v1 : Int32) (v2 : Int32) (v3 : Int32) (v4 : Int32) (h : hH) (Q : Int32 → hH → Prop) (hk : f_X5_give S.E v0 v1 v2 v3 v4 h Q) : Ct S yX5_give (ws_ yX5_give cX5_give 5 (some .int)) rmX5_give ([aR (some v0), aI v1, aI v2, aI v3, aI v4].map vv) h (qI Q) := by
  refine Ct.of hS0 (by decide +kernel) rfl (Nat.le_of_ble_eq_true rfl) fun x hxS F hnm => ?_
  subst hxS
  unfold f_X5_give at hk
  exact g_aload_n F dX5_give_0 rfl 0 rfl <|
g_iconst F dX5_give_1 ic_0 <|
g_putV F dX5_give_2 fo_X5_0_LockstepRoomModel ck_X5 fl_LockstepRoomModel_47_X5 rfl (v := aI (0:Int32)) (fit_i (0:Int32)) hk fun h1 hk =>
g_aload_n F dX5_give_5 rfl 0 rfl <|
g_iload_n F dX5_give_6 rfl 1 rfl <|
g_calli0 (g_V F dX5_give_7 q3254 mi_X5_isMember ct_X5 (rm' := rmX5_isMember) ⟨Nat.le_of_ble_eq_true rfl, Nat.le_of_ble_eq_true rfl⟩ ⟨Nat.le_refl 0, Nat.le_refl 0⟩ (As := [aI v1]) (rest := []) rfl rfl (Nat.le_of_ble_eq_true rfl) hk (fun a4 hk => m_X5_isMember F.ok a4 v1 h1 _ hk)) ⟨rfl, rfl⟩ fun x3 h2 hk =>
g_if_ne F dX5_give_10 (tgt := 15) rfl (fun hc => have hk := hk.2 hc
g_iload_n F dX5_give_15 rfl 2 rfl <|
g_if_lt F dX5_give_16 (tgt := 40) rfl (fun hc => have hk := hk.1 hc
g_bipush F dX5_give_40 bp_m2 <|
g_iret F dX5_give_42 (Nat.le_refl 0) (Nat.le_refl 0) hk) (fun hc => have hk := hk.2 hc
g_iload_n F dX5_give_19 rfl 2 rfl <|
g_iconst F dX5_give_20 ic_5 <|
g_icmp_gt F dX5_give_21 (tgt := 40) rfl (fun hc => have hk := hk.1 hc
g_bipush F dX5_give_40 bp_m2 <|
g_iret F dX5_give_42 (Nat.le_refl 0) (Nat.le_refl 0) hk) (fun hc => have hk := hk.2 hc
g_iload_n F dX5_give_24 rfl 3 rfl <|
g_calli0 (g_S F dX5_give_25 q3273 ms_X5_isCell (rm' := rmX5_isCell) ⟨Nat.le_of_ble_eq_true rfl, Nat.le_of_ble_eq_true rfl⟩ ⟨Nat.le_refl 0, Nat.le_refl 0⟩ (As := [aI v3]) (rest := []) rfl rfl (Nat.le_of_ble_eq_true rfl) (m_X5_isCell F.ok v3 h2 _ hk)) ⟨rfl, rfl⟩ fun x6 h5 hk =>
g_if_eq F dX5_give_28 (tgt := 40) rfl (fun hc => have hk := hk.1 hc
g_bipush F dX5_give_40 bp_m2 <|
g_iret F dX5_give_42 (Nat.le_refl 0) (Nat.le_refl 0) hk) (fun hc => have hk := hk.2 hc
g_iload_n F dX5_give_31 rfl 2 rfl <|
g_iload F dX5_give_32 4 rfl <|
g_calli0 (g_S F dX5_give_34 q3490 ms_X5_isOperand (rm' := rmX5_isOperand) ⟨Nat.le_of_ble_eq_true rfl, Nat.le_of_ble_eq_true rfl⟩ ⟨Nat.le_refl 0, Nat.le_refl 0⟩ (As := [aI v2, aI v4]) (rest := []) rfl rfl (Nat.le_of_ble_eq_true rfl) (m_X5_isOperand F.ok v2 v4 h5 _ hk)) ⟨rfl, rfl⟩ fun x8 h7 hk =>
g_if_ne F dX5_give_37 (tgt := 43) rfl (fun hc => have hk := hk.2 hc
g_aload_n F dX5_give_43 rfl 0 rfl <|
g_iload_n F dX5_give_44 rfl 1 rfl <|
g_calli0 (g_V F dX5_give_45 q3382 mi_X5_isActive ct_X5 (rm' := rmX5_isActive) ⟨Nat.le_of_ble_eq_true rfl, Nat.le_of_ble_eq_true rfl⟩ ⟨Nat.le_refl 0, Nat.le_refl 0⟩ (As := [aI v1]) (rest := []) rfl rfl (Nat.le_of_ble_eq_true rfl) hk (fun a11 hk => m_X5_isActive F.ok a11 v1 h7 _ hk)) ⟨rfl, rfl⟩ fun x10 h9 hk =>
g_if_ne F dX5_give_48 (tgt := 54) rfl (fun hc => have hk := hk.2 hc
g_aload_n F dX5_give_54 rfl 0 rfl <|
g_getR F dX5_give_55 fo_X5_5_LockstepRoomModel in_X5 fl_LockstepRoomModel_19_X5 hk fun x12 hk =>
g_sipush F dX5_give_58 sp_1708 <|
g_iald F dX5_give_61 hk fun x13 hk =>
g_bipush F dX5_give_62 bp_8 <|
g_icmp_ne F dX5_give_64 (tgt := 70) rfl (fun hc => have hk := hk.2 hc
g_aload_n F dX5_give_70 rfl 0 rfl <|
g_callv0 (g_V F dX5_give_71 q3493 mi_X5_keeps ct_X5 (rm' := rmX5_keeps) ⟨Nat.le_of_ble_eq_true rfl, Nat.le_of_ble_eq_true rfl⟩ ⟨Nat.le_refl 0, Nat.le_refl 0⟩ (As := []) (rest := []) rfl rfl (Nat.le_of_ble_eq_true rfl) hk (fun a15 hk => m_X5_keeps F.ok a15 h9 _ hk)) ⟨rfl, rfl⟩ fun h14 hk =>
g_aload_n F dX5_give_74 rfl 0 rfl <|
g_iload_n F dX5_give_75 rfl 1 rfl <|
g_iload_n F dX5_give_76 rfl 2 rfl <|
g_iload_n F dX5_give_77 rfl 3 rfl <|
g_iload F dX5_give_78 4 rfl <|
g_callv0 (g_V F dX5_give_80 q3175 mi_X5_gives ct_X5 (rm' := rmX5_gives) ⟨Nat.le_of_ble_eq_true rfl, Nat.le_of_ble_eq_true rfl⟩ ⟨Nat.le_refl 0, Nat.le_refl 0⟩ (As := [aI v1, aI v2, aI v3, aI v4]) (rest := []) rfl rfl (Nat.le_of_ble_eq_true rfl) hk (fun a17 hk => m_X5_gives F.ok a17 v1 v2 v3 v4 h14 _ hk)) ⟨rfl, rfl⟩ fun h16 hk =>
g_aload_n F dX5_give_83 rfl 0 rfl <|
g_getR F dX5_give_84 fo_X5_5_LockstepRoomModel in_X5 fl_LockstepRoomModel_19_X5 hk fun x18 hk =>
g_sipush F dX5_give_87 sp_1708 <|
g_iald F dX5_give_90 hk fun x19 hk =>
g_iret F dX5_give_91 (Nat.le_refl 0) (Nat.le_refl 0) hk) (fun hc => have hk := hk.1 hc
g_bipush F dX5_give_67 bp_m3 <|
g_iret F dX5_give_69 (Nat.le_refl 0) (Nat.le_refl 0) hk)) (fun hc => have hk := hk.1 hc
g_bipush F dX5_give_51 bp_m4 <|
g_iret F dX5_give_53 (Nat.le_refl 0) (Nat.le_refl 0) hk)) (fun hc => have hk := hk.1 hc
g_bipush F dX5_give_40 bp_m2 <|
g_iret F dX5_give_42 (Nat.le_refl 0) (Nat.le_refl 0) hk))))) (fun hc => have hk := hk.1 hc
g_iconst F dX5_give_13 ic_m1 <|
g_iret F dX5_give_14 (Nat.le_refl 0) (Nat.le_refl 0) hk)
abbrev rmX5_seal : Room := { frames := 3, cells := 0, slots := 0, locals := 65 }
theorem m_X5_seal {S : Sx} (hS0 : Sok S) (v0 : Nat) (h : hH) (Q : Int32 → hH → Prop) (hk : f_X5_seal S.E v0 h Q) : Ct S yX5_seal (ws_ yX5_seal cX5_seal 1 (some .int)) rmX5_seal ([aR (some v0)].map vv) h (qI Q) := by
  refine Ct.of hS0 (by decide +kernel) rfl (Nat.le_of_ble_eq_true rfl) fun x hxS F hnm => ?_
  subst hxS
  unfold f_X5_seal at hk
  exact g_aload_n F dX5_seal_0 rfl 0 rfl <|
g_iconst F dX5_seal_1 ic_0 <|
g_putV F dX5_seal_2 fo_X5_0_LockstepRoomModel ck_X5 fl_LockstepRoomModel_47_X5 rfl (v := aI (0:Int32)) (fit_i (0:Int32)) hk fun h1 hk =>
g_aload_n F dX5_seal_5 rfl 0 rfl <|
g_getR F dX5_seal_6 fo_X5_5_LockstepRoomModel in_X5 fl_LockstepRoomModel_19_X5 hk fun x2 hk =>
g_sipush F dX5_seal_9 sp_387 <|
g_iald F dX5_seal_12 hk fun x3 hk =>
g_bipush F dX5_seal_13 bp_40 <|
g_icmp_ne F dX5_seal_15 (tgt := 21) rfl (fun hc => have hk := hk.2 hc
g_aload_n F dX5_seal_21 rfl 0 rfl <|
g_callv0 (g_V F dX5_seal_22 q3493 mi_X5_keeps ct_X5 (rm' := rmX5_keeps) ⟨Nat.le_of_ble_eq_true rfl, Nat.le_of_ble_eq_true rfl⟩ ⟨Nat.le_refl 0, Nat.le_refl 0⟩ (As := []) (rest := []) rfl rfl (Nat.le_of_ble_eq_true rfl) hk (fun a5 hk => m_X5_keeps F.ok a5 h1 _ hk)) ⟨rfl, rfl⟩ fun h4 hk =>
g_aload_n F dX5_seal_25 rfl 0 rfl <|
g_callv0 (g_V F dX5_seal_26 q3183 mi_X5_seals ct_X5 (rm' := rmX5_seals) ⟨Nat.le_of_ble_eq_true rfl, Nat.le_of_ble_eq_true rfl⟩ ⟨Nat.le_refl 0, Nat.le_refl 0⟩ (As := []) (rest := []) rfl rfl (Nat.le_of_ble_eq_true rfl) hk (fun a7 hk => m_X5_seals F.ok a7 h4 _ hk)) ⟨rfl, rfl⟩ fun h6 hk =>
g_aload_n F dX5_seal_29 rfl 0 rfl <|
g_getR F dX5_seal_30 fo_X5_5_LockstepRoomModel in_X5 fl_LockstepRoomModel_19_X5 hk fun x8 hk =>
g_sipush F dX5_seal_33 sp_387 <|
g_iald F dX5_seal_36 hk fun x9 hk =>
g_iret F dX5_seal_37 (Nat.le_refl 0) (Nat.le_refl 0) hk) (fun hc => have hk := hk.1 hc
g_bipush F dX5_seal_18 bp_m3 <|
g_iret F dX5_seal_20 (Nat.le_refl 0) (Nat.le_refl 0) hk)
abbrev rmX5_forgets : Room := { frames := 3, cells := 0, slots := 0, locals := 62 }
theorem s_X5_forgets_l104 {x : Cx} (F : Fx x cX5_forgets "LockstepRoomModel" 6 none rmX5_forgets) {v0 : Nat} {Q : hH → Prop} {K137 : Int32 → hH → Prop} (n : Nat) (l3 : Int32) (l4 : Int32) (h : hH) (hk : f_X5_forgets_l104 x.S.E v0 Q K137 n l3 l4 h) (hK137 : ∀ (l3 : Int32) (h : hH), K137 l3 h → G x (xQ x rmX5_forgets (qV Q)) 137 [(0, aR (some v0)), (3, aI l3)] [] h 0 0) : G x (xQ x rmX5_forgets (qV Q)) 104 [(0, aR (some v0)), (3, aI l3), (4, aI l4)] [] h 0 0 := by
  induction n generalizing l3 l4 h with
  | zero => exact False.elim hk
  | succ n ih =>
    unfold f_X5_forgets_l104 at hk
    exact g_iload F dX5_forgets_104 2 rfl <|
g_sipush F dX5_forgets_106 sp_1742 <|
g_iconst F dX5_forgets_109 ic_4 <|
g_aload_n F dX5_forgets_110 rfl 0 rfl <|
g_getR F dX5_forgets_111 fo_X5_5_LockstepRoomModel in_X5 fl_LockstepRoomModel_19_X5 hk fun x1 hk =>
g_sipush F dX5_forgets_114 sp_1741 <|
g_iald F dX5_forgets_117 hk fun x2 hk =>
g_imul F dX5_forgets_118 <|
g_iadd F dX5_forgets_119 <|
g_icmp_ge F dX5_forgets_120 (tgt := 137) rfl (fun hc => have hk := hk.1 hc
G.fewer [0, 1] rfl <| hK137 l3 h hk) (fun hc => have hk := hk.2 hc
g_aload_n F dX5_forgets_123 rfl 0 rfl <|
g_getR F dX5_forgets_124 fo_X5_5_LockstepRoomModel in_X5 fl_LockstepRoomModel_19_X5 hk fun x3 hk =>
g_iload F dX5_forgets_127 2 rfl <|
g_iconst F dX5_forgets_129 ic_0 <|
g_iast F dX5_forgets_130 hk fun h4 hk =>
g_iinc (v := (l4 + (1:Int32))) F dX5_forgets_131 (j := 2) rfl (iinc_1 l4) (Nat.le_of_ble_eq_true rfl) rfl <|
g_goto F dX5_forgets_134 (tgt := 104) rfl <|
G.fewer [1, 2, 0] rfl <| ih l3 (l4 + (1:Int32)) h4 hk)
theorem s_X5_forgets_l51 {x : Cx} (F : Fx x cX5_forgets "LockstepRoomModel" 6 none rmX5_forgets) {v0 : Nat} {Q : hH → Prop} {K86 : Int32 → Int32 → Int32 → Int32 → hH → Prop} (n : Nat) (l1 : Int32) (l2 : Int32) (l3 : Int32) (l4 : Int32) (l5 : Int32) (h : hH) (hk : f_X5_forgets_l51 x.S.E v0 Q K86 n l1 l2 l3 l4 l5 h) (hK86 : ∀ (l1 : Int32) (l2 : Int32) (l3 : Int32) (l4 : Int32) (h : hH), K86 l1 l2 l3 l4 h → G x (xQ x rmX5_forgets (qV Q)) 86 [(0, aR (some v0)), (1, aI l1), (2, aI l2), (3, aI l3), (4, aI l4)] [] h 0 0) : G x (xQ x rmX5_forgets (qV Q)) 51 [(0, aR (some v0)), (1, aI l1), (2, aI l2), (3, aI l3), (4, aI l4), (5, aI l5)] [] h 0 0 := by
  induction n generalizing l1 l2 l3 l4 l5 h with
  | zero => exact False.elim hk
  | succ n ih =>
    unfold f_X5_forgets_l51 at hk
    exact g_iload F dX5_forgets_51 5 rfl <|
g_iconst F dX5_forgets_53 ic_4 <|
g_icmp_ge F dX5_forgets_54 (tgt := 86) rfl (fun hc => have hk := hk.1 hc
G.fewer [0, 1, 2, 3, 4] rfl <| hK86 l1 l2 l3 l4 h hk) (fun hc => have hk := hk.2 hc
g_aload_n F dX5_forgets_57 rfl 0 rfl <|
g_getR F dX5_forgets_58 fo_X5_5_LockstepRoomModel in_X5 fl_LockstepRoomModel_19_X5 hk fun x5 hk =>
g_sipush F dX5_forgets_61 sp_1742 <|
g_iconst F dX5_forgets_64 ic_4 <|
g_iload_n F dX5_forgets_65 rfl 3 rfl <|
g_imul F dX5_forgets_66 <|
g_iadd F dX5_forgets_67 <|
g_iload F dX5_forgets_68 5 rfl <|
g_iadd F dX5_forgets_70 <|
g_aload_n F dX5_forgets_71 rfl 0 rfl <|
g_iload F dX5_forgets_72 4 rfl <|
g_iload F dX5_forgets_74 5 rfl <|
g_calli0 (g_V F dX5_forgets_76 q3292 mi_X5_fault ct_X5 (rm' := rmX5_fault) ⟨Nat.le_of_ble_eq_true rfl, Nat.le_of_ble_eq_true rfl⟩ ⟨Nat.le_refl 0, Nat.le_refl 0⟩ (As := [aI l4, aI l5]) (rest := [aI (((1742:Int32) + ((4:Int32) * l3)) + l5), aR x5]) rfl rfl (Nat.le_of_ble_eq_true rfl) hk (fun a8 hk => m_X5_fault F.ok a8 l4 l5 h _ hk)) ⟨rfl, rfl⟩ fun x7 h6 hk =>
g_iast F dX5_forgets_79 hk fun h9 hk =>
g_iinc (v := (l5 + (1:Int32))) F dX5_forgets_80 (j := 5) rfl (iinc_1 l5) (Nat.le_of_ble_eq_true rfl) rfl <|
g_goto F dX5_forgets_83 (tgt := 51) rfl <|
G.fewer [1, 2, 3, 4, 5, 0] rfl <| ih l1 l2 l3 l4 (l5 + (1:Int32)) h9 hk)
theorem s_X5_forgets_l5 {x : Cx} (F : Fx x cX5_forgets "LockstepRoomModel" 6 none rmX5_forgets) {v0 : Nat} {Q : hH → Prop} {K95 : Int32 → hH → Prop} (n : Nat) (l1 : Int32) (l2 : Int32) (l3 : Int32) (l4 : Int32) (h : hH) (hk : f_X5_forgets_l5 x.S.E v0 Q K95 n l1 l2 l3 l4 h) (hK95 : ∀ (l3 : Int32) (h : hH), K95 l3 h → G x (xQ x rmX5_forgets (qV Q)) 95 [(0, aR (some v0)), (3, aI l3)] [] h 0 0) : G x (xQ x rmX5_forgets (qV Q)) 5 [(0, aR (some v0)), (1, aI l1), (2, aI l2), (3, aI l3), (4, aI l4)] [] h 0 0 := by
  induction n generalizing l1 l2 l3 l4 h with
  | zero => exact False.elim hk
  | succ n ih =>
    unfold f_X5_forgets_l5 at hk
    exact g_iload F dX5_forgets_5 4 rfl <|
g_aload_n F dX5_forgets_7 rfl 0 rfl <|
g_getR F dX5_forgets_8 fo_X5_5_LockstepRoomModel in_X5 fl_LockstepRoomModel_19_X5 hk fun x10 hk =>
g_sipush F dX5_forgets_11 sp_1741 <|
g_iald F dX5_forgets_14 hk fun x11 hk =>
g_icmp_ge F dX5_forgets_15 (tgt := 95) rfl (fun hc => have hk := hk.1 hc
G.fewer [0, 3] rfl <| hK95 l3 h hk) (fun hc => have hk := hk.2 hc
g_aload_n F dX5_forgets_18 rfl 0 rfl <|
g_iload F dX5_forgets_19 4 rfl <|
g_iconst F dX5_forgets_21 ic_0 <|
g_calli0 (g_V F dX5_forgets_22 q3292 mi_X5_fault ct_X5 (rm' := rmX5_fault) ⟨Nat.le_of_ble_eq_true rfl, Nat.le_of_ble_eq_true rfl⟩ ⟨Nat.le_refl 0, Nat.le_refl 0⟩ (As := [aI l4, aI (0:Int32)]) (rest := []) rfl rfl (Nat.le_of_ble_eq_true rfl) hk (fun a14 hk => m_X5_fault F.ok a14 l4 (0:Int32) h _ hk)) ⟨rfl, rfl⟩ fun x13 h12 hk =>
g_iload_n F dX5_forgets_25 rfl 1 rfl <|
g_icmp_ne F dX5_forgets_26 (tgt := 48) rfl (fun hc => have hk := hk.2 hc
g_iconst F dX5_forgets_48 ic_0 <|
g_istore F dX5_forgets_49 (Nat.le_of_ble_eq_true rfl) rfl <|
G.fewer [1, 2, 3, 4, 5, 0] rfl <| s_X5_forgets_l51 F 1000000 l1 l2 l3 l4 (0:Int32) h12 hk ((fun l1 l2 l3 l4 h hk => g_iinc (v := (l3 + (1:Int32))) F dX5_forgets_86 (j := 3) rfl (iinc_1 l3) (Nat.le_of_ble_eq_true rfl) rfl <|
g_iinc (v := (l4 + (1:Int32))) F dX5_forgets_89 (j := 4) rfl (iinc_1 l4) (Nat.le_of_ble_eq_true rfl) rfl <|
g_goto F dX5_forgets_92 (tgt := 5) rfl <|
G.fewer [2, 3, 4, 1, 0] rfl <| ih l1 l2 (l3 + (1:Int32)) (l4 + (1:Int32)) h hk))) (fun hc => have hk := hk.1 hc
g_iload_n F dX5_forgets_29 rfl 2 rfl <|
g_iconst F dX5_forgets_30 ic_m1 <|
g_icmp_eq F dX5_forgets_31 (tgt := 89) rfl (fun hc => have hk := hk.1 hc
g_iinc (v := (l4 + (1:Int32))) F dX5_forgets_89 (j := 4) rfl (iinc_1 l4) (Nat.le_of_ble_eq_true rfl) rfl <|
g_goto F dX5_forgets_92 (tgt := 5) rfl <|
G.fewer [1, 2, 3, 4, 0] rfl <| ih l1 l2 l3 (l4 + (1:Int32)) h12 hk) (fun hc => have hk := hk.2 hc
g_aload_n F dX5_forgets_34 rfl 0 rfl <|
g_iload F dX5_forgets_35 4 rfl <|
g_iconst F dX5_forgets_37 ic_1 <|
g_calli0 (g_V F dX5_forgets_38 q3292 mi_X5_fault ct_X5 (rm' := rmX5_fault) ⟨Nat.le_of_ble_eq_true rfl, Nat.le_of_ble_eq_true rfl⟩ ⟨Nat.le_refl 0, Nat.le_refl 0⟩ (As := [aI l4, aI (1:Int32)]) (rest := []) rfl rfl (Nat.le_of_ble_eq_true rfl) hk (fun a17 hk => m_X5_fault F.ok a17 l4 (1:Int32) h12 _ hk)) ⟨rfl, rfl⟩ fun x16 h15 hk =>
g_iload_n F dX5_forgets_41 rfl 2 rfl <|
g_icmp_ne F dX5_forgets_42 (tgt := 48) rfl (fun hc => have hk := hk.2 hc
g_iconst F dX5_forgets_48 ic_0 <|
g_istore F dX5_forgets_49 (Nat.le_of_ble_eq_true rfl) rfl <|
G.fewer [1, 2, 3, 4, 5, 0] rfl <| s_X5_forgets_l51 F 1000000 l1 l2 l3 l4 (0:Int32) h15 hk ((fun l1 l2 l3 l4 h hk => g_iinc (v := (l3 + (1:Int32))) F dX5_forgets_86 (j := 3) rfl (iinc_1 l3) (Nat.le_of_ble_eq_true rfl) rfl <|
g_iinc (v := (l4 + (1:Int32))) F dX5_forgets_89 (j := 4) rfl (iinc_1 l4) (Nat.le_of_ble_eq_true rfl) rfl <|
g_goto F dX5_forgets_92 (tgt := 5) rfl <|
G.fewer [2, 3, 4, 1, 0] rfl <| ih l1 l2 (l3 + (1:Int32)) (l4 + (1:Int32)) h hk))) (fun hc => have hk := hk.1 hc
g_goto F dX5_forgets_45 (tgt := 89) rfl <|
g_iinc (v := (l4 + (1:Int32))) F dX5_forgets_89 (j := 4) rfl (iinc_1 l4) (Nat.le_of_ble_eq_true rfl) rfl <|
g_goto F dX5_forgets_92 (tgt := 5) rfl <|
G.fewer [1, 2, 3, 4, 0] rfl <| ih l1 l2 l3 (l4 + (1:Int32)) h15 hk))))
theorem m_X5_forgets {S : Sx} (hS0 : Sok S) (v0 : Nat) (v1 : Int32) (v2 : Int32) (h : hH) (Q : hH → Prop) (hk : f_X5_forgets S.E v0 v1 v2 h Q) : Ct S yX5_forgets (ws_ yX5_forgets cX5_forgets 6 none) rmX5_forgets ([aR (some v0), aI v1, aI v2].map vv) h (qV Q) := by
  refine Ct.of hS0 (by decide +kernel) rfl (Nat.le_of_ble_eq_true rfl) fun x hxS F hnm => ?_
  subst hxS
  unfold f_X5_forgets at hk
  exact g_iconst F dX5_forgets_0 ic_0 <|
g_istore_n F dX5_forgets_1 rfl (Nat.le_of_ble_eq_true rfl) rfl <|
g_iconst F dX5_forgets_2 ic_0 <|
g_istore F dX5_forgets_3 (Nat.le_of_ble_eq_true rfl) rfl <|
G.fewer [2, 3, 4, 1, 0] rfl <| s_X5_forgets_l5 F 1000000 v1 v2 (0:Int32) (0:Int32) h hk ((fun l3 h hk => g_sipush F dX5_forgets_95 sp_1742 <|
g_iconst F dX5_forgets_98 ic_4 <|
g_iload_n F dX5_forgets_99 rfl 1 rfl <|
g_imul F dX5_forgets_100 <|
g_iadd F dX5_forgets_101 <|
g_istore F dX5_forgets_102 (Nat.le_of_ble_eq_true rfl) rfl <|
G.fewer [1, 2, 0] rfl <| s_X5_forgets_l104 F 1000000 l3 ((1742:Int32) + ((4:Int32) * l3)) h hk ((fun l3 h hk => g_aload_n F dX5_forgets_137 rfl 0 rfl <|
g_getR F dX5_forgets_138 fo_X5_5_LockstepRoomModel in_X5 fl_LockstepRoomModel_19_X5 hk fun x18 hk =>
g_sipush F dX5_forgets_141 sp_1741 <|
g_iload_n F dX5_forgets_144 rfl 1 rfl <|
g_iast F dX5_forgets_145 hk fun h19 hk =>
g_vret F dX5_forgets_146 (Nat.le_refl 0) (Nat.le_refl 0) hk))))
abbrev rmX5_executes : Room := { frames := 6, cells := 0, slots := 0, locals := 126 }
theorem s_X5_executes_l24 {x : Cx} (F : Fx x cX5_executes "LockstepRoomModel" 4 none rmX5_executes) {v0 : Nat} {Q : hH → Prop} {K51 : Int32 → Int32 → hH → Prop} (n : Nat) (l1 : Int32) (l2 : Int32) (l3 : Int32) (h : hH) (hk : f_X5_executes_l24 x.S.E v0 Q K51 n l1 l2 l3 h) (hK51 : ∀ (l1 : Int32) (l2 : Int32) (h : hH), K51 l1 l2 h → G x (xQ x rmX5_executes (qV Q)) 51 [(0, aR (some v0)), (1, aI l1), (2, aI l2)] [] h 0 0) : G x (xQ x rmX5_executes (qV Q)) 24 [(0, aR (some v0)), (1, aI l1), (2, aI l2), (3, aI l3)] [] h 0 0 := by
  induction n generalizing l1 l2 l3 h with
  | zero => exact False.elim hk
  | succ n ih =>
    unfold f_X5_executes_l24 at hk
    exact g_iload_n F dX5_executes_24 rfl 3 rfl <|
g_bipush F dX5_executes_25 bp_16 <|
g_icmp_ge F dX5_executes_27 (tgt := 51) rfl (fun hc => have hk := hk.1 hc
G.fewer [0, 1, 2] rfl <| hK51 l1 l2 h hk) (fun hc => have hk := hk.2 hc
g_aload_n F dX5_executes_30 rfl 0 rfl <|
g_iload_n F dX5_executes_31 rfl 1 rfl <|
g_bipush F dX5_executes_32 bp_7 <|
g_iload_n F dX5_executes_34 rfl 3 rfl <|
g_iadd F dX5_executes_35 <|
g_aload_n F dX5_executes_36 rfl 0 rfl <|
g_getR F dX5_executes_37 fo_X5_9_LockstepRoomModel in_X5 fl_LockstepRoomModel_28_X5 hk fun x1 hk =>
g_iload_n F dX5_executes_40 rfl 3 rfl <|
g_iald F dX5_executes_41 hk fun x2 hk =>
g_callv0 (g_V F dX5_executes_42 q3162 mi_X5_sets ct_X5 (rm' := rmX5_sets) ⟨Nat.le_of_ble_eq_true rfl, Nat.le_of_ble_eq_true rfl⟩ ⟨Nat.le_refl 0, Nat.le_refl 0⟩ (As := [aI l1, aI ((7:Int32) + l3), aI x2]) (rest := []) rfl rfl (Nat.le_of_ble_eq_true rfl) hk (fun a4 hk => m_X5_sets F.ok a4 l1 ((7:Int32) + l3) x2 h _ hk)) ⟨rfl, rfl⟩ fun h3 hk =>
g_iinc (v := (l3 + (1:Int32))) F dX5_executes_45 (j := 3) rfl (iinc_1 l3) (Nat.le_of_ble_eq_true rfl) rfl <|
g_goto F dX5_executes_48 (tgt := 24) rfl <|
G.fewer [1, 2, 3, 0] rfl <| ih l1 l2 (l3 + (1:Int32)) h3 hk)
theorem m_X5_executes {S : Sx} (hS0 : Sok S) (v0 : Nat) (v1 : Int32) (h : hH) (Q : hH → Prop) (hk : f_X5_executes S.E v0 v1 h Q) : Ct S yX5_executes (ws_ yX5_executes cX5_executes 4 none) rmX5_executes ([aR (some v0), aI v1].map vv) h (qV Q) := by
  refine Ct.of hS0 (by decide +kernel) rfl (Nat.le_of_ble_eq_true rfl) fun x hxS F hnm => ?_
  subst hxS
  unfold f_X5_executes at hk
  exact g_aload_n F dX5_executes_0 rfl 0 rfl <|
g_iload_n F dX5_executes_1 rfl 1 rfl <|
g_calli0 (g_V F dX5_executes_2 q3210 mi_X5_turnsDone ct_X5 (rm' := rmX5_turnsDone) ⟨Nat.le_of_ble_eq_true rfl, Nat.le_of_ble_eq_true rfl⟩ ⟨Nat.le_refl 0, Nat.le_refl 0⟩ (As := [aI v1]) (rest := []) rfl rfl (Nat.le_of_ble_eq_true rfl) hk (fun a7 hk => m_X5_turnsDone F.ok a7 v1 h _ hk)) ⟨rfl, rfl⟩ fun x6 h5 hk =>
g_istore_n F dX5_executes_5 rfl (Nat.le_of_ble_eq_true rfl) rfl <|
g_aload_n F dX5_executes_6 rfl 1 rfl <|
g_iload_n F dX5_executes_7 rfl 2 rfl <|
g_callv0 (g_V F dX5_executes_8 q3222 mi_X5_takesCells ct_X5 (rm' := rmX5_takesCells) ⟨Nat.le_of_ble_eq_true rfl, Nat.le_of_ble_eq_true rfl⟩ ⟨Nat.le_refl 0, Nat.le_refl 0⟩ (As := [aI v1]) (rest := []) rfl rfl (Nat.le_of_ble_eq_true rfl) hk (fun a9 hk => m_X5_takesCells F.ok a9 v1 h5 _ hk)) ⟨rfl, rfl⟩ fun h8 hk =>
g_aload_n F dX5_executes_11 rfl 1 rfl <|
g_iload_n F dX5_executes_12 rfl 0 rfl <|
g_callv0 (g_V F dX5_executes_13 q3454 mi_X5_doesTurn ct_X5 (rm' := rmX5_doesTurn) ⟨Nat.le_of_ble_eq_true rfl, Nat.le_of_ble_eq_true rfl⟩ ⟨Nat.le_refl 0, Nat.le_refl 0⟩ (As := [aI x6]) (rest := []) rfl rfl (Nat.le_of_ble_eq_true rfl) hk (fun a11 hk => m_X5_doesTurn F.ok a11 x6 h8 _ hk)) ⟨rfl, rfl⟩ fun h10 hk =>
g_aload_n F dX5_executes_16 rfl 1 rfl <|
g_iload_n F dX5_executes_17 rfl 2 rfl <|
g_iload_n F dX5_executes_18 rfl 0 rfl <|
g_callv0 (g_V F dX5_executes_19 q3470 mi_X5_errs ct_X5 (rm' := rmX5_errs) ⟨Nat.le_of_ble_eq_true rfl, Nat.le_of_ble_eq_true rfl⟩ ⟨Nat.le_refl 0, Nat.le_refl 0⟩ (As := [aI v1, aI x6]) (rest := []) rfl rfl (Nat.le_of_ble_eq_true rfl) hk (fun a13 hk => m_X5_errs F.ok a13 v1 x6 h10 _ hk)) ⟨rfl, rfl⟩ fun h12 hk =>
g_iconst F dX5_executes_22 ic_0 <|
g_istore_n F dX5_executes_23 rfl (Nat.le_of_ble_eq_true rfl) rfl <|
G.fewer [2, 3, 1, 0] rfl <| s_X5_executes_l24 F 1000000 v1 x6 (0:Int32) h12 hk ((fun l1 l2 h hk => g_aload_n F dX5_executes_51 rfl 0 rfl <|
g_iload_n F dX5_executes_52 rfl 1 rfl <|
g_iload_n F dX5_executes_53 rfl 2 rfl <|
g_callv0 (g_V F dX5_executes_54 q3513 mi_X5_forgets ct_X5 (rm' := rmX5_forgets) ⟨Nat.le_of_ble_eq_true rfl, Nat.le_of_ble_eq_true rfl⟩ ⟨Nat.le_refl 0, Nat.le_refl 0⟩ (As := [aI l1, aI l2]) (rest := []) rfl rfl (Nat.le_of_ble_eq_true rfl) hk (fun a15 hk => m_X5_forgets F.ok a15 l1 l2 h _ hk)) ⟨rfl, rfl⟩ fun h14 hk =>
g_aload_n F dX5_executes_57 rfl 0 rfl <|
g_iload_n F dX5_executes_58 rfl 1 rfl <|
g_iconst F dX5_executes_59 ic_1 <|
g_iload_n F dX5_executes_60 rfl 2 rfl <|
g_iconst F dX5_executes_61 ic_1 <|
g_iadd F dX5_executes_62 <|
g_callv0 (g_V F dX5_executes_63 q3162 mi_X5_sets ct_X5 (rm' := rmX5_sets) ⟨Nat.le_of_ble_eq_true rfl, Nat.le_of_ble_eq_true rfl⟩ ⟨Nat.le_refl 0, Nat.le_refl 0⟩ (As := [aI l1, aI (1:Int32), aI (l2 + (1:Int32))]) (rest := []) rfl rfl (Nat.le_of_ble_eq_true rfl) hk (fun a17 hk => m_X5_sets F.ok a17 l1 (1:Int32) (l2 + (1:Int32)) h14 _ hk)) ⟨rfl, rfl⟩ fun h16 hk =>
g_aload_n F dX5_executes_66 rfl 0 rfl <|
g_iload_n F dX5_executes_67 rfl 1 rfl <|
g_callv0 (g_V F dX5_executes_68 q3206 mi_X5_writesRecord ct_X5 (rm' := rmX5_writesRecord) ⟨Nat.le_of_ble_eq_true rfl, Nat.le_of_ble_eq_true rfl⟩ ⟨Nat.le_refl 0, Nat.le_refl 0⟩ (As := [aI l1]) (rest := []) rfl rfl (Nat.le_of_ble_eq_true rfl) hk (fun a19 hk => m_X5_writesRecord F.ok a19 l1 h16 _ hk)) ⟨rfl, rfl⟩ fun h18 hk =>
g_vret F dX5_executes_71 (Nat.le_refl 0) (Nat.le_refl 0) hk))
abbrev rmX5_runs : Room := { frames := 7, cells := 0, slots := 0, locals := 149 }
theorem s_X5_runs_l15 {x : Cx} (F : Fx x cX5_runs "LockstepRoomModel" 6 (some .int) rmX5_runs) {v0 : Nat} {Q : Int32 → hH → Prop} {K33 : Int32 → hH → Prop} (n : Nat) (l1 : Int32) (l4 : Int32) (l5 : Int32) (h : hH) (hk : f_X5_runs_l15 x.S.E v0 Q K33 n l1 l4 l5 h) (hK33 : ∀ (l4 : Int32) (h : hH), K33 l4 h → G x (xQ x rmX5_runs (qI Q)) 33 [(4, aI l4)] [] h 0 0) : G x (xQ x rmX5_runs (qI Q)) 15 [(0, aR (some v0)), (1, aI l1), (4, aI l4), (5, aI l5)] [] h 0 0 := by
  induction n generalizing l1 l4 l5 h with
  | zero => exact False.elim hk
  | succ n ih =>
    unfold f_X5_runs_l15 at hk
    exact g_iload F dX5_runs_15 3 rfl <|
g_iload F dX5_runs_17 2 rfl <|
g_icmp_ge F dX5_runs_19 (tgt := 33) rfl (fun hc => have hk := hk.1 hc
G.fewer [2] rfl <| hK33 l4 h hk) (fun hc => have hk := hk.2 hc
g_aload_n F dX5_runs_22 rfl 0 rfl <|
g_iload_n F dX5_runs_23 rfl 1 rfl <|
g_callv0 (g_V F dX5_runs_24 q3509 mi_X5_executes ct_X5 (rm' := rmX5_executes) ⟨Nat.le_of_ble_eq_true rfl, Nat.le_of_ble_eq_true rfl⟩ ⟨Nat.le_refl 0, Nat.le_refl 0⟩ (As := [aI l1]) (rest := []) rfl rfl (Nat.le_of_ble_eq_true rfl) hk (fun a2 hk => m_X5_executes F.ok a2 l1 h _ hk)) ⟨rfl, rfl⟩ fun h1 hk =>
g_iinc (v := (l5 + (1:Int32))) F dX5_runs_27 (j := 3) rfl (iinc_1 l5) (Nat.le_of_ble_eq_true rfl) rfl <|
g_goto F dX5_runs_30 (tgt := 15) rfl <|
G.fewer [1, 2, 3, 0] rfl <| ih l1 l4 (l5 + (1:Int32)) h1 hk)
theorem m_X5_runs {S : Sx} (hS0 : Sok S) (v0 : Nat) (v1 : Int32) (v2 : Int32) (v3 : Int32) (h : hH) (Q : Int32 → hH → Prop) (hk : f_X5_runs S.E v0 v1 v2 v3 h Q) : Ct S yX5_runs (ws_ yX5_runs cX5_runs 6 (some .int)) rmX5_runs ([aR (some v0), aI v1, aI v2, aI v3].map vv) h (qI Q) := by
  refine Ct.of hS0 (by decide +kernel) rfl (Nat.le_of_ble_eq_true rfl) fun x hxS F hnm => ?_
  subst hxS
  unfold f_X5_runs at hk
  exact g_iload_n F dX5_runs_0 rfl 2 rfl <|
g_aload_n F dX5_runs_1 rfl 0 rfl <|
g_iload_n F dX5_runs_2 rfl 1 rfl <|
g_iload_n F dX5_runs_3 rfl 3 rfl <|
g_calli0 (g_V F dX5_runs_4 q3434 mi_X5_may ct_X5 (rm' := rmX5_may) ⟨Nat.le_of_ble_eq_true rfl, Nat.le_of_ble_eq_true rfl⟩ ⟨Nat.le_refl 0, Nat.le_refl 0⟩ (As := [aI v1, aI v3]) (rest := [aI v2]) rfl rfl (Nat.le_of_ble_eq_true rfl) hk (fun a5 hk => m_X5_may F.ok a5 v1 v3 h _ hk)) ⟨rfl, rfl⟩ fun x4 h3 hk =>
g_mmin (rest := []) F dX5_runs_7 q3333 q556 q130 q557 (Nat.le_of_ble_eq_true rfl) (Nat.le_of_ble_eq_true rfl) (Nat.le_refl 0) (Nat.le_refl 0) <|
g_istore F dX5_runs_10 (Nat.le_of_ble_eq_true rfl) rfl <|
g_iconst F dX5_runs_12 ic_0 <|
g_istore F dX5_runs_13 (Nat.le_of_ble_eq_true rfl) rfl <|
G.fewer [2, 3, 1, 0] rfl <| s_X5_runs_l15 F 1000000 v1 (iMin v2 x4) (0:Int32) h3 hk ((fun l4 h hk => g_iload F dX5_runs_33 0 rfl <|
g_iret F dX5_runs_35 (Nat.le_refl 0) (Nat.le_refl 0) hk))
abbrev rmX5_run : Room := { frames := 8, cells := 0, slots := 0, locals := 174 }
theorem m_X5_run {S : Sx} (hS0 : Sok S) (v0 : Nat) (v1 : Int32) (v2 : Int32) (h : hH) (Q : Int32 → hH → Prop) (hk : f_X5_run S.E v0 v1 v2 h Q) : Ct S yX5_run (ws_ yX5_run cX5_run 3 (some .int)) rmX5_run ([aR (some v0), aI v1, aI v2].map vv) h (qI Q) := by
  refine Ct.of hS0 (by decide +kernel) rfl (Nat.le_of_ble_eq_true rfl) fun x hxS F hnm => ?_
  subst hxS
  unfold f_X5_run at hk
  exact g_aload_n F dX5_run_0 rfl 0 rfl <|
g_iconst F dX5_run_1 ic_0 <|
g_putV F dX5_run_2 fo_X5_0_LockstepRoomModel ck_X5 fl_LockstepRoomModel_47_X5 rfl (v := aI (0:Int32)) (fit_i (0:Int32)) hk fun h1 hk =>
g_aload_n F dX5_run_5 rfl 0 rfl <|
g_iload_n F dX5_run_6 rfl 1 rfl <|
g_calli0 (g_V F dX5_run_7 q3254 mi_X5_isMember ct_X5 (rm' := rmX5_isMember) ⟨Nat.le_of_ble_eq_true rfl, Nat.le_of_ble_eq_true rfl⟩ ⟨Nat.le_refl 0, Nat.le_refl 0⟩ (As := [aI v1]) (rest := []) rfl rfl (Nat.le_of_ble_eq_true rfl) hk (fun a4 hk => m_X5_isMember F.ok a4 v1 h1 _ hk)) ⟨rfl, rfl⟩ fun x3 h2 hk =>
g_if_ne F dX5_run_10 (tgt := 15) rfl (fun hc => have hk := hk.2 hc
g_iload_n F dX5_run_15 rfl 2 rfl <|
g_iconst F dX5_run_16 ic_1 <|
g_icmp_lt F dX5_run_17 (tgt := 26) rfl (fun hc => have hk := hk.1 hc
g_bipush F dX5_run_26 bp_m2 <|
g_iret F dX5_run_28 (Nat.le_refl 0) (Nat.le_refl 0) hk) (fun hc => have hk := hk.2 hc
g_iload_n F dX5_run_20 rfl 2 rfl <|
g_bipush F dX5_run_21 bp_40 <|
g_icmp_le F dX5_run_23 (tgt := 29) rfl (fun hc => have hk := hk.1 hc
g_aload_n F dX5_run_29 rfl 0 rfl <|
g_iload_n F dX5_run_30 rfl 1 rfl <|
g_calli0 (g_V F dX5_run_31 q3382 mi_X5_isActive ct_X5 (rm' := rmX5_isActive) ⟨Nat.le_of_ble_eq_true rfl, Nat.le_of_ble_eq_true rfl⟩ ⟨Nat.le_refl 0, Nat.le_refl 0⟩ (As := [aI v1]) (rest := []) rfl rfl (Nat.le_of_ble_eq_true rfl) hk (fun a7 hk => m_X5_isActive F.ok a7 v1 h2 _ hk)) ⟨rfl, rfl⟩ fun x6 h5 hk =>
g_if_ne F dX5_run_34 (tgt := 40) rfl (fun hc => have hk := hk.2 hc
g_aload_n F dX5_run_40 rfl 0 rfl <|
g_callv0 (g_V F dX5_run_41 q3493 mi_X5_keeps ct_X5 (rm' := rmX5_keeps) ⟨Nat.le_of_ble_eq_true rfl, Nat.le_of_ble_eq_true rfl⟩ ⟨Nat.le_refl 0, Nat.le_refl 0⟩ (As := []) (rest := []) rfl rfl (Nat.le_of_ble_eq_true rfl) hk (fun a9 hk => m_X5_keeps F.ok a9 h5 _ hk)) ⟨rfl, rfl⟩ fun h8 hk =>
g_aload_n F dX5_run_44 rfl 0 rfl <|
g_iload_n F dX5_run_45 rfl 1 rfl <|
g_iload_n F dX5_run_46 rfl 2 rfl <|
g_aload_n F dX5_run_47 rfl 0 rfl <|
g_iconst F dX5_run_48 ic_0 <|
g_calli0 (g_V F dX5_run_49 q3426 mi_X5_extreme ct_X5 (rm' := rmX5_extreme) ⟨Nat.le_of_ble_eq_true rfl, Nat.le_of_ble_eq_true rfl⟩ ⟨Nat.le_refl 0, Nat.le_refl 0⟩ (As := [aI (0:Int32)]) (rest := [aI v2, aI v1, aR (some v0)]) rfl rfl (Nat.le_of_ble_eq_true rfl) hk (fun a12 hk => m_X5_extreme F.ok a12 (0:Int32) h8 _ hk)) ⟨rfl, rfl⟩ fun x11 h10 hk =>
g_calli0 (g_V F dX5_run_52 q3505 mi_X5_runs ct_X5 (rm' := rmX5_runs) ⟨Nat.le_of_ble_eq_true rfl, Nat.le_of_ble_eq_true rfl⟩ ⟨Nat.le_refl 0, Nat.le_refl 0⟩ (As := [aI v1, aI v2, aI x11]) (rest := []) rfl rfl (Nat.le_of_ble_eq_true rfl) hk (fun a15 hk => m_X5_runs F.ok a15 v1 v2 x11 h10 _ hk)) ⟨rfl, rfl⟩ fun x14 h13 hk =>
g_iret F dX5_run_55 (Nat.le_refl 0) (Nat.le_refl 0) hk) (fun hc => have hk := hk.1 hc
g_bipush F dX5_run_37 bp_m4 <|
g_iret F dX5_run_39 (Nat.le_refl 0) (Nat.le_refl 0) hk)) (fun hc => have hk := hk.2 hc
g_bipush F dX5_run_26 bp_m2 <|
g_iret F dX5_run_28 (Nat.le_refl 0) (Nat.le_refl 0) hk))) (fun hc => have hk := hk.1 hc
g_iconst F dX5_run_13 ic_m1 <|
g_iret F dX5_run_14 (Nat.le_refl 0) (Nat.le_refl 0) hk)
abbrev rmX5_tick : Room := { frames := 8, cells := 0, slots := 0, locals := 174 }
theorem s_X5_tick_j52 {x : Cx} (F : Fx x cX5_tick "LockstepRoomModel" 4 (some .int) rmX5_tick) {v0 : Nat} {Q : Int32 → hH → Prop} {K19 : Int32 → Int32 → Int32 → hH → Prop} (s0 : Int32) (s1 : Int32) (l1 : Int32) (l3 : Int32) (h : hH) (hk : f_X5_tick_j52 x.S.E v0 Q K19 s0 s1 l1 l3 h) (hK19 : ∀ (l1 : Int32) (l2 : Int32) (l3 : Int32) (h : hH), K19 l1 l2 l3 h → G x (xQ x rmX5_tick (qI Q)) 19 [(0, aR (some v0)), (1, aI l1), (2, aI l2), (3, aI l3)] [] h 0 0) : G x (xQ x rmX5_tick (qI Q)) 52 [(0, aR (some v0)), (1, aI l1), (3, aI l3)] [aI s1, aI s0] h 0 0 := by
  unfold f_X5_tick_j52 at hk
  exact g_iadd F dX5_tick_52 <|
g_istore_n F dX5_tick_53 rfl (Nat.le_of_ble_eq_true rfl) rfl <|
g_iinc (v := (l3 + (1:Int32))) F dX5_tick_54 (j := 3) rfl (iinc_1 l3) (Nat.le_of_ble_eq_true rfl) rfl <|
g_goto F dX5_tick_57 (tgt := 19) rfl <|
G.fewer [2, 3, 1, 0] rfl <| hK19 l1 (s0 + s1) (l3 + (1:Int32)) h hk
theorem s_X5_tick_l19 {x : Cx} (F : Fx x cX5_tick "LockstepRoomModel" 4 (some .int) rmX5_tick) {v0 : Nat} {Q : Int32 → hH → Prop} {K60 : Int32 → hH → Prop} (n : Nat) (l1 : Int32) (l2 : Int32) (l3 : Int32) (h : hH) (hk : f_X5_tick_l19 x.S.E v0 Q K60 n l1 l2 l3 h) (hK60 : ∀ (l2 : Int32) (h : hH), K60 l2 h → G x (xQ x rmX5_tick (qI Q)) 60 [(2, aI l2)] [] h 0 0) : G x (xQ x rmX5_tick (qI Q)) 19 [(0, aR (some v0)), (1, aI l1), (2, aI l2), (3, aI l3)] [] h 0 0 := by
  induction n generalizing l1 l2 l3 h with
  | zero => exact False.elim hk
  | succ n ih =>
    unfold f_X5_tick_l19 at hk
    exact g_iload_n F dX5_tick_19 rfl 3 rfl <|
g_aload_n F dX5_tick_20 rfl 0 rfl <|
g_calli0 (g_V F dX5_tick_21 q3146 mi_X5_members ct_X5 (rm' := rmX5_members) ⟨Nat.le_of_ble_eq_true rfl, Nat.le_of_ble_eq_true rfl⟩ ⟨Nat.le_refl 0, Nat.le_refl 0⟩ (As := []) (rest := [aI l3]) rfl rfl (Nat.le_of_ble_eq_true rfl) hk (fun a3 hk => m_X5_members F.ok a3 h _ hk)) ⟨rfl, rfl⟩ fun x2 h1 hk =>
g_icmp_ge F dX5_tick_24 (tgt := 60) rfl (fun hc => have hk := hk.1 hc
G.fewer [2] rfl <| hK60 l2 h1 hk) (fun hc => have hk := hk.2 hc
g_iload_n F dX5_tick_27 rfl 2 rfl <|
g_aload_n F dX5_tick_28 rfl 0 rfl <|
g_iload_n F dX5_tick_29 rfl 3 rfl <|
g_calli0 (g_V F dX5_tick_30 q3382 mi_X5_isActive ct_X5 (rm' := rmX5_isActive) ⟨Nat.le_of_ble_eq_true rfl, Nat.le_of_ble_eq_true rfl⟩ ⟨Nat.le_refl 0, Nat.le_refl 0⟩ (As := [aI l3]) (rest := [aI l2]) rfl rfl (Nat.le_of_ble_eq_true rfl) hk (fun a6 hk => m_X5_isActive F.ok a6 l3 h1 _ hk)) ⟨rfl, rfl⟩ fun x5 h4 hk =>
g_if_eq F dX5_tick_33 (tgt := 51) rfl (fun hc => have hk := hk.1 hc
g_iconst F dX5_tick_51 ic_0 <|
G.fewer [0, 1, 3] rfl <| s_X5_tick_j52 F l2 (0:Int32) l1 l3 h4 hk ih) (fun hc => have hk := hk.2 hc
g_aload_n F dX5_tick_36 rfl 0 rfl <|
g_iload_n F dX5_tick_37 rfl 3 rfl <|
g_aload_n F dX5_tick_38 rfl 0 rfl <|
g_iload_n F dX5_tick_39 rfl 3 rfl <|
g_iconst F dX5_tick_40 ic_0 <|
g_calli0 (g_V F dX5_tick_41 q3214 mi_X5_of ct_X5 (rm' := rmX5_of) ⟨Nat.le_of_ble_eq_true rfl, Nat.le_of_ble_eq_true rfl⟩ ⟨Nat.le_refl 0, Nat.le_refl 0⟩ (As := [aI l3, aI (0:Int32)]) (rest := [aI l3, aR (some v0), aI l2]) rfl rfl (Nat.le_of_ble_eq_true rfl) hk (fun a9 hk => m_X5_of F.ok a9 l3 (0:Int32) h4 _ hk)) ⟨rfl, rfl⟩ fun x8 h7 hk =>
g_iload_n F dX5_tick_44 rfl 1 rfl <|
g_calli0 (g_V F dX5_tick_45 q3505 mi_X5_runs ct_X5 (rm' := rmX5_runs) ⟨Nat.le_of_ble_eq_true rfl, Nat.le_of_ble_eq_true rfl⟩ ⟨Nat.le_refl 0, Nat.le_refl 0⟩ (As := [aI l3, aI x8, aI l1]) (rest := [aI l2]) rfl rfl (Nat.le_of_ble_eq_true rfl) hk (fun a12 hk => m_X5_runs F.ok a12 l3 x8 l1 h7 _ hk)) ⟨rfl, rfl⟩ fun x11 h10 hk =>
g_goto F dX5_tick_48 (tgt := 52) rfl <|
G.fewer [0, 1, 3] rfl <| s_X5_tick_j52 F l2 x11 l1 l3 h10 hk ih))
theorem m_X5_tick {S : Sx} (hS0 : Sok S) (v0 : Nat) (h : hH) (Q : Int32 → hH → Prop) (hk : f_X5_tick S.E v0 h Q) : Ct S yX5_tick (ws_ yX5_tick cX5_tick 4 (some .int)) rmX5_tick ([aR (some v0)].map vv) h (qI Q) := by
  refine Ct.of hS0 (by decide +kernel) rfl (Nat.le_of_ble_eq_true rfl) fun x hxS F hnm => ?_
  subst hxS
  unfold f_X5_tick at hk
  exact g_aload_n F dX5_tick_0 rfl 0 rfl <|
g_iconst F dX5_tick_1 ic_0 <|
g_putV F dX5_tick_2 fo_X5_0_LockstepRoomModel ck_X5 fl_LockstepRoomModel_47_X5 rfl (v := aI (0:Int32)) (fit_i (0:Int32)) hk fun h13 hk =>
g_aload_n F dX5_tick_5 rfl 0 rfl <|
g_callv0 (g_V F dX5_tick_6 q3493 mi_X5_keeps ct_X5 (rm' := rmX5_keeps) ⟨Nat.le_of_ble_eq_true rfl, Nat.le_of_ble_eq_true rfl⟩ ⟨Nat.le_refl 0, Nat.le_refl 0⟩ (As := []) (rest := []) rfl rfl (Nat.le_of_ble_eq_true rfl) hk (fun a15 hk => m_X5_keeps F.ok a15 h13 _ hk)) ⟨rfl, rfl⟩ fun h14 hk =>
g_aload_n F dX5_tick_9 rfl 0 rfl <|
g_iconst F dX5_tick_10 ic_0 <|
g_calli0 (g_V F dX5_tick_11 q3426 mi_X5_extreme ct_X5 (rm' := rmX5_extreme) ⟨Nat.le_of_ble_eq_true rfl, Nat.le_of_ble_eq_true rfl⟩ ⟨Nat.le_refl 0, Nat.le_refl 0⟩ (As := [aI (0:Int32)]) (rest := []) rfl rfl (Nat.le_of_ble_eq_true rfl) hk (fun a18 hk => m_X5_extreme F.ok a18 (0:Int32) h14 _ hk)) ⟨rfl, rfl⟩ fun x17 h16 hk =>
g_istore_n F dX5_tick_14 rfl (Nat.le_of_ble_eq_true rfl) rfl <|
g_iconst F dX5_tick_15 ic_0 <|
g_istore_n F dX5_tick_16 rfl (Nat.le_of_ble_eq_true rfl) rfl <|
g_iconst F dX5_tick_17 ic_0 <|
g_istore_n F dX5_tick_18 rfl (Nat.le_of_ble_eq_true rfl) rfl <|
G.fewer [3, 2, 1, 0] rfl <| s_X5_tick_l19 F 1000000 x17 (0:Int32) (0:Int32) h16 hk ((fun l2 h hk => g_iload_n F dX5_tick_60 rfl 0 rfl <|
g_iret F dX5_tick_61 (Nat.le_refl 0) (Nat.le_refl 0) hk))
abbrev rmX5_fault_2 : Room := { frames := 4, cells := 0, slots := 0, locals := 83 }
theorem m_X5_fault_2 {S : Sx} (hS0 : Sok S) (v0 : Nat) (v1 : Int32) (v2 : Int32) (v3 : Int32) (v4 : Int32) (h : hH) (Q : Int32 → hH → Prop) (hk : f_X5_fault_2 S.E v0 v1 v2 v3 v4 h Q) : Ct S yX5_fault_2 (ws_ yX5_fault_2 cX5_fault_2 5 (some .int)) rmX5_fault_2 ([aR (some v0), aI v1, aI v2, aI v3, aI v4].map vv) h (qI Q) := by
  refine Ct.of hS0 (by decide +kernel) rfl (Nat.le_of_ble_eq_true rfl) fun x hxS F hnm => ?_
  subst hxS
  unfold f_X5_fault_2 at hk
  exact g_aload_n F dX5_fault_2_0 rfl 0 rfl <|
g_iconst F dX5_fault_2_1 ic_0 <|
g_putV F dX5_fault_2_2 fo_X5_0_LockstepRoomModel ck_X5 fl_LockstepRoomModel_47_X5 rfl (v := aI (0:Int32)) (fit_i (0:Int32)) hk fun h1 hk =>
g_aload_n F dX5_fault_2_5 rfl 0 rfl <|
g_iload_n F dX5_fault_2_6 rfl 1 rfl <|
g_calli0 (g_V F dX5_fault_2_7 q3254 mi_X5_isMember ct_X5 (rm' := rmX5_isMember) ⟨Nat.le_of_ble_eq_true rfl, Nat.le_of_ble_eq_true rfl⟩ ⟨Nat.le_refl 0, Nat.le_refl 0⟩ (As := [aI v1]) (rest := []) rfl rfl (Nat.le_of_ble_eq_true rfl) hk (fun a4 hk => m_X5_isMember F.ok a4 v1 h1 _ hk)) ⟨rfl, rfl⟩ fun x3 h2 hk =>
g_if_ne F dX5_fault_2_10 (tgt := 15) rfl (fun hc => have hk := hk.2 hc
g_iload_n F dX5_fault_2_15 rfl 2 rfl <|
g_if_lt F dX5_fault_2_16 (tgt := 46) rfl (fun hc => have hk := hk.1 hc
g_bipush F dX5_fault_2_46 bp_m2 <|
g_iret F dX5_fault_2_48 (Nat.le_refl 0) (Nat.le_refl 0) hk) (fun hc => have hk := hk.2 hc
g_iload_n F dX5_fault_2_19 rfl 2 rfl <|
g_bipush F dX5_fault_2_20 bp_40 <|
g_icmp_ge F dX5_fault_2_22 (tgt := 46) rfl (fun hc => have hk := hk.1 hc
g_bipush F dX5_fault_2_46 bp_m2 <|
g_iret F dX5_fault_2_48 (Nat.le_refl 0) (Nat.le_refl 0) hk) (fun hc => have hk := hk.2 hc
g_iload_n F dX5_fault_2_25 rfl 3 rfl <|
g_calli0 (g_S F dX5_fault_2_26 q3273 ms_X5_isCell (rm' := rmX5_isCell) ⟨Nat.le_of_ble_eq_true rfl, Nat.le_of_ble_eq_true rfl⟩ ⟨Nat.le_refl 0, Nat.le_refl 0⟩ (As := [aI v3]) (rest := []) rfl rfl (Nat.le_of_ble_eq_true rfl) (m_X5_isCell F.ok v3 h2 _ hk)) ⟨rfl, rfl⟩ fun x6 h5 hk =>
g_if_eq F dX5_fault_2_29 (tgt := 46) rfl (fun hc => have hk := hk.1 hc
g_bipush F dX5_fault_2_46 bp_m2 <|
g_iret F dX5_fault_2_48 (Nat.le_refl 0) (Nat.le_refl 0) hk) (fun hc => have hk := hk.2 hc
g_iload F dX5_fault_2_32 4 rfl <|
g_iconst F dX5_fault_2_34 ic_1 <|
g_icmp_lt F dX5_fault_2_35 (tgt := 46) rfl (fun hc => have hk := hk.1 hc
g_bipush F dX5_fault_2_46 bp_m2 <|
g_iret F dX5_fault_2_48 (Nat.le_refl 0) (Nat.le_refl 0) hk) (fun hc => have hk := hk.2 hc
g_iload F dX5_fault_2_38 4 rfl <|
g_sipush F dX5_fault_2_40 sp_10000 <|
g_icmp_lt F dX5_fault_2_43 (tgt := 49) rfl (fun hc => have hk := hk.1 hc
g_aload_n F dX5_fault_2_49 rfl 0 rfl <|
g_iload_n F dX5_fault_2_50 rfl 1 rfl <|
g_calli0 (g_V F dX5_fault_2_51 q3382 mi_X5_isActive ct_X5 (rm' := rmX5_isActive) ⟨Nat.le_of_ble_eq_true rfl, Nat.le_of_ble_eq_true rfl⟩ ⟨Nat.le_refl 0, Nat.le_refl 0⟩ (As := [aI v1]) (rest := []) rfl rfl (Nat.le_of_ble_eq_true rfl) hk (fun a9 hk => m_X5_isActive F.ok a9 v1 h5 _ hk)) ⟨rfl, rfl⟩ fun x8 h7 hk =>
g_if_eq F dX5_fault_2_54 (tgt := 66) rfl (fun hc => have hk := hk.1 hc
g_bipush F dX5_fault_2_66 bp_m4 <|
g_iret F dX5_fault_2_68 (Nat.le_refl 0) (Nat.le_refl 0) hk) (fun hc => have hk := hk.2 hc
g_aload_n F dX5_fault_2_57 rfl 0 rfl <|
g_iload_n F dX5_fault_2_58 rfl 1 rfl <|
g_calli0 (g_V F dX5_fault_2_59 q3210 mi_X5_turnsDone ct_X5 (rm' := rmX5_turnsDone) ⟨Nat.le_of_ble_eq_true rfl, Nat.le_of_ble_eq_true rfl⟩ ⟨Nat.le_refl 0, Nat.le_refl 0⟩ (As := [aI v1]) (rest := []) rfl rfl (Nat.le_of_ble_eq_true rfl) hk (fun a12 hk => m_X5_turnsDone F.ok a12 v1 h7 _ hk)) ⟨rfl, rfl⟩ fun x11 h10 hk =>
g_iload_n F dX5_fault_2_62 rfl 2 rfl <|
g_icmp_le F dX5_fault_2_63 (tgt := 69) rfl (fun hc => have hk := hk.1 hc
g_aload_n F dX5_fault_2_69 rfl 0 rfl <|
g_getR F dX5_fault_2_70 fo_X5_5_LockstepRoomModel in_X5 fl_LockstepRoomModel_19_X5 hk fun x13 hk =>
g_sipush F dX5_fault_2_73 sp_1741 <|
g_iald F dX5_fault_2_76 hk fun x14 hk =>
g_bipush F dX5_fault_2_77 bp_10 <|
g_icmp_ne F dX5_fault_2_79 (tgt := 85) rfl (fun hc => have hk := hk.2 hc
g_aload_n F dX5_fault_2_85 rfl 0 rfl <|
g_callv0 (g_V F dX5_fault_2_86 q3493 mi_X5_keeps ct_X5 (rm' := rmX5_keeps) ⟨Nat.le_of_ble_eq_true rfl, Nat.le_of_ble_eq_true rfl⟩ ⟨Nat.le_refl 0, Nat.le_refl 0⟩ (As := []) (rest := []) rfl rfl (Nat.le_of_ble_eq_true rfl) hk (fun a16 hk => m_X5_keeps F.ok a16 h10 _ hk)) ⟨rfl, rfl⟩ fun h15 hk =>
g_aload_n F dX5_fault_2_89 rfl 0 rfl <|
g_iload_n F dX5_fault_2_90 rfl 1 rfl <|
g_iload_n F dX5_fault_2_91 rfl 2 rfl <|
g_iload_n F dX5_fault_2_92 rfl 3 rfl <|
g_iload F dX5_fault_2_93 4 rfl <|
g_callv0 (g_V F dX5_fault_2_95 q3191 mi_X5_faults ct_X5 (rm' := rmX5_faults) ⟨Nat.le_of_ble_eq_true rfl, Nat.le_of_ble_eq_true rfl⟩ ⟨Nat.le_refl 0, Nat.le_refl 0⟩ (As := [aI v1, aI v2, aI v3, aI v4]) (rest := []) rfl rfl (Nat.le_of_ble_eq_true rfl) hk (fun a18 hk => m_X5_faults F.ok a18 v1 v2 v3 v4 h15 _ hk)) ⟨rfl, rfl⟩ fun h17 hk =>
g_aload_n F dX5_fault_2_98 rfl 0 rfl <|
g_getR F dX5_fault_2_99 fo_X5_5_LockstepRoomModel in_X5 fl_LockstepRoomModel_19_X5 hk fun x19 hk =>
g_sipush F dX5_fault_2_102 sp_1741 <|
g_iald F dX5_fault_2_105 hk fun x20 hk =>
g_iret F dX5_fault_2_106 (Nat.le_refl 0) (Nat.le_refl 0) hk) (fun hc => have hk := hk.1 hc
g_bipush F dX5_fault_2_82 bp_m3 <|
g_iret F dX5_fault_2_84 (Nat.le_refl 0) (Nat.le_refl 0) hk)) (fun hc => have hk := hk.2 hc
g_bipush F dX5_fault_2_66 bp_m4 <|
g_iret F dX5_fault_2_68 (Nat.le_refl 0) (Nat.le_refl 0) hk))) (fun hc => have hk := hk.2 hc
g_bipush F dX5_fault_2_46 bp_m2 <|
g_iret F dX5_fault_2_48 (Nat.le_refl 0) (Nat.le_refl 0) hk)))))) (fun hc => have hk := hk.1 hc
g_iconst F dX5_fault_2_13 ic_m1 <|
g_iret F dX5_fault_2_14 (Nat.le_refl 0) (Nat.le_refl 0) hk)
abbrev rmX5_bits : Room := { frames := 2, cells := 0, slots := 0, locals := 40 }
theorem s_X5_bits_l4 {x : Cx} (F : Fx x cX5_bits "LockstepRoomModel" 3 (some .int) rmX5_bits) {Q : Int32 → hH → Prop} {K20 : Int32 → hH → Prop} (n : Nat) (l1 : Int32) (l2 : Int32) (h : hH) (hk : f_X5_bits_l4 x.S.E Q K20 n l1 l2 h) (hK20 : ∀ (l1 : Int32) (h : hH), K20 l1 h → G x (xQ x rmX5_bits (qI Q)) 20 [(1, aI l1)] [] h 0 0) : G x (xQ x rmX5_bits (qI Q)) 4 [(1, aI l1), (2, aI l2)] [] h 0 0 := by
  induction n generalizing l1 l2 h with
  | zero => exact False.elim hk
  | succ n ih =>
    unfold f_X5_bits_l4 at hk
    exact g_iload_n F dX5_bits_4 rfl 1 rfl <|
g_if_eq F dX5_bits_5 (tgt := 20) rfl (fun hc => have hk := hk.1 hc
G.fewer [0] rfl <| hK20 l1 h hk) (fun hc => have hk := hk.2 hc
g_iinc (v := (l1 + (1:Int32))) F dX5_bits_8 (j := 0) rfl (iinc_1 l1) (Nat.le_of_ble_eq_true rfl) rfl <|
g_iload_n F dX5_bits_11 rfl 1 rfl <|
g_iload_n F dX5_bits_12 rfl 1 rfl <|
g_iconst F dX5_bits_13 ic_1 <|
g_isub F dX5_bits_14 <|
g_iand F dX5_bits_15 <|
g_istore_n F dX5_bits_16 rfl (Nat.le_of_ble_eq_true rfl) rfl <|
g_goto F dX5_bits_17 (tgt := 4) rfl <|
G.fewer [1, 0] rfl <| ih (l1 + (1:Int32)) (l2 &&& (l2 - (1:Int32))) h hk)
theorem m_X5_bits {S : Sx} (hS0 : Sok S) (v0 : Int32) (h : hH) (Q : Int32 → hH → Prop) (hk : f_X5_bits S.E v0 h Q) : Ct S yX5_bits (ws_ yX5_bits cX5_bits 3 (some .int)) rmX5_bits ([aI v0].map vv) h (qI Q) := by
  refine Ct.of hS0 (by decide +kernel) rfl (Nat.le_of_ble_eq_true rfl) fun x hxS F hnm => ?_
  subst hxS
  unfold f_X5_bits at hk
  exact g_iconst F dX5_bits_0 ic_0 <|
g_istore_n F dX5_bits_1 rfl (Nat.le_of_ble_eq_true rfl) rfl <|
g_iload_n F dX5_bits_2 rfl 1 rfl <|
g_istore_n F dX5_bits_3 rfl (Nat.le_of_ble_eq_true rfl) rfl <|
G.fewer [1, 0] rfl <| s_X5_bits_l4 F 1000000 (0:Int32) v0 h hk ((fun l1 h hk => g_iload_n F dX5_bits_20 rfl 0 rfl <|
g_iret F dX5_bits_21 (Nat.le_refl 0) (Nat.le_refl 0) hk))
abbrev rmX5_heals : Room := { frames := 10, cells := 0, slots := 0, locals := 209 }
theorem s_X5_heals_l28 {x : Cx} (F : Fx x cX5_heals "LockstepRoomModel" 5 (some .int) rmX5_heals) {v0 : Nat} {Q : Int32 → hH → Prop} {K74 : Int32 → Int32 → Int32 → hH → Prop} (n : Nat) (l1 : Int32) (l2 : Int32) (l3 : Int32) (l4 : Int32) (h : hH) (hk : f_X5_heals_l28 x.S.E v0 Q K74 n l1 l2 l3 l4 h) (hK74 : ∀ (l1 : Int32) (l2 : Int32) (l3 : Int32) (h : hH), K74 l1 l2 l3 h → G x (xQ x rmX5_heals (qI Q)) 74 [(0, aR (some v0)), (1, aI l1), (2, aI l2), (3, aI l3)] [] h 0 0) : G x (xQ x rmX5_heals (qI Q)) 28 [(0, aR (some v0)), (1, aI l1), (2, aI l2), (3, aI l3), (4, aI l4)] [] h 0 0 := by
  induction n generalizing l1 l2 l3 l4 h with
  | zero => exact False.elim hk
  | succ n ih =>
    unfold f_X5_heals_l28 at hk
    exact g_iload F dX5_heals_28 4 rfl <|
g_bipush F dX5_heals_30 bp_16 <|
g_icmp_ge F dX5_heals_32 (tgt := 74) rfl (fun hc => have hk := hk.1 hc
G.fewer [0, 1, 2, 3] rfl <| hK74 l1 l2 l3 h hk) (fun hc => have hk := hk.2 hc
g_aload_n F dX5_heals_35 rfl 0 rfl <|
g_getI F dX5_heals_36 fo_X5_12_LockstepRoomModel in_X5 fl_LockstepRoomModel_82_X5 hk fun x1 hk =>
g_iload F dX5_heals_39 4 rfl <|
g_ishr F dX5_heals_41 <|
g_iconst F dX5_heals_42 ic_1 <|
g_iand F dX5_heals_43 <|
g_iconst F dX5_heals_44 ic_1 <|
g_icmp_ne F dX5_heals_45 (tgt := 68) rfl (fun hc => have hk := hk.2 hc
g_iinc (v := (l4 + (1:Int32))) F dX5_heals_68 (j := 4) rfl (iinc_1 l4) (Nat.le_of_ble_eq_true rfl) rfl <|
g_goto F dX5_heals_71 (tgt := 28) rfl <|
G.fewer [1, 2, 3, 4, 0] rfl <| ih l1 l2 l3 (l4 + (1:Int32)) h hk) (fun hc => have hk := hk.1 hc
g_aload_n F dX5_heals_48 rfl 0 rfl <|
g_iload_n F dX5_heals_49 rfl 1 rfl <|
g_bipush F dX5_heals_50 bp_7 <|
g_iload F dX5_heals_52 4 rfl <|
g_iadd F dX5_heals_54 <|
g_aload_n F dX5_heals_55 rfl 0 rfl <|
g_iload_n F dX5_heals_56 rfl 2 rfl <|
g_bipush F dX5_heals_57 bp_7 <|
g_iload F dX5_heals_59 4 rfl <|
g_iadd F dX5_heals_61 <|
g_calli0 (g_V F dX5_heals_62 q3214 mi_X5_of ct_X5 (rm' := rmX5_of) ⟨Nat.le_of_ble_eq_true rfl, Nat.le_of_ble_eq_true rfl⟩ ⟨Nat.le_refl 0, Nat.le_refl 0⟩ (As := [aI l2, aI ((7:Int32) + l4)]) (rest := [aI ((7:Int32) + l4), aI l1, aR (some v0)]) rfl rfl (Nat.le_of_ble_eq_true rfl) hk (fun a4 hk => m_X5_of F.ok a4 l2 ((7:Int32) + l4) h _ hk)) ⟨rfl, rfl⟩ fun x3 h2 hk =>
g_callv0 (g_V F dX5_heals_65 q3162 mi_X5_sets ct_X5 (rm' := rmX5_sets) ⟨Nat.le_of_ble_eq_true rfl, Nat.le_of_ble_eq_true rfl⟩ ⟨Nat.le_refl 0, Nat.le_refl 0⟩ (As := [aI l1, aI ((7:Int32) + l4), aI x3]) (rest := []) rfl rfl (Nat.le_of_ble_eq_true rfl) hk (fun a6 hk => m_X5_sets F.ok a6 l1 ((7:Int32) + l4) x3 h2 _ hk)) ⟨rfl, rfl⟩ fun h5 hk =>
g_iinc (v := (l4 + (1:Int32))) F dX5_heals_68 (j := 4) rfl (iinc_1 l4) (Nat.le_of_ble_eq_true rfl) rfl <|
g_goto F dX5_heals_71 (tgt := 28) rfl <|
G.fewer [1, 2, 3, 4, 0] rfl <| ih l1 l2 l3 (l4 + (1:Int32)) h5 hk))
theorem m_X5_heals {S : Sx} (hS0 : Sok S) (v0 : Nat) (v1 : Int32) (h : hH) (Q : Int32 → hH → Prop) (hk : f_X5_heals S.E v0 v1 h Q) : Ct S yX5_heals (ws_ yX5_heals cX5_heals 5 (some .int)) rmX5_heals ([aR (some v0), aI v1].map vv) h (qI Q) := by
  refine Ct.of hS0 (by decide +kernel) rfl (Nat.le_of_ble_eq_true rfl) fun x hxS F hnm => ?_
  subst hxS
  unfold f_X5_heals at hk
  exact g_aload_n F dX5_heals_0 rfl 0 rfl <|
g_aload_n F dX5_heals_1 rfl 0 rfl <|
g_iload_n F dX5_heals_2 rfl 1 rfl <|
g_calli0 (g_V F dX5_heals_3 q3210 mi_X5_turnsDone ct_X5 (rm' := rmX5_turnsDone) ⟨Nat.le_of_ble_eq_true rfl, Nat.le_of_ble_eq_true rfl⟩ ⟨Nat.le_refl 0, Nat.le_refl 0⟩ (As := [aI v1]) (rest := [aR (some v0)]) rfl rfl (Nat.le_of_ble_eq_true rfl) hk (fun a9 hk => m_X5_turnsDone F.ok a9 v1 h _ hk)) ⟨rfl, rfl⟩ fun x8 h7 hk =>
g_iload_n F dX5_heals_6 rfl 1 rfl <|
g_calli0 (g_V F dX5_heals_7 q3410 mi_X5_giver ct_X5 (rm' := rmX5_giver) ⟨Nat.le_of_ble_eq_true rfl, Nat.le_of_ble_eq_true rfl⟩ ⟨Nat.le_refl 0, Nat.le_refl 0⟩ (As := [aI x8, aI v1]) (rest := []) rfl rfl (Nat.le_of_ble_eq_true rfl) hk (fun a12 hk => m_X5_giver F.ok a12 x8 v1 h7 _ hk)) ⟨rfl, rfl⟩ fun x11 h10 hk =>
g_istore_n F dX5_heals_10 rfl (Nat.le_of_ble_eq_true rfl) rfl <|
g_aload_n F dX5_heals_11 rfl 1 rfl <|
g_iload_n F dX5_heals_12 rfl 2 rfl <|
g_iload_n F dX5_heals_13 rfl 0 rfl <|
g_callv0 (g_V F dX5_heals_14 q3354 mi_X5_compares ct_X5 (rm' := rmX5_compares) ⟨Nat.le_of_ble_eq_true rfl, Nat.le_of_ble_eq_true rfl⟩ ⟨Nat.le_refl 0, Nat.le_refl 0⟩ (As := [aI v1, aI x11]) (rest := []) rfl rfl (Nat.le_of_ble_eq_true rfl) hk (fun a14 hk => m_X5_compares F.ok a14 v1 x11 h10 _ hk)) ⟨rfl, rfl⟩ fun h13 hk =>
g_aload_n F dX5_heals_17 rfl 1 rfl <|
g_getI F dX5_heals_18 fo_X5_12_LockstepRoomModel in_X5 fl_LockstepRoomModel_82_X5 hk fun x15 hk =>
g_calli0 (g_S F dX5_heals_21 q3533 ms_X5_bits (rm' := rmX5_bits) ⟨Nat.le_of_ble_eq_true rfl, Nat.le_of_ble_eq_true rfl⟩ ⟨Nat.le_refl 0, Nat.le_refl 0⟩ (As := [aI x15]) (rest := []) rfl rfl (Nat.le_of_ble_eq_true rfl) (m_X5_bits F.ok x15 h13 _ hk)) ⟨rfl, rfl⟩ fun x17 h16 hk =>
g_istore_n F dX5_heals_24 rfl (Nat.le_of_ble_eq_true rfl) rfl <|
g_iconst F dX5_heals_25 ic_0 <|
g_istore F dX5_heals_26 (Nat.le_of_ble_eq_true rfl) rfl <|
G.fewer [3, 4, 2, 1, 0] rfl <| s_X5_heals_l28 F 1000000 v1 x11 x17 (0:Int32) h16 hk ((fun l1 l2 l3 h hk => g_aload_n F dX5_heals_74 rfl 0 rfl <|
g_iload_n F dX5_heals_75 rfl 2 rfl <|
g_iconst F dX5_heals_76 ic_3 <|
g_aload_n F dX5_heals_77 rfl 0 rfl <|
g_iload_n F dX5_heals_78 rfl 2 rfl <|
g_iconst F dX5_heals_79 ic_3 <|
g_calli0 (g_V F dX5_heals_80 q3214 mi_X5_of ct_X5 (rm' := rmX5_of) ⟨Nat.le_of_ble_eq_true rfl, Nat.le_of_ble_eq_true rfl⟩ ⟨Nat.le_refl 0, Nat.le_refl 0⟩ (As := [aI l2, aI (3:Int32)]) (rest := [aI (3:Int32), aI l2, aR (some v0)]) rfl rfl (Nat.le_of_ble_eq_true rfl) hk (fun a20 hk => m_X5_of F.ok a20 l2 (3:Int32) h _ hk)) ⟨rfl, rfl⟩ fun x19 h18 hk =>
g_iload_n F dX5_heals_83 rfl 3 rfl <|
g_iadd F dX5_heals_84 <|
g_callv0 (g_V F dX5_heals_85 q3162 mi_X5_sets ct_X5 (rm' := rmX5_sets) ⟨Nat.le_of_ble_eq_true rfl, Nat.le_of_ble_eq_true rfl⟩ ⟨Nat.le_refl 0, Nat.le_refl 0⟩ (As := [aI l2, aI (3:Int32), aI (x19 + l3)]) (rest := []) rfl rfl (Nat.le_of_ble_eq_true rfl) hk (fun a22 hk => m_X5_sets F.ok a22 l2 (3:Int32) (x19 + l3) h18 _ hk)) ⟨rfl, rfl⟩ fun h21 hk =>
g_aload_n F dX5_heals_88 rfl 0 rfl <|
g_iload_n F dX5_heals_89 rfl 1 rfl <|
g_iconst F dX5_heals_90 ic_4 <|
g_aload_n F dX5_heals_91 rfl 0 rfl <|
g_iload_n F dX5_heals_92 rfl 1 rfl <|
g_iconst F dX5_heals_93 ic_4 <|
g_calli0 (g_V F dX5_heals_94 q3214 mi_X5_of ct_X5 (rm' := rmX5_of) ⟨Nat.le_of_ble_eq_true rfl, Nat.le_of_ble_eq_true rfl⟩ ⟨Nat.le_refl 0, Nat.le_refl 0⟩ (As := [aI l1, aI (4:Int32)]) (rest := [aI (4:Int32), aI l1, aR (some v0)]) rfl rfl (Nat.le_of_ble_eq_true rfl) hk (fun a25 hk => m_X5_of F.ok a25 l1 (4:Int32) h21 _ hk)) ⟨rfl, rfl⟩ fun x24 h23 hk =>
g_iload_n F dX5_heals_97 rfl 3 rfl <|
g_iadd F dX5_heals_98 <|
g_callv0 (g_V F dX5_heals_99 q3162 mi_X5_sets ct_X5 (rm' := rmX5_sets) ⟨Nat.le_of_ble_eq_true rfl, Nat.le_of_ble_eq_true rfl⟩ ⟨Nat.le_refl 0, Nat.le_refl 0⟩ (As := [aI l1, aI (4:Int32), aI (x24 + l3)]) (rest := []) rfl rfl (Nat.le_of_ble_eq_true rfl) hk (fun a27 hk => m_X5_sets F.ok a27 l1 (4:Int32) (x24 + l3) h23 _ hk)) ⟨rfl, rfl⟩ fun h26 hk =>
g_aload_n F dX5_heals_102 rfl 0 rfl <|
g_iload_n F dX5_heals_103 rfl 1 rfl <|
g_iconst F dX5_heals_104 ic_5 <|
g_aload_n F dX5_heals_105 rfl 0 rfl <|
g_iload_n F dX5_heals_106 rfl 1 rfl <|
g_iconst F dX5_heals_107 ic_5 <|
g_calli0 (g_V F dX5_heals_108 q3214 mi_X5_of ct_X5 (rm' := rmX5_of) ⟨Nat.le_of_ble_eq_true rfl, Nat.le_of_ble_eq_true rfl⟩ ⟨Nat.le_refl 0, Nat.le_refl 0⟩ (As := [aI l1, aI (5:Int32)]) (rest := [aI (5:Int32), aI l1, aR (some v0)]) rfl rfl (Nat.le_of_ble_eq_true rfl) hk (fun a30 hk => m_X5_of F.ok a30 l1 (5:Int32) h26 _ hk)) ⟨rfl, rfl⟩ fun x29 h28 hk =>
g_iconst F dX5_heals_111 ic_1 <|
g_iadd F dX5_heals_112 <|
g_callv0 (g_V F dX5_heals_113 q3162 mi_X5_sets ct_X5 (rm' := rmX5_sets) ⟨Nat.le_of_ble_eq_true rfl, Nat.le_of_ble_eq_true rfl⟩ ⟨Nat.le_refl 0, Nat.le_refl 0⟩ (As := [aI l1, aI (5:Int32), aI (x29 + (1:Int32))]) (rest := []) rfl rfl (Nat.le_of_ble_eq_true rfl) hk (fun a32 hk => m_X5_sets F.ok a32 l1 (5:Int32) (x29 + (1:Int32)) h28 _ hk)) ⟨rfl, rfl⟩ fun h31 hk =>
g_aload_n F dX5_heals_116 rfl 0 rfl <|
g_iload_n F dX5_heals_117 rfl 1 rfl <|
g_bipush F dX5_heals_118 bp_23 <|
g_aload_n F dX5_heals_120 rfl 0 rfl <|
g_iload_n F dX5_heals_121 rfl 1 rfl <|
g_calli0 (g_V F dX5_heals_122 q3210 mi_X5_turnsDone ct_X5 (rm' := rmX5_turnsDone) ⟨Nat.le_of_ble_eq_true rfl, Nat.le_of_ble_eq_true rfl⟩ ⟨Nat.le_refl 0, Nat.le_refl 0⟩ (As := [aI l1]) (rest := [aI (23:Int32), aI l1, aR (some v0)]) rfl rfl (Nat.le_of_ble_eq_true rfl) hk (fun a35 hk => m_X5_turnsDone F.ok a35 l1 h31 _ hk)) ⟨rfl, rfl⟩ fun x34 h33 hk =>
g_iadd F dX5_heals_125 <|
g_aload_n F dX5_heals_126 rfl 0 rfl <|
g_iload_n F dX5_heals_127 rfl 2 rfl <|
g_aload_n F dX5_heals_128 rfl 0 rfl <|
g_iload_n F dX5_heals_129 rfl 1 rfl <|
g_calli0 (g_V F dX5_heals_130 q3210 mi_X5_turnsDone ct_X5 (rm' := rmX5_turnsDone) ⟨Nat.le_of_ble_eq_true rfl, Nat.le_of_ble_eq_true rfl⟩ ⟨Nat.le_refl 0, Nat.le_refl 0⟩ (As := [aI l1]) (rest := [aI l2, aR (some v0), aI ((23:Int32) + x34), aI l1, aR (some v0)]) rfl rfl (Nat.le_of_ble_eq_true rfl) hk (fun a38 hk => m_X5_turnsDone F.ok a38 l1 h33 _ hk)) ⟨rfl, rfl⟩ fun x37 h36 hk =>
g_calli0 (g_V F dX5_heals_133 q3308 mi_X5_record ct_X5 (rm' := rmX5_record) ⟨Nat.le_of_ble_eq_true rfl, Nat.le_of_ble_eq_true rfl⟩ ⟨Nat.le_refl 0, Nat.le_refl 0⟩ (As := [aI l2, aI x37]) (rest := [aI ((23:Int32) + x34), aI l1, aR (some v0)]) rfl rfl (Nat.le_of_ble_eq_true rfl) hk (fun a41 hk => m_X5_record F.ok a41 l2 x37 h36 _ hk)) ⟨rfl, rfl⟩ fun x40 h39 hk =>
g_callv0 (g_V F dX5_heals_136 q3162 mi_X5_sets ct_X5 (rm' := rmX5_sets) ⟨Nat.le_of_ble_eq_true rfl, Nat.le_of_ble_eq_true rfl⟩ ⟨Nat.le_refl 0, Nat.le_refl 0⟩ (As := [aI l1, aI ((23:Int32) + x34), aI x40]) (rest := []) rfl rfl (Nat.le_of_ble_eq_true rfl) hk (fun a43 hk => m_X5_sets F.ok a43 l1 ((23:Int32) + x34) x40 h39 _ hk)) ⟨rfl, rfl⟩ fun h42 hk =>
g_iload_n F dX5_heals_139 rfl 3 rfl <|
g_iret F dX5_heals_140 (Nat.le_refl 0) (Nat.le_refl 0) hk))
abbrev rmX5_heal : Room := { frames := 11, cells := 0, slots := 0, locals := 233 }
theorem m_X5_heal {S : Sx} (hS0 : Sok S) (v0 : Nat) (v1 : Int32) (h : hH) (Q : Int32 → hH → Prop) (hk : f_X5_heal S.E v0 v1 h Q) : Ct S yX5_heal (ws_ yX5_heal cX5_heal 2 (some .int)) rmX5_heal ([aR (some v0), aI v1].map vv) h (qI Q) := by
  refine Ct.of hS0 (by decide +kernel) rfl (Nat.le_of_ble_eq_true rfl) fun x hxS F hnm => ?_
  subst hxS
  unfold f_X5_heal at hk
  exact g_aload_n F dX5_heal_0 rfl 0 rfl <|
g_iconst F dX5_heal_1 ic_0 <|
g_putV F dX5_heal_2 fo_X5_0_LockstepRoomModel ck_X5 fl_LockstepRoomModel_47_X5 rfl (v := aI (0:Int32)) (fit_i (0:Int32)) hk fun h1 hk =>
g_aload_n F dX5_heal_5 rfl 0 rfl <|
g_iload_n F dX5_heal_6 rfl 1 rfl <|
g_calli0 (g_V F dX5_heal_7 q3254 mi_X5_isMember ct_X5 (rm' := rmX5_isMember) ⟨Nat.le_of_ble_eq_true rfl, Nat.le_of_ble_eq_true rfl⟩ ⟨Nat.le_refl 0, Nat.le_refl 0⟩ (As := [aI v1]) (rest := []) rfl rfl (Nat.le_of_ble_eq_true rfl) hk (fun a4 hk => m_X5_isMember F.ok a4 v1 h1 _ hk)) ⟨rfl, rfl⟩ fun x3 h2 hk =>
g_if_ne F dX5_heal_10 (tgt := 15) rfl (fun hc => have hk := hk.2 hc
g_aload_n F dX5_heal_15 rfl 0 rfl <|
g_iload_n F dX5_heal_16 rfl 1 rfl <|
g_calli0 (g_V F dX5_heal_17 q3418 mi_X5_stops ct_X5 (rm' := rmX5_stops) ⟨Nat.le_of_ble_eq_true rfl, Nat.le_of_ble_eq_true rfl⟩ ⟨Nat.le_refl 0, Nat.le_refl 0⟩ (As := [aI v1]) (rest := []) rfl rfl (Nat.le_of_ble_eq_true rfl) hk (fun a7 hk => m_X5_stops F.ok a7 v1 h2 _ hk)) ⟨rfl, rfl⟩ fun x6 h5 hk =>
g_if_eq F dX5_heal_20 (tgt := 26) rfl (fun hc => have hk := hk.1 hc
g_aload_n F dX5_heal_26 rfl 0 rfl <|
g_callv0 (g_V F dX5_heal_27 q3493 mi_X5_keeps ct_X5 (rm' := rmX5_keeps) ⟨Nat.le_of_ble_eq_true rfl, Nat.le_of_ble_eq_true rfl⟩ ⟨Nat.le_refl 0, Nat.le_refl 0⟩ (As := []) (rest := []) rfl rfl (Nat.le_of_ble_eq_true rfl) hk (fun a9 hk => m_X5_keeps F.ok a9 h5 _ hk)) ⟨rfl, rfl⟩ fun h8 hk =>
g_aload_n F dX5_heal_30 rfl 0 rfl <|
g_iload_n F dX5_heal_31 rfl 1 rfl <|
g_calli0 (g_V F dX5_heal_32 q3529 mi_X5_heals ct_X5 (rm' := rmX5_heals) ⟨Nat.le_of_ble_eq_true rfl, Nat.le_of_ble_eq_true rfl⟩ ⟨Nat.le_refl 0, Nat.le_refl 0⟩ (As := [aI v1]) (rest := []) rfl rfl (Nat.le_of_ble_eq_true rfl) hk (fun a12 hk => m_X5_heals F.ok a12 v1 h8 _ hk)) ⟨rfl, rfl⟩ fun x11 h10 hk =>
g_iret F dX5_heal_35 (Nat.le_refl 0) (Nat.le_refl 0) hk) (fun hc => have hk := hk.2 hc
g_bipush F dX5_heal_23 bp_m4 <|
g_iret F dX5_heal_25 (Nat.le_refl 0) (Nat.le_refl 0) hk)) (fun hc => have hk := hk.1 hc
g_iconst F dX5_heal_13 ic_m1 <|
g_iret F dX5_heal_14 (Nat.le_refl 0) (Nat.le_refl 0) hk)
abbrev rmX5_healAll : Room := { frames := 11, cells := 0, slots := 0, locals := 233 }
theorem s_X5_healAll_j36 {x : Cx} (F : Fx x cX5_healAll "LockstepRoomModel" 4 (some .int) rmX5_healAll) {v0 : Nat} {Q : Int32 → hH → Prop} {K9 : Int32 → Int32 → hH → Prop} (l1 : Int32) (l2 : Int32) (h : hH) (hk : f_X5_healAll_j36 x.S.E v0 Q K9 l1 l2 h) (hK9 : ∀ (l1 : Int32) (l2 : Int32) (h : hH), K9 l1 l2 h → G x (xQ x rmX5_healAll (qI Q)) 9 [(0, aR (some v0)), (1, aI l1), (2, aI l2)] [] h 0 0) : G x (xQ x rmX5_healAll (qI Q)) 36 [(0, aR (some v0)), (1, aI l1), (2, aI l2)] [] h 0 0 := by
  unfold f_X5_healAll_j36 at hk
  exact g_aload_n F dX5_healAll_36 rfl 0 rfl <|
g_iload_n F dX5_healAll_37 rfl 2 rfl <|
g_calli0 (g_V F dX5_healAll_38 q3529 mi_X5_heals ct_X5 (rm' := rmX5_heals) ⟨Nat.le_of_ble_eq_true rfl, Nat.le_of_ble_eq_true rfl⟩ ⟨Nat.le_refl 0, Nat.le_refl 0⟩ (As := [aI l2]) (rest := []) rfl rfl (Nat.le_of_ble_eq_true rfl) hk (fun a3 hk => m_X5_heals F.ok a3 l2 h _ hk)) ⟨rfl, rfl⟩ fun x2 h1 hk =>
g_istore_n F dX5_healAll_41 rfl (Nat.le_of_ble_eq_true rfl) rfl <|
g_iinc (v := (l1 + (1:Int32))) F dX5_healAll_42 (j := 2) rfl (iinc_1 l1) (Nat.le_of_ble_eq_true rfl) rfl <|
g_iinc (v := (l2 + (1:Int32))) F dX5_healAll_45 (j := 3) rfl (iinc_1 l2) (Nat.le_of_ble_eq_true rfl) rfl <|
g_goto F dX5_healAll_48 (tgt := 9) rfl <|
G.fewer [3, 1, 0] rfl <| hK9 (l1 + (1:Int32)) (l2 + (1:Int32)) h1 hk
theorem s_X5_healAll_l9 {x : Cx} (F : Fx x cX5_healAll "LockstepRoomModel" 4 (some .int) rmX5_healAll) {v0 : Nat} {Q : Int32 → hH → Prop} {K51 : Int32 → hH → Prop} (n : Nat) (l1 : Int32) (l2 : Int32) (h : hH) (hk : f_X5_healAll_l9 x.S.E v0 Q K51 n l1 l2 h) (hK51 : ∀ (l1 : Int32) (h : hH), K51 l1 h → G x (xQ x rmX5_healAll (qI Q)) 51 [(1, aI l1)] [] h 0 0) : G x (xQ x rmX5_healAll (qI Q)) 9 [(0, aR (some v0)), (1, aI l1), (2, aI l2)] [] h 0 0 := by
  induction n generalizing l1 l2 h with
  | zero => exact False.elim hk
  | succ n ih =>
    unfold f_X5_healAll_l9 at hk
    exact g_iload_n F dX5_healAll_9 rfl 2 rfl <|
g_aload_n F dX5_healAll_10 rfl 0 rfl <|
g_calli0 (g_V F dX5_healAll_11 q3146 mi_X5_members ct_X5 (rm' := rmX5_members) ⟨Nat.le_of_ble_eq_true rfl, Nat.le_of_ble_eq_true rfl⟩ ⟨Nat.le_refl 0, Nat.le_refl 0⟩ (As := []) (rest := [aI l2]) rfl rfl (Nat.le_of_ble_eq_true rfl) hk (fun a6 hk => m_X5_members F.ok a6 h _ hk)) ⟨rfl, rfl⟩ fun x5 h4 hk =>
g_icmp_ge F dX5_healAll_14 (tgt := 51) rfl (fun hc => have hk := hk.1 hc
G.fewer [1] rfl <| hK51 l1 h4 hk) (fun hc => have hk := hk.2 hc
g_aload_n F dX5_healAll_17 rfl 0 rfl <|
g_iload_n F dX5_healAll_18 rfl 2 rfl <|
g_calli0 (g_V F dX5_healAll_19 q3418 mi_X5_stops ct_X5 (rm' := rmX5_stops) ⟨Nat.le_of_ble_eq_true rfl, Nat.le_of_ble_eq_true rfl⟩ ⟨Nat.le_refl 0, Nat.le_refl 0⟩ (As := [aI l2]) (rest := []) rfl rfl (Nat.le_of_ble_eq_true rfl) hk (fun a9 hk => m_X5_stops F.ok a9 l2 h4 _ hk)) ⟨rfl, rfl⟩ fun x8 h7 hk =>
g_if_eq F dX5_healAll_22 (tgt := 28) rfl (fun hc => have hk := hk.1 hc
g_iload_n F dX5_healAll_28 rfl 1 rfl <|
g_if_ne F dX5_healAll_29 (tgt := 36) rfl (fun hc => have hk := hk.2 hc
s_X5_healAll_j36 F l1 l2 h7 hk ih) (fun hc => have hk := hk.1 hc
g_aload_n F dX5_healAll_32 rfl 0 rfl <|
g_callv0 (g_V F dX5_healAll_33 q3493 mi_X5_keeps ct_X5 (rm' := rmX5_keeps) ⟨Nat.le_of_ble_eq_true rfl, Nat.le_of_ble_eq_true rfl⟩ ⟨Nat.le_refl 0, Nat.le_refl 0⟩ (As := []) (rest := []) rfl rfl (Nat.le_of_ble_eq_true rfl) hk (fun a11 hk => m_X5_keeps F.ok a11 h7 _ hk)) ⟨rfl, rfl⟩ fun h10 hk =>
s_X5_healAll_j36 F l1 l2 h10 hk ih)) (fun hc => have hk := hk.2 hc
g_goto F dX5_healAll_25 (tgt := 45) rfl <|
g_iinc (v := (l2 + (1:Int32))) F dX5_healAll_45 (j := 2) rfl (iinc_1 l2) (Nat.le_of_ble_eq_true rfl) rfl <|
g_goto F dX5_healAll_48 (tgt := 9) rfl <|
G.fewer [1, 2, 0] rfl <| ih l1 (l2 + (1:Int32)) h7 hk))
theorem m_X5_healAll {S : Sx} (hS0 : Sok S) (v0 : Nat) (h : hH) (Q : Int32 → hH → Prop) (hk : f_X5_healAll S.E v0 h Q) : Ct S yX5_healAll (ws_ yX5_healAll cX5_healAll 4 (some .int)) rmX5_healAll ([aR (some v0)].map vv) h (qI Q) := by
  refine Ct.of hS0 (by decide +kernel) rfl (Nat.le_of_ble_eq_true rfl) fun x hxS F hnm => ?_
  subst hxS
  unfold f_X5_healAll at hk
  exact g_aload_n F dX5_healAll_0 rfl 0 rfl <|
g_iconst F dX5_healAll_1 ic_0 <|
g_putV F dX5_healAll_2 fo_X5_0_LockstepRoomModel ck_X5 fl_LockstepRoomModel_47_X5 rfl (v := aI (0:Int32)) (fit_i (0:Int32)) hk fun h12 hk =>
g_iconst F dX5_healAll_5 ic_0 <|
g_istore_n F dX5_healAll_6 rfl (Nat.le_of_ble_eq_true rfl) rfl <|
g_iconst F dX5_healAll_7 ic_0 <|
g_istore_n F dX5_healAll_8 rfl (Nat.le_of_ble_eq_true rfl) rfl <|
G.fewer [2, 1, 0] rfl <| s_X5_healAll_l9 F 1000000 (0:Int32) (0:Int32) h12 hk ((fun l1 h hk => g_iload_n F dX5_healAll_51 rfl 0 rfl <|
g_if_ne F dX5_healAll_52 (tgt := 59) rfl (fun hc => have hk := hk.2 hc
g_iload_n F dX5_healAll_59 rfl 0 rfl <|
g_iret F dX5_healAll_60 (Nat.le_refl 0) (Nat.le_refl 0) hk) (fun hc => have hk := hk.1 hc
g_iconst F dX5_healAll_55 ic_m1 <|
g_goto F dX5_healAll_56 (tgt := 60) rfl <|
g_iret F dX5_healAll_60 (Nat.le_refl 0) (Nat.le_refl 0) hk)))
abbrev rmX5_join : Room := { frames := 8, cells := 0, slots := 0, locals := 179 }
theorem s_X5_join_l79 {x : Cx} (F : Fx x cX5_join "LockstepRoomModel" 6 (some .int) rmX5_join) {v0 : Nat} {Q : Int32 → hH → Prop} {K113 : Int32 → Int32 → hH → Prop} (n : Nat) (l3 : Int32) (l4 : Int32) (l5 : Int32) (h : hH) (hk : f_X5_join_l79 x.S.E v0 Q K113 n l3 l4 l5 h) (hK113 : ∀ (l3 : Int32) (l4 : Int32) (h : hH), K113 l3 l4 h → G x (xQ x rmX5_join (qI Q)) 113 [(0, aR (some v0)), (3, aI l3), (4, aI l4)] [] h 0 0) : G x (xQ x rmX5_join (qI Q)) 79 [(0, aR (some v0)), (3, aI l3), (4, aI l4), (5, aI l5)] [] h 0 0 := by
  induction n generalizing l3 l4 l5 h with
  | zero => exact False.elim hk
  | succ n ih =>
    unfold f_X5_join_l79 at hk
    exact g_iload F dX5_join_79 3 rfl <|
g_bipush F dX5_join_81 bp_16 <|
g_icmp_ge F dX5_join_83 (tgt := 113) rfl (fun hc => have hk := hk.1 hc
G.fewer [0, 1, 2] rfl <| hK113 l3 l4 h hk) (fun hc => have hk := hk.2 hc
g_aload_n F dX5_join_86 rfl 0 rfl <|
g_iload F dX5_join_87 2 rfl <|
g_bipush F dX5_join_89 bp_7 <|
g_iload F dX5_join_91 3 rfl <|
g_iadd F dX5_join_93 <|
g_aload_n F dX5_join_94 rfl 0 rfl <|
g_iload_n F dX5_join_95 rfl 1 rfl <|
g_bipush F dX5_join_96 bp_7 <|
g_iload F dX5_join_98 3 rfl <|
g_iadd F dX5_join_100 <|
g_calli0 (g_V F dX5_join_101 q3214 mi_X5_of ct_X5 (rm' := rmX5_of) ⟨Nat.le_of_ble_eq_true rfl, Nat.le_of_ble_eq_true rfl⟩ ⟨Nat.le_refl 0, Nat.le_refl 0⟩ (As := [aI l3, aI ((7:Int32) + l5)]) (rest := [aI ((7:Int32) + l5), aI l4, aR (some v0)]) rfl rfl (Nat.le_of_ble_eq_true rfl) hk (fun a3 hk => m_X5_of F.ok a3 l3 ((7:Int32) + l5) h _ hk)) ⟨rfl, rfl⟩ fun x2 h1 hk =>
g_callv0 (g_V F dX5_join_104 q3162 mi_X5_sets ct_X5 (rm' := rmX5_sets) ⟨Nat.le_of_ble_eq_true rfl, Nat.le_of_ble_eq_true rfl⟩ ⟨Nat.le_refl 0, Nat.le_refl 0⟩ (As := [aI l4, aI ((7:Int32) + l5), aI x2]) (rest := []) rfl rfl (Nat.le_of_ble_eq_true rfl) hk (fun a5 hk => m_X5_sets F.ok a5 l4 ((7:Int32) + l5) x2 h1 _ hk)) ⟨rfl, rfl⟩ fun h4 hk =>
g_iinc (v := (l5 + (1:Int32))) F dX5_join_107 (j := 3) rfl (iinc_1 l5) (Nat.le_of_ble_eq_true rfl) rfl <|
g_goto F dX5_join_110 (tgt := 79) rfl <|
G.fewer [1, 2, 3, 0] rfl <| ih l3 l4 (l5 + (1:Int32)) h4 hk)
theorem s_X5_join_j51 {x : Cx} (F : Fx x cX5_join "LockstepRoomModel" 6 (some .int) rmX5_join) {v0 : Nat} {Q : Int32 → hH → Prop} (s0 : Int32) (l1 : Int32) (l2 : Int32) (h : hH) (hk : f_X5_join_j51 x.S.E v0 Q s0 l1 l2 h) : G x (xQ x rmX5_join (qI Q)) 51 [(0, aR (some v0)), (1, aI l1), (2, aI l2)] [aI s0] h 0 0 := by
  unfold f_X5_join_j51 at hk
  exact g_istore_n F dX5_join_51 rfl (Nat.le_of_ble_eq_true rfl) rfl <|
g_iload_n F dX5_join_52 rfl 0 rfl <|
g_iconst F dX5_join_53 ic_m1 <|
g_icmp_ne F dX5_join_54 (tgt := 60) rfl (fun hc => have hk := hk.2 hc
g_aload_n F dX5_join_60 rfl 1 rfl <|
g_callv0 (g_V F dX5_join_61 q3493 mi_X5_keeps ct_X5 (rm' := rmX5_keeps) ⟨Nat.le_of_ble_eq_true rfl, Nat.le_of_ble_eq_true rfl⟩ ⟨Nat.le_refl 0, Nat.le_refl 0⟩ (As := []) (rest := []) rfl rfl (Nat.le_of_ble_eq_true rfl) hk (fun a7 hk => m_X5_keeps F.ok a7 h _ hk)) ⟨rfl, rfl⟩ fun h6 hk =>
g_aload_n F dX5_join_64 rfl 1 rfl <|
g_calli0 (g_V F dX5_join_65 q3146 mi_X5_members ct_X5 (rm' := rmX5_members) ⟨Nat.le_of_ble_eq_true rfl, Nat.le_of_ble_eq_true rfl⟩ ⟨Nat.le_refl 0, Nat.le_refl 0⟩ (As := []) (rest := []) rfl rfl (Nat.le_of_ble_eq_true rfl) hk (fun a10 hk => m_X5_members F.ok a10 h6 _ hk)) ⟨rfl, rfl⟩ fun x9 h8 hk =>
g_istore F dX5_join_68 (Nat.le_of_ble_eq_true rfl) rfl <|
g_aload_n F dX5_join_70 rfl 2 rfl <|
g_iload_n F dX5_join_71 rfl 3 rfl <|
g_iload_n F dX5_join_72 rfl 4 rfl <|
g_callv0 (g_V F dX5_join_73 q3158 mi_X5_comes ct_X5 (rm' := rmX5_comes) ⟨Nat.le_of_ble_eq_true rfl, Nat.le_of_ble_eq_true rfl⟩ ⟨Nat.le_refl 0, Nat.le_refl 0⟩ (As := [aI l1, aI l2]) (rest := []) rfl rfl (Nat.le_of_ble_eq_true rfl) hk (fun a12 hk => m_X5_comes F.ok a12 l1 l2 h8 _ hk)) ⟨rfl, rfl⟩ fun h11 hk =>
g_iconst F dX5_join_76 ic_0 <|
g_istore F dX5_join_77 (Nat.le_of_ble_eq_true rfl) rfl <|
G.fewer [3, 2, 1, 0] rfl <| s_X5_join_l79 F 1000000 s0 x9 (0:Int32) h11 hk ((fun l3 l4 h hk => g_aload_n F dX5_join_113 rfl 0 rfl <|
g_iload_n F dX5_join_114 rfl 1 rfl <|
g_iconst F dX5_join_115 ic_3 <|
g_aload_n F dX5_join_116 rfl 0 rfl <|
g_iload_n F dX5_join_117 rfl 1 rfl <|
g_iconst F dX5_join_118 ic_3 <|
g_calli0 (g_V F dX5_join_119 q3214 mi_X5_of ct_X5 (rm' := rmX5_of) ⟨Nat.le_of_ble_eq_true rfl, Nat.le_of_ble_eq_true rfl⟩ ⟨Nat.le_refl 0, Nat.le_refl 0⟩ (As := [aI l3, aI (3:Int32)]) (rest := [aI (3:Int32), aI l3, aR (some v0)]) rfl rfl (Nat.le_of_ble_eq_true rfl) hk (fun a15 hk => m_X5_of F.ok a15 l3 (3:Int32) h _ hk)) ⟨rfl, rfl⟩ fun x14 h13 hk =>
g_bipush F dX5_join_122 bp_16 <|
g_iadd F dX5_join_124 <|
g_callv0 (g_V F dX5_join_125 q3162 mi_X5_sets ct_X5 (rm' := rmX5_sets) ⟨Nat.le_of_ble_eq_true rfl, Nat.le_of_ble_eq_true rfl⟩ ⟨Nat.le_refl 0, Nat.le_refl 0⟩ (As := [aI l3, aI (3:Int32), aI (x14 + (16:Int32))]) (rest := []) rfl rfl (Nat.le_of_ble_eq_true rfl) hk (fun a17 hk => m_X5_sets F.ok a17 l3 (3:Int32) (x14 + (16:Int32)) h13 _ hk)) ⟨rfl, rfl⟩ fun h16 hk =>
g_aload_n F dX5_join_128 rfl 0 rfl <|
g_iload F dX5_join_129 2 rfl <|
g_iconst F dX5_join_131 ic_4 <|
g_bipush F dX5_join_132 bp_16 <|
g_callv0 (g_V F dX5_join_134 q3162 mi_X5_sets ct_X5 (rm' := rmX5_sets) ⟨Nat.le_of_ble_eq_true rfl, Nat.le_of_ble_eq_true rfl⟩ ⟨Nat.le_refl 0, Nat.le_refl 0⟩ (As := [aI l4, aI (4:Int32), aI (16:Int32)]) (rest := []) rfl rfl (Nat.le_of_ble_eq_true rfl) hk (fun a19 hk => m_X5_sets F.ok a19 l4 (4:Int32) (16:Int32) h16 _ hk)) ⟨rfl, rfl⟩ fun h18 hk =>
g_aload_n F dX5_join_137 rfl 0 rfl <|
g_iload F dX5_join_138 2 rfl <|
g_callv0 (g_V F dX5_join_140 q3206 mi_X5_writesRecord ct_X5 (rm' := rmX5_writesRecord) ⟨Nat.le_of_ble_eq_true rfl, Nat.le_of_ble_eq_true rfl⟩ ⟨Nat.le_refl 0, Nat.le_refl 0⟩ (As := [aI l4]) (rest := []) rfl rfl (Nat.le_of_ble_eq_true rfl) hk (fun a21 hk => m_X5_writesRecord F.ok a21 l4 h18 _ hk)) ⟨rfl, rfl⟩ fun h20 hk =>
g_iload F dX5_join_143 2 rfl <|
g_iret F dX5_join_145 (Nat.le_refl 0) (Nat.le_refl 0) hk))) (fun hc => have hk := hk.1 hc
g_bipush F dX5_join_57 bp_m4 <|
g_iret F dX5_join_59 (Nat.le_refl 0) (Nat.le_refl 0) hk)
theorem m_X5_join {S : Sx} (hS0 : Sok S) (v0 : Nat) (v1 : Int32) (h : hH) (Q : Int32 → hH → Prop) (hk : f_X5_join S.E v0 v1 h Q) : Ct S yX5_join (ws_ yX5_join cX5_join 6 (some .int)) rmX5_join ([aR (some v0), aI v1].map vv) h (qI Q) := by
  refine Ct.of hS0 (by decide +kernel) rfl (Nat.le_of_ble_eq_true rfl) fun x hxS F hnm => ?_
  subst hxS
  unfold f_X5_join at hk
  exact g_aload_n F dX5_join_0 rfl 0 rfl <|
g_iconst F dX5_join_1 ic_0 <|
g_putV F dX5_join_2 fo_X5_0_LockstepRoomModel ck_X5 fl_LockstepRoomModel_47_X5 rfl (v := aI (0:Int32)) (fit_i (0:Int32)) hk fun h22 hk =>
g_iload_n F dX5_join_5 rfl 1 rfl <|
g_iconst F dX5_join_6 ic_1 <|
g_icmp_lt F dX5_join_7 (tgt := 15) rfl (fun hc => have hk := hk.1 hc
g_bipush F dX5_join_15 bp_m2 <|
g_iret F dX5_join_17 (Nat.le_refl 0) (Nat.le_refl 0) hk) (fun hc => have hk := hk.2 hc
g_iload_n F dX5_join_10 rfl 1 rfl <|
g_iconst F dX5_join_11 ic_4 <|
g_icmp_le F dX5_join_12 (tgt := 18) rfl (fun hc => have hk := hk.1 hc
g_aload_n F dX5_join_18 rfl 0 rfl <|
g_calli0 (g_V F dX5_join_19 q3146 mi_X5_members ct_X5 (rm' := rmX5_members) ⟨Nat.le_of_ble_eq_true rfl, Nat.le_of_ble_eq_true rfl⟩ ⟨Nat.le_refl 0, Nat.le_refl 0⟩ (As := []) (rest := []) rfl rfl (Nat.le_of_ble_eq_true rfl) hk (fun a25 hk => m_X5_members F.ok a25 h22 _ hk)) ⟨rfl, rfl⟩ fun x24 h23 hk =>
g_bipush F dX5_join_22 bp_6 <|
g_icmp_ne F dX5_join_24 (tgt := 30) rfl (fun hc => have hk := hk.2 hc
g_aload_n F dX5_join_30 rfl 0 rfl <|
g_iconst F dX5_join_31 ic_0 <|
g_calli0 (g_V F dX5_join_32 q3426 mi_X5_extreme ct_X5 (rm' := rmX5_extreme) ⟨Nat.le_of_ble_eq_true rfl, Nat.le_of_ble_eq_true rfl⟩ ⟨Nat.le_refl 0, Nat.le_refl 0⟩ (As := [aI (0:Int32)]) (rest := []) rfl rfl (Nat.le_of_ble_eq_true rfl) hk (fun a28 hk => m_X5_extreme F.ok a28 (0:Int32) h23 _ hk)) ⟨rfl, rfl⟩ fun x27 h26 hk =>
g_istore_n F dX5_join_35 rfl (Nat.le_of_ble_eq_true rfl) rfl <|
g_iload_n F dX5_join_36 rfl 0 rfl <|
g_iconst F dX5_join_37 ic_m1 <|
g_icmp_ne F dX5_join_38 (tgt := 45) rfl (fun hc => have hk := hk.2 hc
g_aload_n F dX5_join_45 rfl 1 rfl <|
g_iload_n F dX5_join_46 rfl 0 rfl <|
g_iconst F dX5_join_47 ic_m1 <|
g_calli0 (g_V F dX5_join_48 q3410 mi_X5_giver ct_X5 (rm' := rmX5_giver) ⟨Nat.le_of_ble_eq_true rfl, Nat.le_of_ble_eq_true rfl⟩ ⟨Nat.le_refl 0, Nat.le_refl 0⟩ (As := [aI x27, aI (-1:Int32)]) (rest := []) rfl rfl (Nat.le_of_ble_eq_true rfl) hk (fun a31 hk => m_X5_giver F.ok a31 x27 (-1:Int32) h26 _ hk)) ⟨rfl, rfl⟩ fun x30 h29 hk =>
G.fewer [1, 2, 0] rfl <| s_X5_join_j51 F x30 v1 x27 h29 hk ) (fun hc => have hk := hk.1 hc
g_iconst F dX5_join_41 ic_m1 <|
g_goto F dX5_join_42 (tgt := 51) rfl <|
G.fewer [1, 2, 0] rfl <| s_X5_join_j51 F (-1:Int32) v1 x27 h26 hk )) (fun hc => have hk := hk.1 hc
g_bipush F dX5_join_27 bp_m3 <|
g_iret F dX5_join_29 (Nat.le_refl 0) (Nat.le_refl 0) hk)) (fun hc => have hk := hk.2 hc
g_bipush F dX5_join_15 bp_m2 <|
g_iret F dX5_join_17 (Nat.le_refl 0) (Nat.le_refl 0) hk))
abbrev rmX5_leave : Room := { frames := 4, cells := 0, slots := 0, locals := 87 }
theorem s_X5_leave_j69 {x : Cx} (F : Fx x cX5_leave "LockstepRoomModel" 4 (some .int) rmX5_leave) {v0 : Nat} {Q : Int32 → hH → Prop} {K47 : Int32 → Int32 → hH → Prop} (s0 : Int32) (s1 : Int32) (l3 : Int32) (h : hH) (hk : f_X5_leave_j69 x.S.E v0 Q K47 s0 s1 l3 h) (hK47 : ∀ (l2 : Int32) (l3 : Int32) (h : hH), K47 l2 l3 h → G x (xQ x rmX5_leave (qI Q)) 47 [(0, aR (some v0)), (2, aI l2), (3, aI l3)] [] h 0 0) : G x (xQ x rmX5_leave (qI Q)) 69 [(0, aR (some v0)), (3, aI l3)] [aI s1, aI s0] h 0 0 := by
  unfold f_X5_leave_j69 at hk
  exact g_iadd F dX5_leave_69 <|
g_istore_n F dX5_leave_70 rfl (Nat.le_of_ble_eq_true rfl) rfl <|
g_iinc (v := (l3 + (1:Int32))) F dX5_leave_71 (j := 2) rfl (iinc_1 l3) (Nat.le_of_ble_eq_true rfl) rfl <|
g_goto F dX5_leave_74 (tgt := 47) rfl <|
G.fewer [2, 1, 0] rfl <| hK47 (s0 + s1) (l3 + (1:Int32)) h hk
theorem s_X5_leave_l47 {x : Cx} (F : Fx x cX5_leave "LockstepRoomModel" 4 (some .int) rmX5_leave) {v0 : Nat} {Q : Int32 → hH → Prop} {K77 : Int32 → hH → Prop} (n : Nat) (l2 : Int32) (l3 : Int32) (h : hH) (hk : f_X5_leave_l47 x.S.E v0 Q K77 n l2 l3 h) (hK77 : ∀ (l2 : Int32) (h : hH), K77 l2 h → G x (xQ x rmX5_leave (qI Q)) 77 [(2, aI l2)] [] h 0 0) : G x (xQ x rmX5_leave (qI Q)) 47 [(0, aR (some v0)), (2, aI l2), (3, aI l3)] [] h 0 0 := by
  induction n generalizing l2 l3 h with
  | zero => exact False.elim hk
  | succ n ih =>
    unfold f_X5_leave_l47 at hk
    exact g_iload_n F dX5_leave_47 rfl 2 rfl <|
g_aload_n F dX5_leave_48 rfl 0 rfl <|
g_calli0 (g_V F dX5_leave_49 q3146 mi_X5_members ct_X5 (rm' := rmX5_members) ⟨Nat.le_of_ble_eq_true rfl, Nat.le_of_ble_eq_true rfl⟩ ⟨Nat.le_refl 0, Nat.le_refl 0⟩ (As := []) (rest := [aI l3]) rfl rfl (Nat.le_of_ble_eq_true rfl) hk (fun a3 hk => m_X5_members F.ok a3 h _ hk)) ⟨rfl, rfl⟩ fun x2 h1 hk =>
g_icmp_ge F dX5_leave_52 (tgt := 77) rfl (fun hc => have hk := hk.1 hc
G.fewer [1] rfl <| hK77 l2 h1 hk) (fun hc => have hk := hk.2 hc
g_iload_n F dX5_leave_55 rfl 1 rfl <|
g_aload_n F dX5_leave_56 rfl 0 rfl <|
g_iload_n F dX5_leave_57 rfl 2 rfl <|
g_calli0 (g_V F dX5_leave_58 q3382 mi_X5_isActive ct_X5 (rm' := rmX5_isActive) ⟨Nat.le_of_ble_eq_true rfl, Nat.le_of_ble_eq_true rfl⟩ ⟨Nat.le_refl 0, Nat.le_refl 0⟩ (As := [aI l3]) (rest := [aI l2]) rfl rfl (Nat.le_of_ble_eq_true rfl) hk (fun a6 hk => m_X5_isActive F.ok a6 l3 h1 _ hk)) ⟨rfl, rfl⟩ fun x5 h4 hk =>
g_if_eq F dX5_leave_61 (tgt := 68) rfl (fun hc => have hk := hk.1 hc
g_iconst F dX5_leave_68 ic_0 <|
G.fewer [0, 2] rfl <| s_X5_leave_j69 F l2 (0:Int32) l3 h4 hk ih) (fun hc => have hk := hk.2 hc
g_iconst F dX5_leave_64 ic_1 <|
g_goto F dX5_leave_65 (tgt := 69) rfl <|
G.fewer [0, 2] rfl <| s_X5_leave_j69 F l2 (1:Int32) l3 h4 hk ih))
theorem m_X5_leave {S : Sx} (hS0 : Sok S) (v0 : Nat) (v1 : Int32) (h : hH) (Q : Int32 → hH → Prop) (hk : f_X5_leave S.E v0 v1 h Q) : Ct S yX5_leave (ws_ yX5_leave cX5_leave 4 (some .int)) rmX5_leave ([aR (some v0), aI v1].map vv) h (qI Q) := by
  refine Ct.of hS0 (by decide +kernel) rfl (Nat.le_of_ble_eq_true rfl) fun x hxS F hnm => ?_
  subst hxS
  unfold f_X5_leave at hk
  exact g_aload_n F dX5_leave_0 rfl 0 rfl <|
g_iconst F dX5_leave_1 ic_0 <|
g_putV F dX5_leave_2 fo_X5_0_LockstepRoomModel ck_X5 fl_LockstepRoomModel_47_X5 rfl (v := aI (0:Int32)) (fit_i (0:Int32)) hk fun h7 hk =>
g_aload_n F dX5_leave_5 rfl 0 rfl <|
g_iload_n F dX5_leave_6 rfl 1 rfl <|
g_calli0 (g_V F dX5_leave_7 q3254 mi_X5_isMember ct_X5 (rm' := rmX5_isMember) ⟨Nat.le_of_ble_eq_true rfl, Nat.le_of_ble_eq_true rfl⟩ ⟨Nat.le_refl 0, Nat.le_refl 0⟩ (As := [aI v1]) (rest := []) rfl rfl (Nat.le_of_ble_eq_true rfl) hk (fun a10 hk => m_X5_isMember F.ok a10 v1 h7 _ hk)) ⟨rfl, rfl⟩ fun x9 h8 hk =>
g_if_ne F dX5_leave_10 (tgt := 15) rfl (fun hc => have hk := hk.2 hc
g_aload_n F dX5_leave_15 rfl 0 rfl <|
g_iload_n F dX5_leave_16 rfl 1 rfl <|
g_calli0 (g_V F dX5_leave_17 q3382 mi_X5_isActive ct_X5 (rm' := rmX5_isActive) ⟨Nat.le_of_ble_eq_true rfl, Nat.le_of_ble_eq_true rfl⟩ ⟨Nat.le_refl 0, Nat.le_refl 0⟩ (As := [aI v1]) (rest := []) rfl rfl (Nat.le_of_ble_eq_true rfl) hk (fun a13 hk => m_X5_isActive F.ok a13 v1 h8 _ hk)) ⟨rfl, rfl⟩ fun x12 h11 hk =>
g_if_ne F dX5_leave_20 (tgt := 26) rfl (fun hc => have hk := hk.2 hc
g_aload_n F dX5_leave_26 rfl 0 rfl <|
g_callv0 (g_V F dX5_leave_27 q3493 mi_X5_keeps ct_X5 (rm' := rmX5_keeps) ⟨Nat.le_of_ble_eq_true rfl, Nat.le_of_ble_eq_true rfl⟩ ⟨Nat.le_refl 0, Nat.le_refl 0⟩ (As := []) (rest := []) rfl rfl (Nat.le_of_ble_eq_true rfl) hk (fun a15 hk => m_X5_keeps F.ok a15 h11 _ hk)) ⟨rfl, rfl⟩ fun h14 hk =>
g_aload_n F dX5_leave_30 rfl 0 rfl <|
g_iload_n F dX5_leave_31 rfl 1 rfl <|
g_iconst F dX5_leave_32 ic_2 <|
g_iconst F dX5_leave_33 ic_0 <|
g_callv0 (g_V F dX5_leave_34 q3162 mi_X5_sets ct_X5 (rm' := rmX5_sets) ⟨Nat.le_of_ble_eq_true rfl, Nat.le_of_ble_eq_true rfl⟩ ⟨Nat.le_refl 0, Nat.le_refl 0⟩ (As := [aI v1, aI (2:Int32), aI (0:Int32)]) (rest := []) rfl rfl (Nat.le_of_ble_eq_true rfl) hk (fun a17 hk => m_X5_sets F.ok a17 v1 (2:Int32) (0:Int32) h14 _ hk)) ⟨rfl, rfl⟩ fun h16 hk =>
g_aload_n F dX5_leave_37 rfl 0 rfl <|
g_iload_n F dX5_leave_38 rfl 1 rfl <|
g_iconst F dX5_leave_39 ic_m1 <|
g_callv0 (g_V F dX5_leave_40 q3513 mi_X5_forgets ct_X5 (rm' := rmX5_forgets) ⟨Nat.le_of_ble_eq_true rfl, Nat.le_of_ble_eq_true rfl⟩ ⟨Nat.le_refl 0, Nat.le_refl 0⟩ (As := [aI v1, aI (-1:Int32)]) (rest := []) rfl rfl (Nat.le_of_ble_eq_true rfl) hk (fun a19 hk => m_X5_forgets F.ok a19 v1 (-1:Int32) h16 _ hk)) ⟨rfl, rfl⟩ fun h18 hk =>
g_iconst F dX5_leave_43 ic_0 <|
g_istore_n F dX5_leave_44 rfl (Nat.le_of_ble_eq_true rfl) rfl <|
g_iconst F dX5_leave_45 ic_0 <|
g_istore_n F dX5_leave_46 rfl (Nat.le_of_ble_eq_true rfl) rfl <|
G.fewer [2, 1, 0] rfl <| s_X5_leave_l47 F 1000000 (0:Int32) (0:Int32) h18 hk ((fun l2 h hk => g_iload_n F dX5_leave_77 rfl 0 rfl <|
g_iret F dX5_leave_78 (Nat.le_refl 0) (Nat.le_refl 0) hk))) (fun hc => have hk := hk.1 hc
g_bipush F dX5_leave_23 bp_m4 <|
g_iret F dX5_leave_25 (Nat.le_refl 0) (Nat.le_refl 0) hk)) (fun hc => have hk := hk.1 hc
g_iconst F dX5_leave_13 ic_m1 <|
g_iret F dX5_leave_14 (Nat.le_refl 0) (Nat.le_refl 0) hk)
abbrev rmX5_setSetting : Room := { frames := 3, cells := 0, slots := 0, locals := 61 }
theorem m_X5_setSetting {S : Sx} (hS0 : Sok S) (v0 : Nat) (v1 : Int32) (v2 : Int32) (h : hH) (Q : Int32 → hH → Prop) (hk : f_X5_setSetting S.E v0 v1 v2 h Q) : Ct S yX5_setSetting (ws_ yX5_setSetting cX5_setSetting 4 (some .int)) rmX5_setSetting ([aR (some v0), aI v1, aI v2].map vv) h (qI Q) := by
  refine Ct.of hS0 (by decide +kernel) rfl (Nat.le_of_ble_eq_true rfl) fun x hxS F hnm => ?_
  subst hxS
  unfold f_X5_setSetting at hk
  exact g_aload_n F dX5_setSetting_0 rfl 0 rfl <|
g_iconst F dX5_setSetting_1 ic_0 <|
g_putV F dX5_setSetting_2 fo_X5_0_LockstepRoomModel ck_X5 fl_LockstepRoomModel_47_X5 rfl (v := aI (0:Int32)) (fit_i (0:Int32)) hk fun h1 hk =>
g_iload_n F dX5_setSetting_5 rfl 1 rfl <|
g_calli0 (g_S F dX5_setSetting_6 q3266 ms_X5_isSetting (rm' := rmX5_isSetting) ⟨Nat.le_of_ble_eq_true rfl, Nat.le_of_ble_eq_true rfl⟩ ⟨Nat.le_refl 0, Nat.le_refl 0⟩ (As := [aI v1]) (rest := []) rfl rfl (Nat.le_of_ble_eq_true rfl) (m_X5_isSetting F.ok v1 h1 _ hk)) ⟨rfl, rfl⟩ fun x3 h2 hk =>
g_if_eq F dX5_setSetting_9 (tgt := 28) rfl (fun hc => have hk := hk.1 hc
g_bipush F dX5_setSetting_28 bp_m2 <|
g_iret F dX5_setSetting_30 (Nat.le_refl 0) (Nat.le_refl 0) hk) (fun hc => have hk := hk.2 hc
g_iload_n F dX5_setSetting_12 rfl 2 rfl <|
g_iload_n F dX5_setSetting_13 rfl 1 rfl <|
g_calli0 (g_S F dX5_setSetting_14 q3200 ms_X5_low (rm' := rmX5_low) ⟨Nat.le_of_ble_eq_true rfl, Nat.le_of_ble_eq_true rfl⟩ ⟨Nat.le_refl 0, Nat.le_refl 0⟩ (As := [aI v1]) (rest := [aI v2]) rfl rfl (Nat.le_of_ble_eq_true rfl) (m_X5_low F.ok v1 h2 _ hk)) ⟨rfl, rfl⟩ fun x5 h4 hk =>
g_icmp_lt F dX5_setSetting_17 (tgt := 28) rfl (fun hc => have hk := hk.1 hc
g_bipush F dX5_setSetting_28 bp_m2 <|
g_iret F dX5_setSetting_30 (Nat.le_refl 0) (Nat.le_refl 0) hk) (fun hc => have hk := hk.2 hc
g_iload_n F dX5_setSetting_20 rfl 2 rfl <|
g_iload_n F dX5_setSetting_21 rfl 1 rfl <|
g_calli0 (g_S F dX5_setSetting_22 q3203 ms_X5_top (rm' := rmX5_top) ⟨Nat.le_of_ble_eq_true rfl, Nat.le_of_ble_eq_true rfl⟩ ⟨Nat.le_refl 0, Nat.le_refl 0⟩ (As := [aI v1]) (rest := [aI v2]) rfl rfl (Nat.le_of_ble_eq_true rfl) (m_X5_top F.ok v1 h4 _ hk)) ⟨rfl, rfl⟩ fun x7 h6 hk =>
g_icmp_le F dX5_setSetting_25 (tgt := 31) rfl (fun hc => have hk := hk.1 hc
g_aload_n F dX5_setSetting_31 rfl 0 rfl <|
g_callv0 (g_V F dX5_setSetting_32 q3493 mi_X5_keeps ct_X5 (rm' := rmX5_keeps) ⟨Nat.le_of_ble_eq_true rfl, Nat.le_of_ble_eq_true rfl⟩ ⟨Nat.le_refl 0, Nat.le_refl 0⟩ (As := []) (rest := []) rfl rfl (Nat.le_of_ble_eq_true rfl) hk (fun a9 hk => m_X5_keeps F.ok a9 h6 _ hk)) ⟨rfl, rfl⟩ fun h8 hk =>
g_aload_n F dX5_setSetting_35 rfl 0 rfl <|
g_getR F dX5_setSetting_36 fo_X5_5_LockstepRoomModel in_X5 fl_LockstepRoomModel_19_X5 hk fun x10 hk =>
g_iconst F dX5_setSetting_39 ic_0 <|
g_iload_n F dX5_setSetting_40 rfl 1 rfl <|
g_iadd F dX5_setSetting_41 <|
g_iald F dX5_setSetting_42 hk fun x11 hk =>
g_istore_n F dX5_setSetting_43 rfl (Nat.le_of_ble_eq_true rfl) rfl <|
g_aload_n F dX5_setSetting_44 rfl 1 rfl <|
g_getR F dX5_setSetting_45 fo_X5_5_LockstepRoomModel in_X5 fl_LockstepRoomModel_19_X5 hk fun x12 hk =>
g_iconst F dX5_setSetting_48 ic_0 <|
g_iload_n F dX5_setSetting_49 rfl 2 rfl <|
g_iadd F dX5_setSetting_50 <|
g_iload_n F dX5_setSetting_51 rfl 3 rfl <|
g_iast F dX5_setSetting_52 hk fun h13 hk =>
g_iload_n F dX5_setSetting_53 rfl 0 rfl <|
g_iret F dX5_setSetting_54 (Nat.le_refl 0) (Nat.le_refl 0) hk) (fun hc => have hk := hk.2 hc
g_bipush F dX5_setSetting_28 bp_m2 <|
g_iret F dX5_setSetting_30 (Nat.le_refl 0) (Nat.le_refl 0) hk)))
abbrev rmX5_writes : Room := { frames := 2, cells := 0, slots := 0, locals := 40 }
theorem m_X5_writes {S : Sx} (hS0 : Sok S) (v0 : Nat) (v1 : Int32) (h : hH) (Q : hH → Prop) (hk : f_X5_writes S.E v0 v1 h Q) : Ct S yX5_writes (ws_ yX5_writes cX5_writes 2 none) rmX5_writes ([aR (some v0), aI v1].map vv) h (qV Q) := by
  refine Ct.of hS0 (by decide +kernel) rfl (Nat.le_of_ble_eq_true rfl) fun x hxS F hnm => ?_
  subst hxS
  unfold f_X5_writes at hk
  exact g_aload_n F dX5_writes_0 rfl 0 rfl <|
g_getR F dX5_writes_1 fo_X5_25_LockstepRoomModel in_X5 fl_LockstepRoomModel_41_X5 hk fun x1 hk =>
g_aload_n F dX5_writes_4 rfl 0 rfl <|
g_getI F dX5_writes_5 fo_X5_26_LockstepRoomModel in_X5 fl_LockstepRoomModel_353_X5 hk fun x2 hk =>
g_iload_n F dX5_writes_8 rfl 1 rfl <|
g_iast F dX5_writes_9 hk fun h3 hk =>
g_aload_n F dX5_writes_10 rfl 0 rfl <|
g_dup F dX5_writes_11 rfl <|
g_getI F dX5_writes_12 fo_X5_26_LockstepRoomModel in_X5 fl_LockstepRoomModel_353_X5 hk fun x4 hk =>
g_iconst F dX5_writes_15 ic_1 <|
g_iadd F dX5_writes_16 <|
g_putV F dX5_writes_17 fo_X5_26_LockstepRoomModel ck_X5 fl_LockstepRoomModel_353_X5 rfl (v := aI (x4 + (1:Int32))) (fit_i (x4 + (1:Int32))) hk fun h5 hk =>
g_vret F dX5_writes_20 (Nat.le_refl 0) (Nat.le_refl 0) hk
abbrev rmX5_writesNumber : Room := { frames := 3, cells := 0, slots := 0, locals := 61 }
theorem s_X5_writesNumber_l18 {x : Cx} (F : Fx x cX5_writesNumber "LockstepRoomModel" 3 none rmX5_writesNumber) {v0 : Nat} {Q : hH → Prop} {K43 : hH → Prop} (n : Nat) (l1 : Int32) (l2 : Int32) (h : hH) (hk : f_X5_writesNumber_l18 x.S.E v0 Q K43 n l1 l2 h) (hK43 : ∀ (h : hH), K43 h → G x (xQ x rmX5_writesNumber (qV Q)) 43 [] [] h 0 0) : G x (xQ x rmX5_writesNumber (qV Q)) 18 [(0, aR (some v0)), (1, aI l1), (2, aI l2)] [] h 0 0 := by
  induction n generalizing l1 l2 h with
  | zero => exact False.elim hk
  | succ n ih =>
    unfold f_X5_writesNumber_l18 at hk
    exact g_iload_n F dX5_writesNumber_18 rfl 2 rfl <|
g_if_le F dX5_writesNumber_19 (tgt := 43) rfl (fun hc => have hk := hk.1 hc
G.fewer [] rfl <| hK43 h hk) (fun hc => have hk := hk.2 hc
g_aload_n F dX5_writesNumber_22 rfl 0 rfl <|
g_bipush F dX5_writesNumber_23 bp_48 <|
g_iload_n F dX5_writesNumber_25 rfl 1 rfl <|
g_iload_n F dX5_writesNumber_26 rfl 2 rfl <|
g_idiv F dX5_writesNumber_27 hk.1 <|
(fun hk => g_bipush F dX5_writesNumber_28 bp_10 <|
g_irem F dX5_writesNumber_30 nz_10_Int32 <|
g_iadd F dX5_writesNumber_31 <|
g_callv0 (g_V F dX5_writesNumber_32 q3556 mi_X5_writes ct_X5 (rm' := rmX5_writes) ⟨Nat.le_of_ble_eq_true rfl, Nat.le_of_ble_eq_true rfl⟩ ⟨Nat.le_refl 0, Nat.le_refl 0⟩ (As := [aI ((48:Int32) + (iRem (l1 / l2) (10:Int32)))]) (rest := []) rfl rfl (Nat.le_of_ble_eq_true rfl) hk (fun a2 hk => m_X5_writes F.ok a2 ((48:Int32) + (iRem (l1 / l2) (10:Int32))) h _ hk)) ⟨rfl, rfl⟩ fun h1 hk =>
g_iload_n F dX5_writesNumber_35 rfl 2 rfl <|
g_bipush F dX5_writesNumber_36 bp_10 <|
g_idiv F dX5_writesNumber_38 nz_10_Int32 <|
g_istore_n F dX5_writesNumber_39 rfl (Nat.le_of_ble_eq_true rfl) rfl <|
g_goto F dX5_writesNumber_40 (tgt := 18) rfl <|
G.fewer [1, 2, 0] rfl <| ih l1 (l2 / (10:Int32)) h1 hk) hk.2)
theorem s_X5_writesNumber_l2 {x : Cx} (F : Fx x cX5_writesNumber "LockstepRoomModel" 3 none rmX5_writesNumber) {v0 : Nat} {Q : hH → Prop} {K18 : Int32 → Int32 → hH → Prop} (n : Nat) (l1 : Int32) (l2 : Int32) (h : hH) (hk : f_X5_writesNumber_l2 x.S.E v0 Q K18 n l1 l2 h) (hK18 : ∀ (l1 : Int32) (l2 : Int32) (h : hH), K18 l1 l2 h → G x (xQ x rmX5_writesNumber (qV Q)) 18 [(0, aR (some v0)), (1, aI l1), (2, aI l2)] [] h 0 0) : G x (xQ x rmX5_writesNumber (qV Q)) 2 [(0, aR (some v0)), (1, aI l1), (2, aI l2)] [] h 0 0 := by
  induction n generalizing l1 l2 h with
  | zero => exact False.elim hk
  | succ n ih =>
    unfold f_X5_writesNumber_l2 at hk
    exact g_iload_n F dX5_writesNumber_2 rfl 1 rfl <|
g_iload_n F dX5_writesNumber_3 rfl 2 rfl <|
g_idiv F dX5_writesNumber_4 hk.1 <|
(fun hk => g_bipush F dX5_writesNumber_5 bp_9 <|
g_icmp_le F dX5_writesNumber_7 (tgt := 18) rfl (fun hc => have hk := hk.1 hc
hK18 l1 l2 h hk) (fun hc => have hk := hk.2 hc
g_iload_n F dX5_writesNumber_10 rfl 2 rfl <|
g_bipush F dX5_writesNumber_11 bp_10 <|
g_imul F dX5_writesNumber_13 <|
g_istore_n F dX5_writesNumber_14 rfl (Nat.le_of_ble_eq_true rfl) rfl <|
g_goto F dX5_writesNumber_15 (tgt := 2) rfl <|
G.fewer [1, 2, 0] rfl <| ih l1 (l2 * (10:Int32)) h hk)) hk.2
theorem m_X5_writesNumber {S : Sx} (hS0 : Sok S) (v0 : Nat) (v1 : Int32) (h : hH) (Q : hH → Prop) (hk : f_X5_writesNumber S.E v0 v1 h Q) : Ct S yX5_writesNumber (ws_ yX5_writesNumber cX5_writesNumber 3 none) rmX5_writesNumber ([aR (some v0), aI v1].map vv) h (qV Q) := by
  refine Ct.of hS0 (by decide +kernel) rfl (Nat.le_of_ble_eq_true rfl) fun x hxS F hnm => ?_
  subst hxS
  unfold f_X5_writesNumber at hk
  exact g_iconst F dX5_writesNumber_0 ic_1 <|
g_istore_n F dX5_writesNumber_1 rfl (Nat.le_of_ble_eq_true rfl) rfl <|
G.fewer [1, 2, 0] rfl <| s_X5_writesNumber_l2 F 1000000 v1 (1:Int32) h hk ((fun l1 l2 h hk => s_X5_writesNumber_l18 F 1000000 l1 l2 h hk ((fun h hk => g_vret F dX5_writesNumber_43 (Nat.le_refl 0) (Nat.le_refl 0) hk))))
abbrev rmX5_write : Room := { frames := 4, cells := 0, slots := 0, locals := 83 }
theorem s_X5_write_l86 {x : Cx} (F : Fx x cX5_write "LockstepRoomModel" 4 (some .int) rmX5_write) {v0 : Nat} {Q : Int32 → hH → Prop} {K117 : hH → Prop} (n : Nat) (l1 : Int32) (l2 : Int32) (h : hH) (hk : f_X5_write_l86 x.S.E v0 Q K117 n l1 l2 h) (hK117 : ∀ (h : hH), K117 h → G x (xQ x rmX5_write (qI Q)) 117 [(0, aR (some v0))] [] h 0 0) : G x (xQ x rmX5_write (qI Q)) 86 [(0, aR (some v0)), (1, aI l1), (2, aI l2)] [] h 0 0 := by
  induction n generalizing l1 l2 h with
  | zero => exact False.elim hk
  | succ n ih =>
    unfold f_X5_write_l86 at hk
    exact g_iload_n F dX5_write_86 rfl 2 rfl <|
g_bipush F dX5_write_87 bp_16 <|
g_icmp_ge F dX5_write_89 (tgt := 117) rfl (fun hc => have hk := hk.1 hc
G.fewer [0] rfl <| hK117 h hk) (fun hc => have hk := hk.2 hc
g_aload_n F dX5_write_92 rfl 0 rfl <|
g_bipush F dX5_write_93 bp_32 <|
g_callv0 (g_V F dX5_write_95 q3556 mi_X5_writes ct_X5 (rm' := rmX5_writes) ⟨Nat.le_of_ble_eq_true rfl, Nat.le_of_ble_eq_true rfl⟩ ⟨Nat.le_refl 0, Nat.le_refl 0⟩ (As := [aI (32:Int32)]) (rest := []) rfl rfl (Nat.le_of_ble_eq_true rfl) hk (fun a2 hk => m_X5_writes F.ok a2 (32:Int32) h _ hk)) ⟨rfl, rfl⟩ fun h1 hk =>
g_aload_n F dX5_write_98 rfl 0 rfl <|
g_aload_n F dX5_write_99 rfl 0 rfl <|
g_iload_n F dX5_write_100 rfl 1 rfl <|
g_bipush F dX5_write_101 bp_7 <|
g_iload_n F dX5_write_103 rfl 2 rfl <|
g_iadd F dX5_write_104 <|
g_calli0 (g_V F dX5_write_105 q3214 mi_X5_of ct_X5 (rm' := rmX5_of) ⟨Nat.le_of_ble_eq_true rfl, Nat.le_of_ble_eq_true rfl⟩ ⟨Nat.le_refl 0, Nat.le_refl 0⟩ (As := [aI l1, aI ((7:Int32) + l2)]) (rest := [aR (some v0)]) rfl rfl (Nat.le_of_ble_eq_true rfl) hk (fun a5 hk => m_X5_of F.ok a5 l1 ((7:Int32) + l2) h1 _ hk)) ⟨rfl, rfl⟩ fun x4 h3 hk =>
g_callv0 (g_V F dX5_write_108 q3560 mi_X5_writesNumber ct_X5 (rm' := rmX5_writesNumber) ⟨Nat.le_of_ble_eq_true rfl, Nat.le_of_ble_eq_true rfl⟩ ⟨Nat.le_refl 0, Nat.le_refl 0⟩ (As := [aI x4]) (rest := []) rfl rfl (Nat.le_of_ble_eq_true rfl) hk (fun a7 hk => m_X5_writesNumber F.ok a7 x4 h3 _ hk)) ⟨rfl, rfl⟩ fun h6 hk =>
g_iinc (v := (l2 + (1:Int32))) F dX5_write_111 (j := 2) rfl (iinc_1 l2) (Nat.le_of_ble_eq_true rfl) rfl <|
g_goto F dX5_write_114 (tgt := 86) rfl <|
G.fewer [1, 2, 0] rfl <| ih l1 (l2 + (1:Int32)) h6 hk)
theorem s_X5_write_l39 {x : Cx} (F : Fx x cX5_write "LockstepRoomModel" 4 (some .int) rmX5_write) {v0 : Nat} {Q : Int32 → hH → Prop} {K78 : Int32 → hH → Prop} (n : Nat) (l1 : Int32) (l2 : Int32) (h : hH) (hk : f_X5_write_l39 x.S.E v0 Q K78 n l1 l2 h) (hK78 : ∀ (l1 : Int32) (h : hH), K78 l1 h → G x (xQ x rmX5_write (qI Q)) 78 [(0, aR (some v0)), (1, aI l1)] [] h 0 0) : G x (xQ x rmX5_write (qI Q)) 39 [(0, aR (some v0)), (1, aI l1), (2, aI l2)] [] h 0 0 := by
  induction n generalizing l1 l2 h with
  | zero => exact False.elim hk
  | succ n ih =>
    unfold f_X5_write_l39 at hk
    exact g_iload_n F dX5_write_39 rfl 2 rfl <|
g_if_lt F dX5_write_40 (tgt := 78) rfl (fun hc => have hk := hk.1 hc
G.fewer [0, 1] rfl <| hK78 l1 h hk) (fun hc => have hk := hk.2 hc
g_aload_n F dX5_write_43 rfl 0 rfl <|
g_getR F dX5_write_44 fo_X5_3_LockstepRoomModel in_X5 fl_LockstepRoomModel_13_X5 hk fun x8 hk =>
g_bipush F dX5_write_47 bp_16 <|
g_iload_n F dX5_write_49 rfl 1 rfl <|
g_iadd F dX5_write_50 <|
g_iald F dX5_write_51 hk fun x9 hk =>
g_iconst F dX5_write_52 ic_5 <|
g_iload_n F dX5_write_53 rfl 2 rfl <|
g_imul F dX5_write_54 <|
g_ishr F dX5_write_55 <|
g_bipush F dX5_write_56 bp_31 <|
g_iand F dX5_write_58 <|
g_istore_n F dX5_write_59 rfl (Nat.le_of_ble_eq_true rfl) rfl <|
g_iload_n F dX5_write_60 rfl 0 rfl <|
g_if_le F dX5_write_61 (tgt := 72) rfl (fun hc => have hk := hk.1 hc
g_iinc (v := (l2 + (-1:Int32))) F dX5_write_72 (j := 3) rfl (iinc_m1 l2) (Nat.le_of_ble_eq_true rfl) rfl <|
g_goto F dX5_write_75 (tgt := 39) rfl <|
G.fewer [2, 3, 0] rfl <| ih l1 (l2 + (-1:Int32)) h hk) (fun hc => have hk := hk.2 hc
g_aload_n F dX5_write_64 rfl 1 rfl <|
g_bipush F dX5_write_65 bp_96 <|
g_iload_n F dX5_write_67 rfl 0 rfl <|
g_iadd F dX5_write_68 <|
g_callv0 (g_V F dX5_write_69 q3556 mi_X5_writes ct_X5 (rm' := rmX5_writes) ⟨Nat.le_of_ble_eq_true rfl, Nat.le_of_ble_eq_true rfl⟩ ⟨Nat.le_refl 0, Nat.le_refl 0⟩ (As := [aI ((96:Int32) + ((x9 >>> (((5:Int32) * l2) &&& 31)) &&& (31:Int32)))]) (rest := []) rfl rfl (Nat.le_of_ble_eq_true rfl) hk (fun a11 hk => m_X5_writes F.ok a11 ((96:Int32) + ((x9 >>> (((5:Int32) * l2) &&& 31)) &&& (31:Int32))) h _ hk)) ⟨rfl, rfl⟩ fun h10 hk =>
g_iinc (v := (l2 + (-1:Int32))) F dX5_write_72 (j := 3) rfl (iinc_m1 l2) (Nat.le_of_ble_eq_true rfl) rfl <|
g_goto F dX5_write_75 (tgt := 39) rfl <|
G.fewer [2, 3, 0] rfl <| ih l1 (l2 + (-1:Int32)) h10 hk))
theorem m_X5_write {S : Sx} (hS0 : Sok S) (v0 : Nat) (v1 : Int32) (h : hH) (Q : Int32 → hH → Prop) (hk : f_X5_write S.E v0 v1 h Q) : Ct S yX5_write (ws_ yX5_write cX5_write 4 (some .int)) rmX5_write ([aR (some v0), aI v1].map vv) h (qI Q) := by
  refine Ct.of hS0 (by decide +kernel) rfl (Nat.le_of_ble_eq_true rfl) fun x hxS F hnm => ?_
  subst hxS
  unfold f_X5_write at hk
  exact g_aload_n F dX5_write_0 rfl 0 rfl <|
g_aload_n F dX5_write_1 rfl 0 rfl <|
g_iload_n F dX5_write_2 rfl 1 rfl <|
g_calli0 (g_V F dX5_write_3 q3254 mi_X5_isMember ct_X5 (rm' := rmX5_isMember) ⟨Nat.le_of_ble_eq_true rfl, Nat.le_of_ble_eq_true rfl⟩ ⟨Nat.le_refl 0, Nat.le_refl 0⟩ (As := [aI v1]) (rest := [aR (some v0)]) rfl rfl (Nat.le_of_ble_eq_true rfl) hk (fun a14 hk => m_X5_isMember F.ok a14 v1 h _ hk)) ⟨rfl, rfl⟩ fun x13 h12 hk =>
g_calli0 (g_V F dX5_write_6 q3258 mi_X5_checks ct_X5 (rm' := rmX5_checks) ⟨Nat.le_of_ble_eq_true rfl, Nat.le_of_ble_eq_true rfl⟩ ⟨Nat.le_refl 0, Nat.le_refl 0⟩ (As := [aI x13]) (rest := []) rfl rfl (Nat.le_of_ble_eq_true rfl) hk (fun a17 hk => m_X5_checks F.ok a17 x13 h12 _ hk)) ⟨rfl, rfl⟩ fun x16 h15 hk =>
g_if_ne F dX5_write_9 (tgt := 14) rfl (fun hc => have hk := hk.2 hc
g_aload_n F dX5_write_14 rfl 0 rfl <|
g_iconst F dX5_write_15 ic_0 <|
g_putV F dX5_write_16 fo_X5_26_LockstepRoomModel ck_X5 fl_LockstepRoomModel_353_X5 rfl (v := aI (0:Int32)) (fit_i (0:Int32)) hk fun h18 hk =>
g_aload_n F dX5_write_19 rfl 0 rfl <|
g_getR F dX5_write_20 fo_X5_3_LockstepRoomModel in_X5 fl_LockstepRoomModel_13_X5 hk fun x19 hk =>
g_bipush F dX5_write_23 bp_16 <|
g_iload_n F dX5_write_25 rfl 1 rfl <|
g_iadd F dX5_write_26 <|
g_iald F dX5_write_27 hk fun x20 hk =>
g_if_ne F dX5_write_28 (tgt := 37) rfl (fun hc => have hk := hk.2 hc
g_iconst F dX5_write_37 ic_5 <|
g_istore_n F dX5_write_38 rfl (Nat.le_of_ble_eq_true rfl) rfl <|
G.fewer [1, 2, 0] rfl <| s_X5_write_l39 F 1000000 v1 (5:Int32) h18 hk ((fun l1 h hk => g_aload_n F dX5_write_78 rfl 0 rfl <|
g_bipush F dX5_write_79 bp_58 <|
g_callv0 (g_V F dX5_write_81 q3556 mi_X5_writes ct_X5 (rm' := rmX5_writes) ⟨Nat.le_of_ble_eq_true rfl, Nat.le_of_ble_eq_true rfl⟩ ⟨Nat.le_refl 0, Nat.le_refl 0⟩ (As := [aI (58:Int32)]) (rest := []) rfl rfl (Nat.le_of_ble_eq_true rfl) hk (fun a22 hk => m_X5_writes F.ok a22 (58:Int32) h _ hk)) ⟨rfl, rfl⟩ fun h21 hk =>
g_iconst F dX5_write_84 ic_0 <|
g_istore_n F dX5_write_85 rfl (Nat.le_of_ble_eq_true rfl) rfl <|
G.fewer [1, 2, 0] rfl <| s_X5_write_l86 F 1000000 l1 (0:Int32) h21 hk ((fun h hk => g_aload_n F dX5_write_117 rfl 0 rfl <|
g_getI F dX5_write_118 fo_X5_26_LockstepRoomModel in_X5 fl_LockstepRoomModel_353_X5 hk fun x23 hk =>
g_iret F dX5_write_121 (Nat.le_refl 0) (Nat.le_refl 0) hk))))) (fun hc => have hk := hk.1 hc
g_aload_n F dX5_write_31 rfl 0 rfl <|
g_bipush F dX5_write_32 bp_42 <|
g_callv0 (g_V F dX5_write_34 q3556 mi_X5_writes ct_X5 (rm' := rmX5_writes) ⟨Nat.le_of_ble_eq_true rfl, Nat.le_of_ble_eq_true rfl⟩ ⟨Nat.le_refl 0, Nat.le_refl 0⟩ (As := [aI (42:Int32)]) (rest := []) rfl rfl (Nat.le_of_ble_eq_true rfl) hk (fun a25 hk => m_X5_writes F.ok a25 (42:Int32) h18 _ hk)) ⟨rfl, rfl⟩ fun h24 hk =>
g_iconst F dX5_write_37 ic_5 <|
g_istore_n F dX5_write_38 rfl (Nat.le_of_ble_eq_true rfl) rfl <|
G.fewer [1, 2, 0] rfl <| s_X5_write_l39 F 1000000 v1 (5:Int32) h24 hk ((fun l1 h hk => g_aload_n F dX5_write_78 rfl 0 rfl <|
g_bipush F dX5_write_79 bp_58 <|
g_callv0 (g_V F dX5_write_81 q3556 mi_X5_writes ct_X5 (rm' := rmX5_writes) ⟨Nat.le_of_ble_eq_true rfl, Nat.le_of_ble_eq_true rfl⟩ ⟨Nat.le_refl 0, Nat.le_refl 0⟩ (As := [aI (58:Int32)]) (rest := []) rfl rfl (Nat.le_of_ble_eq_true rfl) hk (fun a27 hk => m_X5_writes F.ok a27 (58:Int32) h _ hk)) ⟨rfl, rfl⟩ fun h26 hk =>
g_iconst F dX5_write_84 ic_0 <|
g_istore_n F dX5_write_85 rfl (Nat.le_of_ble_eq_true rfl) rfl <|
G.fewer [1, 2, 0] rfl <| s_X5_write_l86 F 1000000 l1 (0:Int32) h26 hk ((fun h hk => g_aload_n F dX5_write_117 rfl 0 rfl <|
g_getI F dX5_write_118 fo_X5_26_LockstepRoomModel in_X5 fl_LockstepRoomModel_353_X5 hk fun x28 hk =>
g_iret F dX5_write_121 (Nat.le_refl 0) (Nat.le_refl 0) hk)))))) (fun hc => have hk := hk.1 hc
g_iconst F dX5_write_12 ic_0 <|
g_iret F dX5_write_13 (Nat.le_refl 0) (Nat.le_refl 0) hk)
abbrev rmX5_outputAt : Room := { frames := 2, cells := 0, slots := 0, locals := 40 }
theorem s_X5_outputAt_j17 {x : Cx} (F : Fx x cX5_outputAt "LockstepRoomModel" 2 (some .int) rmX5_outputAt) {v0 : Nat} {Q : Int32 → hH → Prop} (h : hH) (hk : f_X5_outputAt_j17 x.S.E v0 Q h) : G x (xQ x rmX5_outputAt (qI Q)) 17 [] [] h 0 0 := by
  unfold f_X5_outputAt_j17 at hk
  exact g_iconst F dX5_outputAt_17 ic_m1 <|
g_goto F dX5_outputAt_18 (tgt := 27) rfl <|
g_iret F dX5_outputAt_27 (Nat.le_refl 0) (Nat.le_refl 0) hk
theorem m_X5_outputAt {S : Sx} (hS0 : Sok S) (v0 : Nat) (v1 : Int32) (h : hH) (Q : Int32 → hH → Prop) (hk : f_X5_outputAt S.E v0 v1 h Q) : Ct S yX5_outputAt (ws_ yX5_outputAt cX5_outputAt 2 (some .int)) rmX5_outputAt ([aR (some v0), aI v1].map vv) h (qI Q) := by
  refine Ct.of hS0 (by decide +kernel) rfl (Nat.le_of_ble_eq_true rfl) fun x hxS F hnm => ?_
  subst hxS
  unfold f_X5_outputAt at hk
  exact g_aload_n F dX5_outputAt_0 rfl 0 rfl <|
g_iconst F dX5_outputAt_1 ic_0 <|
g_putV F dX5_outputAt_2 fo_X5_0_LockstepRoomModel ck_X5 fl_LockstepRoomModel_47_X5 rfl (v := aI (0:Int32)) (fit_i (0:Int32)) hk fun h1 hk =>
g_iload_n F dX5_outputAt_5 rfl 1 rfl <|
g_if_lt F dX5_outputAt_6 (tgt := 17) rfl (fun hc => have hk := hk.1 hc
G.fewer [] rfl <| s_X5_outputAt_j17 F h1 hk ) (fun hc => have hk := hk.2 hc
g_iload_n F dX5_outputAt_9 rfl 1 rfl <|
g_aload_n F dX5_outputAt_10 rfl 0 rfl <|
g_getI F dX5_outputAt_11 fo_X5_26_LockstepRoomModel in_X5 fl_LockstepRoomModel_353_X5 hk fun x2 hk =>
g_icmp_lt F dX5_outputAt_14 (tgt := 21) rfl (fun hc => have hk := hk.1 hc
g_aload_n F dX5_outputAt_21 rfl 0 rfl <|
g_getR F dX5_outputAt_22 fo_X5_25_LockstepRoomModel in_X5 fl_LockstepRoomModel_41_X5 hk fun x3 hk =>
g_iload_n F dX5_outputAt_25 rfl 1 rfl <|
g_iald F dX5_outputAt_26 hk fun x4 hk =>
g_iret F dX5_outputAt_27 (Nat.le_refl 0) (Nat.le_refl 0) hk) (fun hc => have hk := hk.2 hc
G.fewer [] rfl <| s_X5_outputAt_j17 F h1 hk ))
