set_option maxRecDepth 100000
set_option maxHeartbeats 10000000
theorem ct_X8 : CL[5]? = some (RX8, TX8, 5) := rfl
theorem ck_X8 : ClsOk RX8 TX8 5 tyX8 := ⟨in_X8, tyX8_ok, nmX8⟩
theorem fo_X8_0_LockstepRoom_Command : FieldOk "LockstepRoom$Command" 5 0 RX8 TX8 5 := ⟨ct_X8, Nat.le_of_ble_eq_true rfl, Or.inl rfl⟩
theorem fl_LockstepRoom_InOrder_7_X8 : Cond.fieldLink "LockstepRoom$InOrder" 7 "LockstepRoom$Command" (TX8 0).2.1 (TX8 0).2.2.1 ∈ lw_all ∨ ∃ host, Cond.fieldLinkNest "LockstepRoom$InOrder" 7 "LockstepRoom$Command" (TX8 0).2.1 (TX8 0).2.2.1 host ∈ lw_tbl := Or.inr ⟨_, q1006⟩
theorem fo_X8_1_LockstepRoom_Command : FieldOk "LockstepRoom$Command" 5 1 RX8 TX8 5 := ⟨ct_X8, Nat.le_of_ble_eq_true rfl, Or.inl rfl⟩
theorem fl_LockstepRoom_InOrder_19_X8 : Cond.fieldLink "LockstepRoom$InOrder" 19 "LockstepRoom$Command" (TX8 1).2.1 (TX8 1).2.2.1 ∈ lw_all ∨ ∃ host, Cond.fieldLinkNest "LockstepRoom$InOrder" 19 "LockstepRoom$Command" (TX8 1).2.1 (TX8 1).2.2.1 host ∈ lw_tbl := Or.inr ⟨_, q1009⟩
theorem ct_X4 : CL[14]? = some (RX4, TX4, 0) := rfl
theorem ck_X4 : ClsOk RX4 TX4 0 tyX4 := ⟨(fun w h => by cases h), fun j h => absurd h (Nat.not_lt_zero j), fun a h => absurd h (Nat.not_lt_zero a)⟩
theorem mo_X4_compare_2 : MOk yX4_compare_2 2 := by decide +kernel
theorem mi_X4_compare_2 : MI yX4_compare_2 "LockstepRoom$InOrder" cX4_compare_2 3 (some .int) 2 := ⟨q1077, q1078, q119, q1079, rfl, mo_X4_compare_2⟩
theorem ct_X10 : CL[7]? = some (RX10, TX10, 10) := rfl
theorem ck_X10 : ClsOk RX10 TX10 10 tyX10 := ⟨in_X10, tyX10_ok, nmX10⟩
theorem fo_X10_6_LockstepRoom_Member : FieldOk "LockstepRoom$Member" 7 6 RX10 TX10 10 := ⟨ct_X10, Nat.le_of_ble_eq_true rfl, Or.inl rfl⟩
theorem fl_LockstepRoom_ByGiven_7_X10 : Cond.fieldLink "LockstepRoom$ByGiven" 7 "LockstepRoom$Member" (TX10 6).2.1 (TX10 6).2.2.1 ∈ lw_all ∨ ∃ host, Cond.fieldLinkNest "LockstepRoom$ByGiven" 7 "LockstepRoom$Member" (TX10 6).2.1 (TX10 6).2.2.1 host ∈ lw_tbl := Or.inr ⟨_, q1417⟩
theorem fo_X10_0_LockstepRoom_Member : FieldOk "LockstepRoom$Member" 7 0 RX10 TX10 10 := ⟨ct_X10, Nat.le_of_ble_eq_true rfl, Or.inl rfl⟩
theorem fl_LockstepRoom_ByGiven_19_X10 : Cond.fieldLink "LockstepRoom$ByGiven" 19 "LockstepRoom$Member" (TX10 0).2.1 (TX10 0).2.2.1 ∈ lw_all ∨ ∃ host, Cond.fieldLinkNest "LockstepRoom$ByGiven" 19 "LockstepRoom$Member" (TX10 0).2.1 (TX10 0).2.2.1 host ∈ lw_tbl := Or.inr ⟨_, q1401⟩
theorem ct_X17 : CL[15]? = some (RX17, TX17, 0) := rfl
theorem ck_X17 : ClsOk RX17 TX17 0 tyX17 := ⟨(fun w h => by cases h), fun j h => absurd h (Nat.not_lt_zero j), fun a h => absurd h (Nat.not_lt_zero a)⟩
theorem mo_X17_compare_2 : MOk yX17_compare_2 2 := by decide +kernel
theorem mi_X17_compare_2 : MI yX17_compare_2 "LockstepRoom$ByGiven" cX17_compare_2 3 (some .int) 2 := ⟨q1063, q1064, q166, q1065, rfl, mo_X17_compare_2⟩
theorem fl_LockstepRoom_Command_9_X8 : Cond.fieldLink "LockstepRoom$Command" 9 "LockstepRoom$Command" (TX8 0).2.1 (TX8 0).2.2.1 ∈ lw_all ∨ ∃ host, Cond.fieldLinkNest "LockstepRoom$Command" 9 "LockstepRoom$Command" (TX8 0).2.1 (TX8 0).2.2.1 host ∈ lw_tbl := Or.inl q1005
theorem fl_LockstepRoom_Command_15_X8 : Cond.fieldLink "LockstepRoom$Command" 15 "LockstepRoom$Command" (TX8 1).2.1 (TX8 1).2.2.1 ∈ lw_all ∨ ∃ host, Cond.fieldLinkNest "LockstepRoom$Command" 15 "LockstepRoom$Command" (TX8 1).2.1 (TX8 1).2.2.1 host ∈ lw_tbl := Or.inl q1008
theorem fo_X8_2_LockstepRoom_Command : FieldOk "LockstepRoom$Command" 5 2 RX8 TX8 5 := ⟨ct_X8, Nat.le_of_ble_eq_true rfl, Or.inl rfl⟩
theorem fl_LockstepRoom_Command_18_X8 : Cond.fieldLink "LockstepRoom$Command" 18 "LockstepRoom$Command" (TX8 2).2.1 (TX8 2).2.2.1 ∈ lw_all ∨ ∃ host, Cond.fieldLinkNest "LockstepRoom$Command" 18 "LockstepRoom$Command" (TX8 2).2.1 (TX8 2).2.2.1 host ∈ lw_tbl := Or.inl q1010
theorem fo_X8_3_LockstepRoom_Command : FieldOk "LockstepRoom$Command" 5 3 RX8 TX8 5 := ⟨ct_X8, Nat.le_of_ble_eq_true rfl, Or.inl rfl⟩
theorem fl_LockstepRoom_Command_21_X8 : Cond.fieldLink "LockstepRoom$Command" 21 "LockstepRoom$Command" (TX8 3).2.1 (TX8 3).2.2.1 ∈ lw_all ∨ ∃ host, Cond.fieldLinkNest "LockstepRoom$Command" 21 "LockstepRoom$Command" (TX8 3).2.1 (TX8 3).2.2.1 host ∈ lw_tbl := Or.inl q1013
theorem fo_X8_4_LockstepRoom_Command : FieldOk "LockstepRoom$Command" 5 4 RX8 TX8 5 := ⟨ct_X8, Nat.le_of_ble_eq_true rfl, Or.inl rfl⟩
theorem fl_LockstepRoom_Command_24_X8 : Cond.fieldLink "LockstepRoom$Command" 24 "LockstepRoom$Command" (TX8 4).2.1 (TX8 4).2.2.1 ∈ lw_all ∨ ∃ host, Cond.fieldLinkNest "LockstepRoom$Command" 24 "LockstepRoom$Command" (TX8 4).2.1 (TX8 4).2.2.1 host ∈ lw_tbl := Or.inl q1016
theorem mo_X1_inRange : MOk yX1_inRange 3 := by decide +kernel
theorem ms_X1_inRange : MS yX1_inRange cX1_inRange 6 (some .boolean) 3 := ⟨q443, q111, q444, mo_X1_inRange⟩
theorem ct_X9 : CL[6]? = some (RX9, TX9, 4) := rfl
theorem ck_X9 : ClsOk RX9 TX9 4 tyX9 := ⟨in_X9, tyX9_ok, nmX9⟩
theorem fo_X9_0_LockstepRoom_Fault : FieldOk "LockstepRoom$Fault" 6 0 RX9 TX9 4 := ⟨ct_X9, Nat.le_of_ble_eq_true rfl, Or.inl rfl⟩
theorem fl_LockstepRoom_Fault_7_X9 : Cond.fieldLink "LockstepRoom$Fault" 7 "LockstepRoom$Fault" (TX9 0).2.1 (TX9 0).2.2.1 ∈ lw_all ∨ ∃ host, Cond.fieldLinkNest "LockstepRoom$Fault" 7 "LockstepRoom$Fault" (TX9 0).2.1 (TX9 0).2.2.1 host ∈ lw_tbl := Or.inl q1327
theorem fo_X9_1_LockstepRoom_Fault : FieldOk "LockstepRoom$Fault" 6 1 RX9 TX9 4 := ⟨ct_X9, Nat.le_of_ble_eq_true rfl, Or.inl rfl⟩
theorem fl_LockstepRoom_Fault_13_X9 : Cond.fieldLink "LockstepRoom$Fault" 13 "LockstepRoom$Fault" (TX9 1).2.1 (TX9 1).2.2.1 ∈ lw_all ∨ ∃ host, Cond.fieldLinkNest "LockstepRoom$Fault" 13 "LockstepRoom$Fault" (TX9 1).2.1 (TX9 1).2.2.1 host ∈ lw_tbl := Or.inl q1330
theorem fo_X9_2_LockstepRoom_Fault : FieldOk "LockstepRoom$Fault" 6 2 RX9 TX9 4 := ⟨ct_X9, Nat.le_of_ble_eq_true rfl, Or.inl rfl⟩
theorem fl_LockstepRoom_Fault_16_X9 : Cond.fieldLink "LockstepRoom$Fault" 16 "LockstepRoom$Fault" (TX9 2).2.1 (TX9 2).2.2.1 ∈ lw_all ∨ ∃ host, Cond.fieldLinkNest "LockstepRoom$Fault" 16 "LockstepRoom$Fault" (TX9 2).2.1 (TX9 2).2.2.1 host ∈ lw_tbl := Or.inl q1333
theorem fo_X9_3_LockstepRoom_Fault : FieldOk "LockstepRoom$Fault" 6 3 RX9 TX9 4 := ⟨ct_X9, Nat.le_of_ble_eq_true rfl, Or.inl rfl⟩
theorem fl_LockstepRoom_Fault_19_X9 : Cond.fieldLink "LockstepRoom$Fault" 19 "LockstepRoom$Fault" (TX9 3).2.1 (TX9 3).2.2.1 ∈ lw_all ∨ ∃ host, Cond.fieldLinkNest "LockstepRoom$Fault" 19 "LockstepRoom$Fault" (TX9 3).2.1 (TX9 3).2.2.1 host ∈ lw_tbl := Or.inl q1336
theorem ct_X16 : CL[13]? = some (RX16, TX16, 2) := rfl
theorem ck_X16 : ClsOk RX16 TX16 2 tyX16 := ⟨in_X16, tyX16_ok, nmX16⟩
theorem fo_X16_0_LockstepRoom_Group : FieldOk "LockstepRoom$Group" 13 0 RX16 TX16 2 := ⟨ct_X16, Nat.le_of_ble_eq_true rfl, Or.inl rfl⟩
theorem fl_LockstepRoom_Group_7_X16 : Cond.fieldLink "LockstepRoom$Group" 7 "LockstepRoom$Group" (TX16 0).2.1 (TX16 0).2.2.1 ∈ lw_all ∨ ∃ host, Cond.fieldLinkNest "LockstepRoom$Group" 7 "LockstepRoom$Group" (TX16 0).2.1 (TX16 0).2.2.1 host ∈ lw_tbl := Or.inl q1803
theorem ct_X15 : CL[12]? = some (RX15, TX15, 1) := rfl
theorem ck_X15 : ClsOk RX15 TX15 1 tyX15 := ⟨in_X15, tyX15_ok, nmX15⟩
theorem fo_X15_0_LockstepRoom_Root : FieldOk "LockstepRoom$Root" 12 0 RX15 TX15 1 := ⟨ct_X15, Nat.le_of_ble_eq_true rfl, Or.inl rfl⟩
theorem fl_LockstepRoom_Root_7_X15 : Cond.fieldLink "LockstepRoom$Root" 7 "LockstepRoom$Root" (TX15 0).2.1 (TX15 0).2.2.1 ∈ lw_all ∨ ∃ host, Cond.fieldLinkNest "LockstepRoom$Root" 7 "LockstepRoom$Root" (TX15 0).2.1 (TX15 0).2.2.1 host ∈ lw_tbl := Or.inl q1675
theorem mo_J3_init : MOk yJ3_init 0 := by decide +kernel
theorem mc_J3_init : MC yJ3_init cJ3_init 1 0 := ⟨q270, q117, q271, rfl, mo_J3_init⟩
theorem ct_J4 : CL[17]? = some (RJ4, TJ4, 4) := rfl
theorem ck_J4 : ClsOk RJ4 TJ4 4 tyJ4 := ⟨in_J4, tyJ4_ok, nmJ4⟩
theorem fo_J4_0_java_util_PriorityQueue : FieldOk "java/util/PriorityQueue" 17 0 RJ4 TJ4 4 := ⟨ct_J4, Nat.le_of_ble_eq_true rfl, Or.inl rfl⟩
theorem fl_java_util_PriorityQueue_17_J4 : Cond.fieldLink "java/util/PriorityQueue" 17 "java/util/PriorityQueue" (TJ4 0).2.1 (TJ4 0).2.2.1 ∈ lw_all ∨ ∃ host, Cond.fieldLinkNest "java/util/PriorityQueue" 17 "java/util/PriorityQueue" (TJ4 0).2.1 (TJ4 0).2.2.1 host ∈ lw_tbl := Or.inl q276
theorem fo_J4_2_java_util_PriorityQueue : FieldOk "java/util/PriorityQueue" 17 2 RJ4 TJ4 4 := ⟨ct_J4, Nat.le_of_ble_eq_true rfl, Or.inl rfl⟩
theorem fl_java_util_PriorityQueue_21_J4 : Cond.fieldLink "java/util/PriorityQueue" 21 "java/util/PriorityQueue" (TJ4 2).2.1 (TJ4 2).2.2.1 ∈ lw_all ∨ ∃ host, Cond.fieldLinkNest "java/util/PriorityQueue" 21 "java/util/PriorityQueue" (TJ4 2).2.1 (TJ4 2).2.2.1 host ∈ lw_tbl := Or.inl q279
theorem fo_J4_1_java_util_PriorityQueue : FieldOk "java/util/PriorityQueue" 17 1 RJ4 TJ4 4 := ⟨ct_J4, Nat.le_of_ble_eq_true rfl, Or.inl rfl⟩
theorem fl_java_util_PriorityQueue_58_J4 : Cond.fieldLink "java/util/PriorityQueue" 58 "java/util/PriorityQueue" (TJ4 1).2.1 (TJ4 1).2.2.1 ∈ lw_all ∨ ∃ host, Cond.fieldLinkNest "java/util/PriorityQueue" 58 "java/util/PriorityQueue" (TJ4 1).2.1 (TJ4 1).2.2.1 host ∈ lw_tbl := Or.inl q278
theorem mo_X4_compare : MOk yX4_compare 2 := by decide +kernel
theorem moi_java_util_Comparator_compare__Ljava_lang_Object_Ljava_lang_Object__I : MOk ({ cls := "java/util/Comparator", name := "compare", desc := "(Ljava/lang/Object;Ljava/lang/Object;)I" } : MethodName) 2 := by decide +kernel
theorem mo_X17_compare : MOk yX17_compare 2 := by decide +kernel
theorem mo_J4_siftUpUsingComparator : MOk yJ4_siftUpUsingComparator 4 := by decide +kernel
theorem ms_J4_siftUpUsingComparator : MS yJ4_siftUpUsingComparator cJ4_siftUpUsingComparator 6 none 4 := ⟨q1049, q118, q1050, mo_J4_siftUpUsingComparator⟩
theorem mo_J4_siftUp : MOk yJ4_siftUp 2 := by decide +kernel
theorem mi_J4_siftUp : MI yJ4_siftUp "java/util/PriorityQueue" cJ4_siftUp 3 none 2 := ⟨q1046, qs19, q118, q1047, rfl, mo_J4_siftUp⟩
theorem fo_J4_3_java_util_PriorityQueue : FieldOk "java/util/PriorityQueue" 17 3 RJ4 TJ4 4 := ⟨ct_J4, Nat.le_of_ble_eq_true rfl, Or.inl rfl⟩
theorem fl_java_util_PriorityQueue_93_J4 : Cond.fieldLink "java/util/PriorityQueue" 93 "java/util/PriorityQueue" (TJ4 3).2.1 (TJ4 3).2.2.1 ∈ lw_all ∨ ∃ host, Cond.fieldLinkNest "java/util/PriorityQueue" 93 "java/util/PriorityQueue" (TJ4 3).2.1 (TJ4 3).2.2.1 host ∈ lw_tbl := Or.inl q281
theorem mo_J4_offer : MOk yJ4_offer 1 := by decide +kernel
theorem mi_J4_offer : MI yJ4_offer "java/util/PriorityQueue" cJ4_offer 3 (some .boolean) 1 := ⟨q1035, q1036, q118, q1037, rfl, mo_J4_offer⟩
theorem mo_J4_siftDownUsingComparator : MOk yJ4_siftDownUsingComparator 5 := by decide +kernel
theorem ms_J4_siftDownUsingComparator : MS yJ4_siftDownUsingComparator cJ4_siftDownUsingComparator 9 none 5 := ⟨q1313, q118, q1314, mo_J4_siftDownUsingComparator⟩
theorem ct_J42 : CL[18]? = some (RJ42, TJ42, 6) := rfl
theorem ck_J42 : ClsOk RJ42 TJ42 6 tyJ42 := ⟨in_J42, tyJ42_ok, nmJ42⟩
theorem fo_J42_5_java_util_PriorityQueue_Itr : FieldOk "java/util/PriorityQueue$Itr" 18 5 RJ42 TJ42 6 := ⟨ct_J42, Nat.le_of_ble_eq_true rfl, Or.inl rfl⟩
theorem fl_java_util_PriorityQueue_Itr_1_J42 : Cond.fieldLink "java/util/PriorityQueue$Itr" 1 "java/util/PriorityQueue$Itr" (TJ42 5).2.1 (TJ42 5).2.2.1 ∈ lw_all ∨ ∃ host, Cond.fieldLinkNest "java/util/PriorityQueue$Itr" 1 "java/util/PriorityQueue$Itr" (TJ42 5).2.1 (TJ42 5).2.2.1 host ∈ lw_tbl := Or.inl q2414
theorem fo_J42_1_java_util_PriorityQueue_Itr : FieldOk "java/util/PriorityQueue$Itr" 18 1 RJ42 TJ42 6 := ⟨ct_J42, Nat.le_of_ble_eq_true rfl, Or.inl rfl⟩
theorem fl_java_util_PriorityQueue_Itr_13_J42 : Cond.fieldLink "java/util/PriorityQueue$Itr" 13 "java/util/PriorityQueue$Itr" (TJ42 1).2.1 (TJ42 1).2.2.1 ∈ lw_all ∨ ∃ host, Cond.fieldLinkNest "java/util/PriorityQueue$Itr" 13 "java/util/PriorityQueue$Itr" (TJ42 1).2.1 (TJ42 1).2.2.1 host ∈ lw_tbl := Or.inl q2410
theorem fl_java_util_PriorityQueue_Itr_17_J4 : Cond.fieldLink "java/util/PriorityQueue$Itr" 17 "java/util/PriorityQueue" (TJ4 3).2.1 (TJ4 3).2.2.1 ∈ lw_all ∨ ∃ host, Cond.fieldLinkNest "java/util/PriorityQueue$Itr" 17 "java/util/PriorityQueue" (TJ4 3).2.1 (TJ4 3).2.2.1 host ∈ lw_tbl := Or.inl q280
theorem fo_J42_4_java_util_PriorityQueue_Itr : FieldOk "java/util/PriorityQueue$Itr" 18 4 RJ42 TJ42 6 := ⟨ct_J42, Nat.le_of_ble_eq_true rfl, Or.inl rfl⟩
theorem fl_java_util_PriorityQueue_Itr_22_J42 : Cond.fieldLink "java/util/PriorityQueue$Itr" 22 "java/util/PriorityQueue$Itr" (TJ42 4).2.1 (TJ42 4).2.2.1 ∈ lw_all ∨ ∃ host, Cond.fieldLinkNest "java/util/PriorityQueue$Itr" 22 "java/util/PriorityQueue$Itr" (TJ42 4).2.1 (TJ42 4).2.2.1 host ∈ lw_tbl := Or.inl q2413
theorem df_J42 : ∀ j, j < 6 → defaultValue (tyJ42 j) = vp_V [.int 0, .int 0, va_rf none, va_rf none, .int 0, va_rf none] j := fun j hj => by rcases (show j = 0 ∨ j = 1 ∨ j = 2 ∨ j = 3 ∨ j = 4 ∨ j = 5 by omega) with rfl | rfl | rfl | rfl | rfl | rfl <;> rfl
theorem mo_J42_init : MOk yJ42_init 1 := by decide +kernel
theorem mc_J42_init : MC yJ42_init cJ42_init 2 1 := ⟨q2406, q174, q2407, rfl, mo_J42_init⟩
theorem iinc_1 (a : Int32) : a + Int32.ofInt (1) = a + (1 : Int32) := rfl
theorem ct_J5 : CL[19]? = some (RJ5, TJ5, 3) := rfl
theorem ck_J5 : ClsOk RJ5 TJ5 3 tyJ5 := ⟨in_J5, tyJ5_ok, nmJ5⟩
theorem fo_J5_0_java_util_ArrayDeque : FieldOk "java/util/ArrayDeque" 19 0 RJ5 TJ5 3 := ⟨ct_J5, Nat.le_of_ble_eq_true rfl, Or.inl rfl⟩
theorem fl_java_util_ArrayDeque_3_J5 : Cond.fieldLink "java/util/ArrayDeque" 3 "java/util/ArrayDeque" (TJ5 0).2.1 (TJ5 0).2.2.1 ∈ lw_all ∨ ∃ host, Cond.fieldLinkNest "java/util/ArrayDeque" 3 "java/util/ArrayDeque" (TJ5 0).2.1 (TJ5 0).2.2.1 host ∈ lw_tbl := Or.inl q333
theorem fo_J5_1_java_util_ArrayDeque : FieldOk "java/util/ArrayDeque" 19 1 RJ5 TJ5 3 := ⟨ct_J5, Nat.le_of_ble_eq_true rfl, Or.inl rfl⟩
theorem fl_java_util_ArrayDeque_24_J5 : Cond.fieldLink "java/util/ArrayDeque" 24 "java/util/ArrayDeque" (TJ5 1).2.1 (TJ5 1).2.2.1 ∈ lw_all ∨ ∃ host, Cond.fieldLinkNest "java/util/ArrayDeque" 24 "java/util/ArrayDeque" (TJ5 1).2.1 (TJ5 1).2.2.1 host ∈ lw_tbl := Or.inl q334
theorem mo_J5_elementAt : MOk yJ5_elementAt 2 := by decide +kernel
theorem ms_J5_elementAt : MS yJ5_elementAt cJ5_elementAt 2 (some (.object "java/lang/Object")) 2 := ⟨q416, q120, q417, mo_J5_elementAt⟩
theorem mo_J5_inc : MOk yJ5_inc 2 := by decide +kernel
theorem ms_J5_inc : MS yJ5_inc cJ5_inc 2 (some .int) 2 := ⟨q2030, q120, q2031, mo_J5_inc⟩
theorem mo_J5_pollFirst : MOk yJ5_pollFirst 0 := by decide +kernel
theorem mi_J5_pollFirst : MI yJ5_pollFirst "java/util/ArrayDeque" cJ5_pollFirst 4 (some (.object "java/lang/Object")) 0 := ⟨q2026, q2027, q120, q2028, rfl, mo_J5_pollFirst⟩
theorem fo_J42_0_java_util_PriorityQueue_Itr : FieldOk "java/util/PriorityQueue$Itr" 18 0 RJ42 TJ42 6 := ⟨ct_J42, Nat.le_of_ble_eq_true rfl, Or.inl rfl⟩
theorem fl_java_util_PriorityQueue_Itr_25_J42 : Cond.fieldLink "java/util/PriorityQueue$Itr" 25 "java/util/PriorityQueue$Itr" (TJ42 0).2.1 (TJ42 0).2.2.1 ∈ lw_all ∨ ∃ host, Cond.fieldLinkNest "java/util/PriorityQueue$Itr" 25 "java/util/PriorityQueue$Itr" (TJ42 0).2.1 (TJ42 0).2.2.1 host ∈ lw_tbl := Or.inl q2409
theorem fl_java_util_PriorityQueue_Itr_28_J4 : Cond.fieldLink "java/util/PriorityQueue$Itr" 28 "java/util/PriorityQueue" (TJ4 1).2.1 (TJ4 1).2.2.1 ∈ lw_all ∨ ∃ host, Cond.fieldLinkNest "java/util/PriorityQueue$Itr" 28 "java/util/PriorityQueue" (TJ4 1).2.1 (TJ4 1).2.2.1 host ∈ lw_tbl := Or.inl q277
theorem fo_J42_2_java_util_PriorityQueue_Itr : FieldOk "java/util/PriorityQueue$Itr" 18 2 RJ42 TJ42 6 := ⟨ct_J42, Nat.le_of_ble_eq_true rfl, Or.inl rfl⟩
theorem fl_java_util_PriorityQueue_Itr_31_J42 : Cond.fieldLink "java/util/PriorityQueue$Itr" 31 "java/util/PriorityQueue$Itr" (TJ42 2).2.1 (TJ42 2).2.2.1 ∈ lw_all ∨ ∃ host, Cond.fieldLinkNest "java/util/PriorityQueue$Itr" 31 "java/util/PriorityQueue$Itr" (TJ42 2).2.1 (TJ42 2).2.2.1 host ∈ lw_tbl := Or.inl q2411
theorem mo_J5_poll : MOk yJ5_poll 0 := by decide +kernel
theorem mi_J5_poll : MI yJ5_poll "java/util/ArrayDeque" cJ5_poll 1 (some (.object "java/lang/Object")) 0 := ⟨q2296, q2297, q120, q2298, rfl, mo_J5_poll⟩
theorem fo_J42_3_java_util_PriorityQueue_Itr : FieldOk "java/util/PriorityQueue$Itr" 18 3 RJ42 TJ42 6 := ⟨ct_J42, Nat.le_of_ble_eq_true rfl, Or.inl rfl⟩
theorem fl_java_util_PriorityQueue_Itr_52_J42 : Cond.fieldLink "java/util/PriorityQueue$Itr" 52 "java/util/PriorityQueue$Itr" (TJ42 3).2.1 (TJ42 3).2.2.1 ∈ lw_all ∨ ∃ host, Cond.fieldLinkNest "java/util/PriorityQueue$Itr" 52 "java/util/PriorityQueue$Itr" (TJ42 3).2.1 (TJ42 3).2.2.1 host ∈ lw_tbl := Or.inl q2412
theorem fl_java_util_PriorityQueue_Itr_44_J4 : Cond.fieldLink "java/util/PriorityQueue$Itr" 44 "java/util/PriorityQueue" (TJ4 0).2.1 (TJ4 0).2.2.1 ∈ lw_all ∨ ∃ host, Cond.fieldLinkNest "java/util/PriorityQueue$Itr" 44 "java/util/PriorityQueue" (TJ4 0).2.1 (TJ4 0).2.2.1 host ∈ lw_tbl := Or.inl q275
theorem fo_J5_2_java_util_ArrayDeque : FieldOk "java/util/ArrayDeque" 19 2 RJ5 TJ5 3 := ⟨ct_J5, Nat.le_of_ble_eq_true rfl, Or.inl rfl⟩
theorem fl_java_util_ArrayDeque_20_J5 : Cond.fieldLink "java/util/ArrayDeque" 20 "java/util/ArrayDeque" (TJ5 2).2.1 (TJ5 2).2.2.1 ∈ lw_all ∨ ∃ host, Cond.fieldLinkNest "java/util/ArrayDeque" 20 "java/util/ArrayDeque" (TJ5 2).2.1 (TJ5 2).2.2.1 host ∈ lw_tbl := Or.inl q335
theorem mo_J5_isEmpty : MOk yJ5_isEmpty 0 := by decide +kernel
theorem mi_J5_isEmpty : MI yJ5_isEmpty "java/util/ArrayDeque" cJ5_isEmpty 1 (some .boolean) 0 := ⟨q401, q402, q120, q403, rfl, mo_J5_isEmpty⟩
theorem bp_17 : (Int8.ofInt (17)).toInt32 = (17 : Int32) := by decide
theorem iinc_m1 (a : Int32) : a + Int32.ofInt (-1) = a + (-1 : Int32) := rfl
theorem mo_J5_dec : MOk yJ5_dec 2 := by decide +kernel
theorem ms_J5_dec : MS yJ5_dec cJ5_dec 2 (some .int) 2 := ⟨q413, q120, q414, mo_J5_dec⟩
theorem mo_J5_pollLast : MOk yJ5_pollLast 0 := by decide +kernel
theorem mi_J5_pollLast : MI yJ5_pollLast "java/util/ArrayDeque" cJ5_pollLast 4 (some (.object "java/lang/Object")) 0 := ⟨q409, q410, q120, q411, rfl, mo_J5_pollLast⟩
theorem mo_J5_sub : MOk yJ5_sub 3 := by decide +kernel
theorem ms_J5_sub : MS yJ5_sub cJ5_sub 3 (some .int) 3 := ⟨q423, q120, q424, mo_J5_sub⟩
theorem mo_J5_circularClear : MOk yJ5_circularClear 3 := by decide +kernel
theorem ms_J5_circularClear : MS yJ5_circularClear cJ5_circularClear 4 none 3 := ⟨q1569, q120, q1570, mo_J5_circularClear⟩
theorem mo_J5_removeFirst : MOk yJ5_removeFirst 0 := by decide +kernel
theorem mi_J5_removeFirst : MI yJ5_removeFirst "java/util/ArrayDeque" cJ5_removeFirst 2 (some (.object "java/lang/Object")) 0 := ⟨q2022, q2023, q120, q2024, rfl, mo_J5_removeFirst⟩
theorem mo_J5_addFirst : MOk yJ5_addFirst 1 := by decide +kernel
theorem mi_J5_addFirst : MI yJ5_addFirst "java/util/ArrayDeque" cJ5_addFirst 3 none 1 := ⟨q2258, q2259, q120, q2260, rfl, mo_J5_addFirst⟩
abbrev rmX4_init : Room := { frames := 2, cells := 0, slots := 0, locals := 40 }
theorem m_X4_init {S : Sx} (hS0 : Sok S) (v0 : Nat) (h : hH) (Q : hH → Prop) (hk : f_X4_init S.E v0 h Q) : Ct S yX4_init (ws_ yX4_init cX4_init 1 none) rmX4_init ([aR (some v0)].map vv) h (qV Q) := by
  refine Ct.of hS0 (by decide +kernel) rfl (Nat.le_of_ble_eq_true rfl) fun x hxS F hnm => ?_
  subst hxS
  unfold f_X4_init at hk
  exact g_aload_n F dX4_init_0 rfl 0 rfl <|
g_objInit (rest := []) F dX4_init_1 q264 q182 q_objcode (Nat.le_of_ble_eq_true rfl) (Nat.le_of_ble_eq_true rfl) <|
g_vret F dX4_init_4 (Nat.le_refl 0) (Nat.le_refl 0) hk
abbrev rmX4_compare_2 : Room := { frames := 3, cells := 0, slots := 0, locals := 61 }
theorem m_X4_compare_2 {S : Sx} (hS0 : Sok S) (v0 : Nat) (v1 : Option Nat) (v2 : Option Nat) (h : hH) (Q : Int32 → hH → Prop) (hk : f_X4_compare_2 S.E v0 v1 v2 h Q) : Ct S yX4_compare_2 (ws_ yX4_compare_2 cX4_compare_2 3 (some .int)) rmX4_compare_2 ([aR (some v0), aR v1, aR v2].map vv) h (qI Q) := by
  refine Ct.of hS0 (by decide +kernel) rfl (Nat.le_of_ble_eq_true rfl) fun x hxS F hnm => ?_
  subst hxS
  unfold f_X4_compare_2 at hk
  exact g_aload_n F dX4_compare_2_0 rfl 1 rfl <|
g_getI F dX4_compare_2_1 fo_X8_0_LockstepRoom_Command in_X8 fl_LockstepRoom_InOrder_7_X8 hk fun x1 hk =>
g_aload_n F dX4_compare_2_4 rfl 2 rfl <|
g_getI F dX4_compare_2_5 fo_X8_0_LockstepRoom_Command in_X8 fl_LockstepRoom_InOrder_7_X8 hk fun x2 hk =>
g_icmp_eq F dX4_compare_2_8 (tgt := 25) rfl (fun hc => have hk := hk.1 hc
g_aload_n F dX4_compare_2_25 rfl 1 rfl <|
g_getI F dX4_compare_2_26 fo_X8_1_LockstepRoom_Command in_X8 fl_LockstepRoom_InOrder_19_X8 hk fun x3 hk =>
g_aload_n F dX4_compare_2_29 rfl 2 rfl <|
g_getI F dX4_compare_2_30 fo_X8_1_LockstepRoom_Command in_X8 fl_LockstepRoom_InOrder_19_X8 hk fun x4 hk =>
g_calli0 (g_S F dX4_compare_2_33 q1080 ms_J20_compare (rm' := rmJ20_compare) ⟨Nat.le_of_ble_eq_true rfl, Nat.le_of_ble_eq_true rfl⟩ ⟨Nat.le_refl 0, Nat.le_refl 0⟩ (As := [aI x3, aI x4]) (rest := []) rfl rfl (Nat.le_of_ble_eq_true rfl) (m_J20_compare F.ok x3 x4 h _ hk)) ⟨rfl, rfl⟩ fun x6 h5 hk =>
g_iret F dX4_compare_2_36 (Nat.le_refl 0) (Nat.le_refl 0) hk) (fun hc => have hk := hk.2 hc
g_aload_n F dX4_compare_2_11 rfl 1 rfl <|
g_getI F dX4_compare_2_12 fo_X8_0_LockstepRoom_Command in_X8 fl_LockstepRoom_InOrder_7_X8 hk fun x7 hk =>
g_aload_n F dX4_compare_2_15 rfl 2 rfl <|
g_getI F dX4_compare_2_16 fo_X8_0_LockstepRoom_Command in_X8 fl_LockstepRoom_InOrder_7_X8 hk fun x8 hk =>
g_calli0 (g_S F dX4_compare_2_19 q1080 ms_J20_compare (rm' := rmJ20_compare) ⟨Nat.le_of_ble_eq_true rfl, Nat.le_of_ble_eq_true rfl⟩ ⟨Nat.le_refl 0, Nat.le_refl 0⟩ (As := [aI x7, aI x8]) (rest := []) rfl rfl (Nat.le_of_ble_eq_true rfl) (m_J20_compare F.ok x7 x8 h _ hk)) ⟨rfl, rfl⟩ fun x10 h9 hk =>
g_goto F dX4_compare_2_22 (tgt := 36) rfl <|
g_iret F dX4_compare_2_36 (Nat.le_refl 0) (Nat.le_refl 0) hk)
abbrev rmX4_compare : Room := { frames := 4, cells := 0, slots := 0, locals := 83 }
theorem m_X4_compare {S : Sx} (hS0 : Sok S) (v0 : Nat) (v1 : Option Nat) (v2 : Option Nat) (h : hH) (Q : Int32 → hH → Prop) (hk : f_X4_compare S.E v0 v1 v2 h Q) : Ct S yX4_compare (ws_ yX4_compare cX4_compare 3 (some .int)) rmX4_compare ([aR (some v0), aR v1, aR v2].map vv) h (qI Q) := by
  refine Ct.of hS0 (by decide +kernel) rfl (Nat.le_of_ble_eq_true rfl) fun x hxS F hnm => ?_
  subst hxS
  unfold f_X4_compare at hk
  exact g_aload_n F dX4_compare_0 rfl 0 rfl <|
g_aload_n F dX4_compare_1 rfl 1 rfl <|
g_castS F dX4_compare_2 q1075 ct_X8 hk fun hk =>
g_aload_n F dX4_compare_5 rfl 2 rfl <|
g_castS F dX4_compare_6 q1075 ct_X8 hk fun hk =>
g_calli0 (g_V F dX4_compare_9 q1076 mi_X4_compare_2 ct_X4 (rm' := rmX4_compare_2) ⟨Nat.le_of_ble_eq_true rfl, Nat.le_of_ble_eq_true rfl⟩ ⟨Nat.le_refl 0, Nat.le_refl 0⟩ (As := [aR v1, aR v2]) (rest := []) rfl rfl (Nat.le_of_ble_eq_true rfl) hk (fun a3 hk => m_X4_compare_2 F.ok a3 v1 v2 h _ hk)) ⟨rfl, rfl⟩ fun x2 h1 hk =>
g_iret F dX4_compare_12 (Nat.le_refl 0) (Nat.le_refl 0) hk
abbrev rmX17_compare_2 : Room := { frames := 3, cells := 0, slots := 0, locals := 61 }
theorem m_X17_compare_2 {S : Sx} (hS0 : Sok S) (v0 : Nat) (v1 : Option Nat) (v2 : Option Nat) (h : hH) (Q : Int32 → hH → Prop) (hk : f_X17_compare_2 S.E v0 v1 v2 h Q) : Ct S yX17_compare_2 (ws_ yX17_compare_2 cX17_compare_2 3 (some .int)) rmX17_compare_2 ([aR (some v0), aR v1, aR v2].map vv) h (qI Q) := by
  refine Ct.of hS0 (by decide +kernel) rfl (Nat.le_of_ble_eq_true rfl) fun x hxS F hnm => ?_
  subst hxS
  unfold f_X17_compare_2 at hk
  exact g_aload_n F dX17_compare_2_0 rfl 1 rfl <|
g_getI F dX17_compare_2_1 fo_X10_6_LockstepRoom_Member in_X10 fl_LockstepRoom_ByGiven_7_X10 hk fun x1 hk =>
g_aload_n F dX17_compare_2_4 rfl 2 rfl <|
g_getI F dX17_compare_2_5 fo_X10_6_LockstepRoom_Member in_X10 fl_LockstepRoom_ByGiven_7_X10 hk fun x2 hk =>
g_icmp_eq F dX17_compare_2_8 (tgt := 25) rfl (fun hc => have hk := hk.1 hc
g_aload_n F dX17_compare_2_25 rfl 1 rfl <|
g_getI F dX17_compare_2_26 fo_X10_0_LockstepRoom_Member in_X10 fl_LockstepRoom_ByGiven_19_X10 hk fun x3 hk =>
g_aload_n F dX17_compare_2_29 rfl 2 rfl <|
g_getI F dX17_compare_2_30 fo_X10_0_LockstepRoom_Member in_X10 fl_LockstepRoom_ByGiven_19_X10 hk fun x4 hk =>
g_calli0 (g_S F dX17_compare_2_33 q1066 ms_J20_compare (rm' := rmJ20_compare) ⟨Nat.le_of_ble_eq_true rfl, Nat.le_of_ble_eq_true rfl⟩ ⟨Nat.le_refl 0, Nat.le_refl 0⟩ (As := [aI x3, aI x4]) (rest := []) rfl rfl (Nat.le_of_ble_eq_true rfl) (m_J20_compare F.ok x3 x4 h _ hk)) ⟨rfl, rfl⟩ fun x6 h5 hk =>
g_iret F dX17_compare_2_36 (Nat.le_refl 0) (Nat.le_refl 0) hk) (fun hc => have hk := hk.2 hc
g_aload_n F dX17_compare_2_11 rfl 1 rfl <|
g_getI F dX17_compare_2_12 fo_X10_6_LockstepRoom_Member in_X10 fl_LockstepRoom_ByGiven_7_X10 hk fun x7 hk =>
g_aload_n F dX17_compare_2_15 rfl 2 rfl <|
g_getI F dX17_compare_2_16 fo_X10_6_LockstepRoom_Member in_X10 fl_LockstepRoom_ByGiven_7_X10 hk fun x8 hk =>
g_calli0 (g_S F dX17_compare_2_19 q1066 ms_J20_compare (rm' := rmJ20_compare) ⟨Nat.le_of_ble_eq_true rfl, Nat.le_of_ble_eq_true rfl⟩ ⟨Nat.le_refl 0, Nat.le_refl 0⟩ (As := [aI x7, aI x8]) (rest := []) rfl rfl (Nat.le_of_ble_eq_true rfl) (m_J20_compare F.ok x7 x8 h _ hk)) ⟨rfl, rfl⟩ fun x10 h9 hk =>
g_goto F dX17_compare_2_22 (tgt := 36) rfl <|
g_iret F dX17_compare_2_36 (Nat.le_refl 0) (Nat.le_refl 0) hk)
abbrev rmX17_compare : Room := { frames := 4, cells := 0, slots := 0, locals := 83 }
theorem m_X17_compare {S : Sx} (hS0 : Sok S) (v0 : Nat) (v1 : Option Nat) (v2 : Option Nat) (h : hH) (Q : Int32 → hH → Prop) (hk : f_X17_compare S.E v0 v1 v2 h Q) : Ct S yX17_compare (ws_ yX17_compare cX17_compare 3 (some .int)) rmX17_compare ([aR (some v0), aR v1, aR v2].map vv) h (qI Q) := by
  refine Ct.of hS0 (by decide +kernel) rfl (Nat.le_of_ble_eq_true rfl) fun x hxS F hnm => ?_
  subst hxS
  unfold f_X17_compare at hk
  exact g_aload_n F dX17_compare_0 rfl 0 rfl <|
g_aload_n F dX17_compare_1 rfl 1 rfl <|
g_castS F dX17_compare_2 q1061 ct_X10 hk fun hk =>
g_aload_n F dX17_compare_5 rfl 2 rfl <|
g_castS F dX17_compare_6 q1061 ct_X10 hk fun hk =>
g_calli0 (g_V F dX17_compare_9 q1062 mi_X17_compare_2 ct_X17 (rm' := rmX17_compare_2) ⟨Nat.le_of_ble_eq_true rfl, Nat.le_of_ble_eq_true rfl⟩ ⟨Nat.le_refl 0, Nat.le_refl 0⟩ (As := [aR v1, aR v2]) (rest := []) rfl rfl (Nat.le_of_ble_eq_true rfl) hk (fun a3 hk => m_X17_compare_2 F.ok a3 v1 v2 h _ hk)) ⟨rfl, rfl⟩ fun x2 h1 hk =>
g_iret F dX17_compare_12 (Nat.le_refl 0) (Nat.le_refl 0) hk
abbrev rmX17_init : Room := { frames := 2, cells := 0, slots := 0, locals := 40 }
theorem m_X17_init {S : Sx} (hS0 : Sok S) (v0 : Nat) (h : hH) (Q : hH → Prop) (hk : f_X17_init S.E v0 h Q) : Ct S yX17_init (ws_ yX17_init cX17_init 1 none) rmX17_init ([aR (some v0)].map vv) h (qV Q) := by
  refine Ct.of hS0 (by decide +kernel) rfl (Nat.le_of_ble_eq_true rfl) fun x hxS F hnm => ?_
  subst hxS
  unfold f_X17_init at hk
  exact g_aload_n F dX17_init_0 rfl 0 rfl <|
g_objInit (rest := []) F dX17_init_1 q2502 q182 q_objcode (Nat.le_of_ble_eq_true rfl) (Nat.le_of_ble_eq_true rfl) <|
g_vret F dX17_init_4 (Nat.le_refl 0) (Nat.le_refl 0) hk
abbrev rmX8_init : Room := { frames := 2, cells := 0, slots := 0, locals := 40 }
theorem m_X8_init {S : Sx} (hS0 : Sok S) (v0 : Nat) (v1 : Int32) (v2 : Int32) (v3 : Int32) (v4 : Int32) (v5 : Int32) (h : hH) (Q : hH → Prop) (hk : f_X8_init S.E v0 v1 v2 v3 v4 v5 h Q) : Ct S yX8_init (ws_ yX8_init cX8_init 6 none) rmX8_init ([aR (some v0), aI v1, aI v2, aI v3, aI v4, aI v5].map vv) h (qV Q) := by
  refine Ct.of hS0 (by decide +kernel) rfl (Nat.le_of_ble_eq_true rfl) fun x hxS F hnm => ?_
  subst hxS
  unfold f_X8_init at hk
  exact g_aload_n F dX8_init_0 rfl 0 rfl <|
g_objInit (rest := []) F dX8_init_1 q1004 q182 q_objcode (Nat.le_of_ble_eq_true rfl) (Nat.le_of_ble_eq_true rfl) <|
g_aload_n F dX8_init_4 rfl 0 rfl <|
g_iload_n F dX8_init_5 rfl 1 rfl <|
g_putF F dX8_init_6 fo_X8_0_LockstepRoom_Command ck_X8 q1005 rfl hnm rfl (v := aI v1) (fit_i v1) hk fun h1 hk =>
g_aload_n F dX8_init_9 rfl 0 rfl <|
g_iload_n F dX8_init_10 rfl 2 rfl <|
g_putF F dX8_init_11 fo_X8_1_LockstepRoom_Command ck_X8 q1008 rfl hnm rfl (v := aI v2) (fit_i v2) hk fun h2 hk =>
g_aload_n F dX8_init_14 rfl 0 rfl <|
g_iload_n F dX8_init_15 rfl 3 rfl <|
g_putF F dX8_init_16 fo_X8_2_LockstepRoom_Command ck_X8 q1010 rfl hnm rfl (v := aI v3) (fit_i v3) hk fun h3 hk =>
g_aload_n F dX8_init_19 rfl 0 rfl <|
g_iload F dX8_init_20 4 rfl <|
g_putF F dX8_init_22 fo_X8_3_LockstepRoom_Command ck_X8 q1013 rfl hnm rfl (v := aI v4) (fit_i v4) hk fun h4 hk =>
g_aload_n F dX8_init_25 rfl 0 rfl <|
g_iload F dX8_init_26 5 rfl <|
g_putF F dX8_init_28 fo_X8_4_LockstepRoom_Command ck_X8 q1016 rfl hnm rfl (v := aI v5) (fit_i v5) hk fun h5 hk =>
g_vret F dX8_init_31 (Nat.le_refl 0) (Nat.le_refl 0) hk
abbrev rmX1_inRange : Room := { frames := 2, cells := 0, slots := 0, locals := 40 }
theorem m_X1_inRange {S : Sx} (hS0 : Sok S) (v0 : Int64) (v2 : Int64) (v4 : Int64) (h : hH) (Q : Int32 → hH → Prop) (hk : f_X1_inRange S.E v0 v2 v4 h Q) : Ct S yX1_inRange (ws_ yX1_inRange cX1_inRange 6 (some .boolean)) rmX1_inRange ([aL v0, aL v2, aL v4].map vv) h (qI Q) := by
  refine Ct.of hS0 (by decide +kernel) rfl (Nat.le_of_ble_eq_true rfl) fun x hxS F hnm => ?_
  subst hxS
  unfold f_X1_inRange at hk
  exact g_lload_n F dX1_inRange_0 rfl 0 rfl <|
g_lload_n F dX1_inRange_1 rfl 1 rfl <|
g_lcmp F dX1_inRange_2 <|
g_if_lt F dX1_inRange_3 (tgt := 17) rfl (fun hc => have hk := hk.1 hc
g_iconst F dX1_inRange_17 ic_0 <|
g_zret F dX1_inRange_18 (Nat.le_refl 0) (Nat.le_refl 0) rfl hk) (fun hc => have hk := hk.2 hc
g_lload_n F dX1_inRange_6 rfl 0 rfl <|
g_lload F dX1_inRange_7 2 rfl <|
g_lcmp F dX1_inRange_9 <|
g_if_gt F dX1_inRange_10 (tgt := 17) rfl (fun hc => have hk := hk.1 hc
g_iconst F dX1_inRange_17 ic_0 <|
g_zret F dX1_inRange_18 (Nat.le_refl 0) (Nat.le_refl 0) rfl hk) (fun hc => have hk := hk.2 hc
g_iconst F dX1_inRange_13 ic_1 <|
g_goto F dX1_inRange_14 (tgt := 18) rfl <|
g_zret F dX1_inRange_18 (Nat.le_refl 0) (Nat.le_refl 0) rfl hk))
abbrev rmX8_isOperand : Room := { frames := 3, cells := 0, slots := 0, locals := 65 }
theorem s_X8_isOperand_j21 {x : Cx} (F : Fx x cX8_isOperand "LockstepRoom$Command" 2 (some .boolean) rmX8_isOperand) {Q : Int32 → hH → Prop} (s0 : Int64) (s1 : Int64) (s2 : Int64) (h : hH) (hk : f_X8_isOperand_j21 x.S.E Q s0 s1 s2 h) : G x (xQ x rmX8_isOperand (qI Q)) 21 [] [aL s2, aL s1, aL s0] h 0 0 := by
  unfold f_X8_isOperand_j21 at hk
  exact g_calli0 (g_SN F dX8_isOperand_21 q2016 ms_X1_inRange (rm' := rmX1_inRange) ⟨Nat.le_of_ble_eq_true rfl, Nat.le_of_ble_eq_true rfl⟩ ⟨Nat.le_refl 0, Nat.le_refl 0⟩ (As := [aL s0, aL s1, aL s2]) (rest := []) rfl rfl (Nat.le_of_ble_eq_true rfl) (m_X1_inRange F.ok s0 s1 s2 h _ hk)) ⟨rfl, rfl⟩ fun x2 h1 hk =>
g_zret F dX8_isOperand_24 (Nat.le_refl 0) (Nat.le_refl 0) hk.1 hk.2
theorem s_X8_isOperand_j12 {x : Cx} (F : Fx x cX8_isOperand "LockstepRoom$Command" 2 (some .boolean) rmX8_isOperand) {Q : Int32 → hH → Prop} (s0 : Int64) (s1 : Int64) (h : hH) (hk : f_X8_isOperand_j12 x.S.E Q s0 s1 h) : G x (xQ x rmX8_isOperand (qI Q)) 12 [] [aL s1, aL s0] h 0 0 := by
  unfold f_X8_isOperand_j12 at hk
  exact g_ldc2 F dX8_isOperand_12 q2014 <|
g_goto F dX8_isOperand_15 (tgt := 21) rfl <|
s_X8_isOperand_j21 F s0 s1 (9999:Int64) h hk 
theorem m_X8_isOperand {S : Sx} (hS0 : Sok S) (v0 : Int32) (v1 : Int32) (h : hH) (Q : Int32 → hH → Prop) (hk : f_X8_isOperand S.E v0 v1 h Q) : Ct S yX8_isOperand (ws_ yX8_isOperand cX8_isOperand 2 (some .boolean)) rmX8_isOperand ([aI v0, aI v1].map vv) h (qI Q) := by
  refine Ct.of hS0 (by decide +kernel) rfl (Nat.le_of_ble_eq_true rfl) fun x hxS F hnm => ?_
  subst hxS
  unfold f_X8_isOperand at hk
  exact g_iload_n F dX8_isOperand_0 rfl 1 rfl <|
g_i2l F dX8_isOperand_1 <|
g_lconst F dX8_isOperand_2 rfl <|
g_iload_n F dX8_isOperand_3 rfl 0 rfl <|
g_if_eq F dX8_isOperand_4 (tgt := 12) rfl (fun hc => have hk := hk.1 hc
G.fewer [] rfl <| s_X8_isOperand_j12 F v1.toInt64 (0:Int64) h hk ) (fun hc => have hk := hk.2 hc
g_iload_n F dX8_isOperand_7 rfl 0 rfl <|
g_iconst F dX8_isOperand_8 ic_1 <|
g_icmp_ne F dX8_isOperand_9 (tgt := 18) rfl (fun hc => have hk := hk.2 hc
g_ldc2 F dX8_isOperand_18 q2015 <|
G.fewer [] rfl <| s_X8_isOperand_j21 F v1.toInt64 (0:Int64) (15:Int64) h hk ) (fun hc => have hk := hk.1 hc
G.fewer [] rfl <| s_X8_isOperand_j12 F v1.toInt64 (0:Int64) h hk ))
abbrev rmX8_writes : Room := { frames := 2, cells := 0, slots := 0, locals := 40 }
theorem s_X8_writes_j24 {x : Cx} (F : Fx x cX8_writes "LockstepRoom$Command" 2 (some .boolean) rmX8_writes) {v0 : Nat} {Q : Int32 → hH → Prop} (h : hH) (hk : f_X8_writes_j24 x.S.E v0 Q h) : G x (xQ x rmX8_writes (qI Q)) 24 [] [] h 0 0 := by
  unfold f_X8_writes_j24 at hk
  exact g_iconst F dX8_writes_24 ic_1 <|
g_goto F dX8_writes_25 (tgt := 29) rfl <|
g_zret F dX8_writes_29 (Nat.le_refl 0) (Nat.le_refl 0) rfl hk
theorem m_X8_writes {S : Sx} (hS0 : Sok S) (v0 : Nat) (v1 : Int32) (h : hH) (Q : Int32 → hH → Prop) (hk : f_X8_writes S.E v0 v1 h Q) : Ct S yX8_writes (ws_ yX8_writes cX8_writes 2 (some .boolean)) rmX8_writes ([aR (some v0), aI v1].map vv) h (qI Q) := by
  refine Ct.of hS0 (by decide +kernel) rfl (Nat.le_of_ble_eq_true rfl) fun x hxS F hnm => ?_
  subst hxS
  unfold f_X8_writes at hk
  exact g_aload_n F dX8_writes_0 rfl 0 rfl <|
g_getI F dX8_writes_1 fo_X8_3_LockstepRoom_Command in_X8 fl_LockstepRoom_Command_21_X8 hk fun x1 hk =>
g_iload_n F dX8_writes_4 rfl 1 rfl <|
g_icmp_eq F dX8_writes_5 (tgt := 24) rfl (fun hc => have hk := hk.1 hc
G.fewer [] rfl <| s_X8_writes_j24 F h hk ) (fun hc => have hk := hk.2 hc
g_aload_n F dX8_writes_8 rfl 0 rfl <|
g_getI F dX8_writes_9 fo_X8_2_LockstepRoom_Command in_X8 fl_LockstepRoom_Command_18_X8 hk fun x2 hk =>
g_iconst F dX8_writes_12 ic_4 <|
g_icmp_ne F dX8_writes_13 (tgt := 28) rfl (fun hc => have hk := hk.2 hc
g_iconst F dX8_writes_28 ic_0 <|
g_zret F dX8_writes_29 (Nat.le_refl 0) (Nat.le_refl 0) rfl hk) (fun hc => have hk := hk.1 hc
g_aload_n F dX8_writes_16 rfl 0 rfl <|
g_getI F dX8_writes_17 fo_X8_4_LockstepRoom_Command in_X8 fl_LockstepRoom_Command_24_X8 hk fun x3 hk =>
g_iload_n F dX8_writes_20 rfl 1 rfl <|
g_icmp_ne F dX8_writes_21 (tgt := 28) rfl (fun hc => have hk := hk.2 hc
g_iconst F dX8_writes_28 ic_0 <|
g_zret F dX8_writes_29 (Nat.le_refl 0) (Nat.le_refl 0) rfl hk) (fun hc => have hk := hk.1 hc
G.fewer [] rfl <| s_X8_writes_j24 F h hk )))
abbrev rmX9_init : Room := { frames := 2, cells := 0, slots := 0, locals := 40 }
theorem m_X9_init {S : Sx} (hS0 : Sok S) (v0 : Nat) (v1 : Int32) (v2 : Int32) (v3 : Int32) (v4 : Int32) (h : hH) (Q : hH → Prop) (hk : f_X9_init S.E v0 v1 v2 v3 v4 h Q) : Ct S yX9_init (ws_ yX9_init cX9_init 5 none) rmX9_init ([aR (some v0), aI v1, aI v2, aI v3, aI v4].map vv) h (qV Q) := by
  refine Ct.of hS0 (by decide +kernel) rfl (Nat.le_of_ble_eq_true rfl) fun x hxS F hnm => ?_
  subst hxS
  unfold f_X9_init at hk
  exact g_aload_n F dX9_init_0 rfl 0 rfl <|
g_objInit (rest := []) F dX9_init_1 q1326 q182 q_objcode (Nat.le_of_ble_eq_true rfl) (Nat.le_of_ble_eq_true rfl) <|
g_aload_n F dX9_init_4 rfl 0 rfl <|
g_iload_n F dX9_init_5 rfl 1 rfl <|
g_putF F dX9_init_6 fo_X9_0_LockstepRoom_Fault ck_X9 q1327 rfl hnm rfl (v := aI v1) (fit_i v1) hk fun h1 hk =>
g_aload_n F dX9_init_9 rfl 0 rfl <|
g_iload_n F dX9_init_10 rfl 2 rfl <|
g_putF F dX9_init_11 fo_X9_1_LockstepRoom_Fault ck_X9 q1330 rfl hnm rfl (v := aI v2) (fit_i v2) hk fun h2 hk =>
g_aload_n F dX9_init_14 rfl 0 rfl <|
g_iload_n F dX9_init_15 rfl 3 rfl <|
g_putF F dX9_init_16 fo_X9_2_LockstepRoom_Fault ck_X9 q1333 rfl hnm rfl (v := aI v3) (fit_i v3) hk fun h3 hk =>
g_aload_n F dX9_init_19 rfl 0 rfl <|
g_iload F dX9_init_20 4 rfl <|
g_putF F dX9_init_22 fo_X9_3_LockstepRoom_Fault ck_X9 q1336 rfl hnm rfl (v := aI v4) (fit_i v4) hk fun h4 hk =>
g_vret F dX9_init_25 (Nat.le_refl 0) (Nat.le_refl 0) hk
abbrev rmX16_init : Room := { frames := 2, cells := 0, slots := 0, locals := 40 }
theorem m_X16_init {S : Sx} (hS0 : Sok S) (v0 : Nat) (v1 : Int32) (h : hH) (Q : hH → Prop) (hk : f_X16_init S.E v0 v1 h Q) : Ct S yX16_init (ws_ yX16_init cX16_init 2 none) rmX16_init ([aR (some v0), aI v1].map vv) h (qV Q) := by
  refine Ct.of hS0 (by decide +kernel) rfl (Nat.le_of_ble_eq_true rfl) fun x hxS F hnm => ?_
  subst hxS
  unfold f_X16_init at hk
  exact g_aload_n F dX16_init_0 rfl 0 rfl <|
g_objInit (rest := []) F dX16_init_1 q1802 q182 q_objcode (Nat.le_of_ble_eq_true rfl) (Nat.le_of_ble_eq_true rfl) <|
g_aload_n F dX16_init_4 rfl 0 rfl <|
g_iload_n F dX16_init_5 rfl 1 rfl <|
g_putF F dX16_init_6 fo_X16_0_LockstepRoom_Group ck_X16 q1803 rfl hnm rfl (v := aI v1) (fit_i v1) hk fun h1 hk =>
g_vret F dX16_init_9 (Nat.le_refl 0) (Nat.le_refl 0) hk
abbrev rmX15_init : Room := { frames := 2, cells := 0, slots := 0, locals := 40 }
theorem m_X15_init {S : Sx} (hS0 : Sok S) (v0 : Nat) (v1 : Int32) (h : hH) (Q : hH → Prop) (hk : f_X15_init S.E v0 v1 h Q) : Ct S yX15_init (ws_ yX15_init cX15_init 2 none) rmX15_init ([aR (some v0), aI v1].map vv) h (qV Q) := by
  refine Ct.of hS0 (by decide +kernel) rfl (Nat.le_of_ble_eq_true rfl) fun x hxS F hnm => ?_
  subst hxS
  unfold f_X15_init at hk
  exact g_aload_n F dX15_init_0 rfl 0 rfl <|
g_objInit (rest := []) F dX15_init_1 q1674 q182 q_objcode (Nat.le_of_ble_eq_true rfl) (Nat.le_of_ble_eq_true rfl) <|
g_aload_n F dX15_init_4 rfl 0 rfl <|
g_iload_n F dX15_init_5 rfl 1 rfl <|
g_putF F dX15_init_6 fo_X15_0_LockstepRoom_Root ck_X15 q1675 rfl hnm rfl (v := aI v1) (fit_i v1) hk fun h1 hk =>
g_vret F dX15_init_9 (Nat.le_refl 0) (Nat.le_refl 0) hk
abbrev rmX15_hashCode : Room := { frames := 2, cells := 0, slots := 0, locals := 40 }
theorem m_X15_hashCode {S : Sx} (hS0 : Sok S) (v0 : Nat) (h : hH) (Q : Int32 → hH → Prop) (hk : f_X15_hashCode S.E v0 h Q) : Ct S yX15_hashCode (ws_ yX15_hashCode cX15_hashCode 1 (some .int)) rmX15_hashCode ([aR (some v0)].map vv) h (qI Q) := by
  refine Ct.of hS0 (by decide +kernel) rfl (Nat.le_of_ble_eq_true rfl) fun x hxS F hnm => ?_
  subst hxS
  unfold f_X15_hashCode at hk
  exact g_aload_n F dX15_hashCode_0 rfl 0 rfl <|
g_getI F dX15_hashCode_1 fo_X15_0_LockstepRoom_Root in_X15 fl_LockstepRoom_Root_7_X15 hk fun x1 hk =>
g_iret F dX15_hashCode_4 (Nat.le_refl 0) (Nat.le_refl 0) hk
abbrev rmX15_equals : Room := { frames := 2, cells := 0, slots := 0, locals := 40 }
theorem m_X15_equals {S : Sx} (hS0 : Sok S) (v0 : Nat) (v1 : Option Nat) (h : hH) (Q : Int32 → hH → Prop) (hk : f_X15_equals S.E v0 v1 h Q) : Ct S yX15_equals (ws_ yX15_equals cX15_equals 3 (some .boolean)) rmX15_equals ([aR (some v0), aR v1].map vv) h (qI Q) := by
  refine Ct.of hS0 (by decide +kernel) rfl (Nat.le_of_ble_eq_true rfl) fun x hxS F hnm => ?_
  subst hxS
  unfold f_X15_equals at hk
  exact g_aload_n F dX15_equals_0 rfl 1 rfl <|
g_instS F dX15_equals_1 q1754 ct_X15 hk fun x1 hk =>
g_if_eq F dX15_equals_4 (tgt := 27) rfl (fun hc => have hk := hk.1 hc
g_iconst F dX15_equals_27 ic_0 <|
g_zret F dX15_equals_28 (Nat.le_refl 0) (Nat.le_refl 0) rfl hk) (fun hc => have hk := hk.2 hc
g_aload_n F dX15_equals_7 rfl 1 rfl <|
g_castS F dX15_equals_8 q1754 ct_X15 hk fun hk =>
g_astore_n F dX15_equals_11 rfl (Nat.le_of_ble_eq_true rfl) rfl <|
g_aload_n F dX15_equals_12 rfl 0 rfl <|
g_getI F dX15_equals_13 fo_X15_0_LockstepRoom_Root in_X15 fl_LockstepRoom_Root_7_X15 hk fun x2 hk =>
g_aload_n F dX15_equals_16 rfl 1 rfl <|
g_getI F dX15_equals_17 fo_X15_0_LockstepRoom_Root in_X15 fl_LockstepRoom_Root_7_X15 hk fun x3 hk =>
g_icmp_ne F dX15_equals_20 (tgt := 27) rfl (fun hc => have hk := hk.2 hc
g_iconst F dX15_equals_27 ic_0 <|
g_zret F dX15_equals_28 (Nat.le_refl 0) (Nat.le_refl 0) rfl hk) (fun hc => have hk := hk.1 hc
g_iconst F dX15_equals_23 ic_1 <|
g_goto F dX15_equals_24 (tgt := 28) rfl <|
g_zret F dX15_equals_28 (Nat.le_refl 0) (Nat.le_refl 0) rfl hk))
abbrev rmJ4_init : Room := { frames := 4, cells := 1, slots := 8, locals := 80 }
theorem m_J4_init {S : Sx} (hS0 : Sok S) (v0 : Nat) (v1 : Int32) (v2 : Option Nat) (h : hH) (Q : hH → Prop) (hk : f_J4_init S.E v0 v1 v2 h Q) : Ct S yJ4_init (ws_ yJ4_init cJ4_init 3 none) rmJ4_init ([aR (some v0), aI v1, aR v2].map vv) h (qV Q) := by
  refine Ct.of hS0 (by decide +kernel) rfl (Nat.le_of_ble_eq_true rfl) fun x hxS F hnm => ?_
  subst hxS
  unfold f_J4_init at hk
  have hM : 0 + 1 ≤ 1 := by omega
  have hS : 0 + 8 ≤ 8 := by omega
  refine G.widen (c' := 0 + 0) (k' := 0 + 0) (Nat.le_refl 0) (Nat.le_refl 0) ?_
  exact g_aload_n F dJ4_init_0 rfl 0 rfl <|
g_callv0 (g_I F dJ4_init_1 q269 mc_J3_init (rm' := rmJ3_init) ⟨Nat.le_of_ble_eq_true rfl, Nat.le_of_ble_eq_true rfl⟩ ⟨show 0 + 0 + 0 ≤ 1 by omega, show 0 + 0 + 0 ≤ 8 by omega⟩ (As := []) (rest := []) rfl rfl (Nat.le_of_ble_eq_true rfl) (m_J3_init F.ok v0 h _ hk)) ⟨rfl, rfl⟩ fun h1 hk =>
g_iload_n F dJ4_init_4 rfl 1 rfl <|
g_iconst F dJ4_init_5 ic_1 <|
g_icmp_ge F dJ4_init_6 (tgt := 17) rfl (fun hc => have hk := hk.1 hc
g_aload_n F dJ4_init_17 rfl 0 rfl <|
g_iload_n F dJ4_init_18 rfl 1 rfl <|
g_newQ (t := 4) F dJ4_init_19 q273 q274 rfl rfl (Nat.le_of_ble_eq_true rfl) (Nat.le_of_ble_eq_true rfl) (show 0 + 0 + 1 ≤ 1 by omega) (show 0 + 0 + 8 ≤ 8 by omega) hk fun q2 h3 hk =>
g_putV F dJ4_init_22 fo_J4_0_java_util_PriorityQueue ck_J4 fl_java_util_PriorityQueue_17_J4 rfl (v := aR (some q2)) (fit_ra (.object "java/lang/Object") (some q2)) hk fun h4 hk =>
g_aload_n F dJ4_init_25 rfl 0 rfl <|
g_aload_n F dJ4_init_26 rfl 2 rfl <|
g_putF F dJ4_init_27 fo_J4_2_java_util_PriorityQueue ck_J4 q279 rfl hnm rfl (v := aR v2) (fit_rf "java/util/Comparator" v2) hk fun h5 hk =>
g_vret F dJ4_init_30 (show 0 + 0 + 1 ≤ 1 by omega) (show 0 + 0 + 8 ≤ 8 by omega) hk) (fun hc => have hk := hk.2 hc
False.elim hk)
abbrev rmJ4_size : Room := { frames := 2, cells := 0, slots := 0, locals := 40 }
theorem m_J4_size {S : Sx} (hS0 : Sok S) (v0 : Nat) (h : hH) (Q : Int32 → hH → Prop) (hk : f_J4_size S.E v0 h Q) : Ct S yJ4_size (ws_ yJ4_size cJ4_size 1 (some .int)) rmJ4_size ([aR (some v0)].map vv) h (qI Q) := by
  refine Ct.of hS0 (by decide +kernel) rfl (Nat.le_of_ble_eq_true rfl) fun x hxS F hnm => ?_
  subst hxS
  unfold f_J4_size at hk
  exact g_aload_n F dJ4_size_0 rfl 0 rfl <|
g_getI F dJ4_size_1 fo_J4_1_java_util_PriorityQueue in_J4 fl_java_util_PriorityQueue_58_J4 hk fun x1 hk =>
g_iret F dJ4_size_4 (Nat.le_refl 0) (Nat.le_refl 0) hk
abbrev rmJ4_siftUpUsingComparator : Room := { frames := 5, cells := 0, slots := 0, locals := 105 }
theorem s_J4_siftUpUsingComparator_l0 {x : Cx} (F : Fx x cJ4_siftUpUsingComparator "java/util/PriorityQueue" 6 none rmJ4_siftUpUsingComparator) {Q : hH → Prop} {K29 : Int32 → Option Nat → Option Nat → hH → Prop} {K43 : Int32 → Option Nat → Option Nat → hH → Prop} (n : Nat) (l0 : Int32) (l1 : Option Nat) (l2 : Option Nat) (l3 : Option Nat) (h : hH) (hk : f_J4_siftUpUsingComparator_l0 x.S.E Q K29 K43 n l0 l1 l2 l3 h) (hK29 : ∀ (l0 : Int32) (l1 : Option Nat) (l2 : Option Nat) (h : hH), K29 l0 l1 l2 h → G x (xQ x rmJ4_siftUpUsingComparator (qV Q)) 29 [(0, aI l0), (1, aR l1), (2, aR l2)] [] h 0 0) (hK43 : ∀ (l0 : Int32) (l1 : Option Nat) (l2 : Option Nat) (h : hH), K43 l0 l1 l2 h → G x (xQ x rmJ4_siftUpUsingComparator (qV Q)) 43 [(0, aI l0), (1, aR l1), (2, aR l2)] [] h 0 0) : G x (xQ x rmJ4_siftUpUsingComparator (qV Q)) 0 [(0, aI l0), (1, aR l1), (2, aR l2), (3, aR l3)] [] h 0 0 := by
  induction n generalizing l0 l1 l2 l3 h with
  | zero => exact False.elim hk
  | succ n ih =>
    unfold f_J4_siftUpUsingComparator_l0 at hk
    exact g_iload_n F dJ4_siftUpUsingComparator_0 rfl 0 rfl <|
g_if_le F dJ4_siftUpUsingComparator_1 (tgt := 43) rfl (fun hc => have hk := hk.1 hc
G.fewer [0, 1, 2] rfl <| hK43 l0 l1 l2 h hk) (fun hc => have hk := hk.2 hc
g_iload_n F dJ4_siftUpUsingComparator_4 rfl 0 rfl <|
g_iconst F dJ4_siftUpUsingComparator_5 ic_1 <|
g_isub F dJ4_siftUpUsingComparator_6 <|
g_iconst F dJ4_siftUpUsingComparator_7 ic_1 <|
g_iushr F dJ4_siftUpUsingComparator_8 <|
g_istore F dJ4_siftUpUsingComparator_9 (Nat.le_of_ble_eq_true rfl) rfl <|
g_aload_n F dJ4_siftUpUsingComparator_11 rfl 3 rfl <|
g_iload F dJ4_siftUpUsingComparator_12 0 rfl <|
g_aald (t := 4) F dJ4_siftUpUsingComparator_14 rfl rfl hk fun x1 hk =>
g_astore F dJ4_siftUpUsingComparator_15 (Nat.le_of_ble_eq_true rfl) rfl <|
g_aload_n F dJ4_siftUpUsingComparator_17 rfl 5 rfl <|
g_aload_n F dJ4_siftUpUsingComparator_18 rfl 3 rfl <|
g_aload F dJ4_siftUpUsingComparator_19 0 rfl <|
hk.elim (fun hk => g_calli05 (g_F (y0 := ({ cls := "java/util/Comparator", name := "compare", desc := "(Ljava/lang/Object;Ljava/lang/Object;)I" } : MethodName)) F dJ4_siftUpUsingComparator_21 q1052 q1072 q1070 q119 q1074 (F.face q1054 q1053 q1073 q1071 q1069 ⟨by decide, by decide⟩) moi_java_util_Comparator_compare__Ljava_lang_Object_Ljava_lang_Object__I ct_X4 (rm' := rmX4_compare) ⟨Nat.le_of_ble_eq_true rfl, Nat.le_of_ble_eq_true rfl⟩ ⟨Nat.le_refl 0, Nat.le_refl 0⟩ (As := [aR l1, aR x1]) (rest := []) rfl rfl (Nat.le_of_ble_eq_true rfl) hk (fun a5 hk => m_X4_compare F.ok a5 l1 x1 h _ hk)) ⟨rfl, rfl⟩ fun x3 h2 hk =>
g_if_lt F dJ4_siftUpUsingComparator_26 (tgt := 32) rfl (fun hc => have hk := hk.1 hc
g_aload_n F dJ4_siftUpUsingComparator_32 rfl 4 rfl <|
g_iload_n F dJ4_siftUpUsingComparator_33 rfl 2 rfl <|
g_aload F dJ4_siftUpUsingComparator_34 0 rfl <|
g_aast4 F dJ4_siftUpUsingComparator_36 hk fun h4 hk =>
g_iload F dJ4_siftUpUsingComparator_37 1 rfl <|
g_istore_n F dJ4_siftUpUsingComparator_39 rfl (Nat.le_of_ble_eq_true rfl) rfl <|
g_goto F dJ4_siftUpUsingComparator_40 (tgt := 0) rfl <|
G.fewer [0, 3, 4, 5] rfl <| ih (iUsh (l0 - (1:Int32)) (1:Int32)) l1 l2 l3 h4 hk) (fun hc => have hk := hk.2 hc
G.fewer [2, 3, 4] rfl <| hK29 l0 l1 l2 h2 hk)) (fun hk => g_calli05 (g_F (y0 := ({ cls := "java/util/Comparator", name := "compare", desc := "(Ljava/lang/Object;Ljava/lang/Object;)I" } : MethodName)) F dJ4_siftUpUsingComparator_21 q1052 q1058 q1056 q166 q1060 (F.face q1054 q1053 q1059 q1057 q1055 ⟨by decide, by decide⟩) moi_java_util_Comparator_compare__Ljava_lang_Object_Ljava_lang_Object__I ct_X17 (rm' := rmX17_compare) ⟨Nat.le_of_ble_eq_true rfl, Nat.le_of_ble_eq_true rfl⟩ ⟨Nat.le_refl 0, Nat.le_refl 0⟩ (As := [aR l1, aR x1]) (rest := []) rfl rfl (Nat.le_of_ble_eq_true rfl) hk (fun a6 hk => m_X17_compare F.ok a6 l1 x1 h _ hk)) ⟨rfl, rfl⟩ fun x3 h2 hk =>
g_if_lt F dJ4_siftUpUsingComparator_26 (tgt := 32) rfl (fun hc => have hk := hk.1 hc
g_aload_n F dJ4_siftUpUsingComparator_32 rfl 4 rfl <|
g_iload_n F dJ4_siftUpUsingComparator_33 rfl 2 rfl <|
g_aload F dJ4_siftUpUsingComparator_34 0 rfl <|
g_aast4 F dJ4_siftUpUsingComparator_36 hk fun h4 hk =>
g_iload F dJ4_siftUpUsingComparator_37 1 rfl <|
g_istore_n F dJ4_siftUpUsingComparator_39 rfl (Nat.le_of_ble_eq_true rfl) rfl <|
g_goto F dJ4_siftUpUsingComparator_40 (tgt := 0) rfl <|
G.fewer [0, 3, 4, 5] rfl <| ih (iUsh (l0 - (1:Int32)) (1:Int32)) l1 l2 l3 h4 hk) (fun hc => have hk := hk.2 hc
G.fewer [2, 3, 4] rfl <| hK29 l0 l1 l2 h2 hk)))
theorem s_J4_siftUpUsingComparator_j43 {x : Cx} (F : Fx x cJ4_siftUpUsingComparator "java/util/PriorityQueue" 6 none rmJ4_siftUpUsingComparator) {Q : hH → Prop} (l0 : Int32) (l1 : Option Nat) (l2 : Option Nat) (h : hH) (hk : f_J4_siftUpUsingComparator_j43 x.S.E Q l0 l1 l2 h) : G x (xQ x rmJ4_siftUpUsingComparator (qV Q)) 43 [(0, aI l0), (1, aR l1), (2, aR l2)] [] h 0 0 := by
  unfold f_J4_siftUpUsingComparator_j43 at hk
  exact g_aload_n F dJ4_siftUpUsingComparator_43 rfl 2 rfl <|
g_iload_n F dJ4_siftUpUsingComparator_44 rfl 0 rfl <|
g_aload_n F dJ4_siftUpUsingComparator_45 rfl 1 rfl <|
g_aast4 F dJ4_siftUpUsingComparator_46 hk fun h7 hk =>
g_vret F dJ4_siftUpUsingComparator_47 (Nat.le_refl 0) (Nat.le_refl 0) hk
theorem m_J4_siftUpUsingComparator {S : Sx} (hS0 : Sok S) (v0 : Int32) (v1 : Option Nat) (v2 : Option Nat) (v3 : Option Nat) (h : hH) (Q : hH → Prop) (hk : f_J4_siftUpUsingComparator S.E v0 v1 v2 v3 h Q) : Ct S yJ4_siftUpUsingComparator (ws_ yJ4_siftUpUsingComparator cJ4_siftUpUsingComparator 6 none) rmJ4_siftUpUsingComparator ([aI v0, aR v1, aR v2, aR v3].map vv) h (qV Q) := by
  refine Ct.of hS0 (by decide +kernel) rfl (Nat.le_of_ble_eq_true rfl) fun x hxS F hnm => ?_
  subst hxS
  unfold f_J4_siftUpUsingComparator at hk
  exact s_J4_siftUpUsingComparator_l0 F 1000000 v0 v1 v2 v3 h hk ((fun l0 l1 l2 h hk => g_goto F dJ4_siftUpUsingComparator_29 (tgt := 43) rfl <|
s_J4_siftUpUsingComparator_j43 F l0 l1 l2 h hk )) ((fun l0 l1 l2 h hk => s_J4_siftUpUsingComparator_j43 F l0 l1 l2 h hk ))
abbrev rmJ4_siftUp : Room := { frames := 6, cells := 0, slots := 0, locals := 130 }
theorem m_J4_siftUp {S : Sx} (hS0 : Sok S) (v0 : Nat) (v1 : Int32) (v2 : Option Nat) (h : hH) (Q : hH → Prop) (hk : f_J4_siftUp S.E v0 v1 v2 h Q) : Ct S yJ4_siftUp (ws_ yJ4_siftUp cJ4_siftUp 3 none) rmJ4_siftUp ([aR (some v0), aI v1, aR v2].map vv) h (qV Q) := by
  refine Ct.of hS0 (by decide +kernel) rfl (Nat.le_of_ble_eq_true rfl) fun x hxS F hnm => ?_
  subst hxS
  unfold f_J4_siftUp at hk
  exact g_aload_n F dJ4_siftUp_0 rfl 0 rfl <|
g_getR F dJ4_siftUp_1 fo_J4_2_java_util_PriorityQueue in_J4 fl_java_util_PriorityQueue_21_J4 hk fun x1 hk =>
g_ifnull F dJ4_siftUp_4 (tgt := 23) rfl (fun hc => have hk := hk.1 hc
g_iload_n F dJ4_siftUp_23 rfl 1 rfl <|
g_aload_n F dJ4_siftUp_24 rfl 2 rfl <|
g_aload_n F dJ4_siftUp_25 rfl 0 rfl <|
g_getR F dJ4_siftUp_26 fo_J4_0_java_util_PriorityQueue in_J4 fl_java_util_PriorityQueue_17_J4 hk fun x2 hk =>
False.elim hk) (fun hc => have hk := hk.2 hc
g_iload_n F dJ4_siftUp_7 rfl 1 rfl <|
g_aload_n F dJ4_siftUp_8 rfl 2 rfl <|
g_aload_n F dJ4_siftUp_9 rfl 0 rfl <|
g_getR F dJ4_siftUp_10 fo_J4_0_java_util_PriorityQueue in_J4 fl_java_util_PriorityQueue_17_J4 hk fun x3 hk =>
g_aload_n F dJ4_siftUp_13 rfl 0 rfl <|
g_getR F dJ4_siftUp_14 fo_J4_2_java_util_PriorityQueue in_J4 fl_java_util_PriorityQueue_21_J4 hk fun x4 hk =>
g_callv0 (g_S F dJ4_siftUp_17 q1048 ms_J4_siftUpUsingComparator (rm' := rmJ4_siftUpUsingComparator) ⟨Nat.le_of_ble_eq_true rfl, Nat.le_of_ble_eq_true rfl⟩ ⟨Nat.le_refl 0, Nat.le_refl 0⟩ (As := [aI v1, aR v2, aR x3, aR x4]) (rest := []) rfl rfl (Nat.le_of_ble_eq_true rfl) (m_J4_siftUpUsingComparator F.ok v1 v2 x3 x4 h _ hk)) ⟨rfl, rfl⟩ fun h5 hk =>
g_goto F dJ4_siftUp_20 (tgt := 32) rfl <|
g_vret F dJ4_siftUp_32 (Nat.le_refl 0) (Nat.le_refl 0) hk)
abbrev rmJ4_offer : Room := { frames := 7, cells := 0, slots := 0, locals := 152 }
theorem s_J4_offer_j43 {x : Cx} (F : Fx x cJ4_offer "java/util/PriorityQueue" 3 (some .boolean) rmJ4_offer) {v0 : Nat} {Q : Int32 → hH → Prop} (l1 : Option Nat) (l2 : Int32) (h : hH) (hk : f_J4_offer_j43 x.S.E v0 Q l1 l2 h) : G x (xQ x rmJ4_offer (qI Q)) 43 [(0, aR (some v0)), (1, aR l1), (2, aI l2)] [] h 0 0 := by
  unfold f_J4_offer_j43 at hk
  exact g_aload_n F dJ4_offer_43 rfl 0 rfl <|
g_iload_n F dJ4_offer_44 rfl 2 rfl <|
g_aload_n F dJ4_offer_45 rfl 1 rfl <|
g_callv0 (g_V F dJ4_offer_46 q1044 mi_J4_siftUp ct_J4 (rm' := rmJ4_siftUp) ⟨Nat.le_of_ble_eq_true rfl, Nat.le_of_ble_eq_true rfl⟩ ⟨Nat.le_refl 0, Nat.le_refl 0⟩ (As := [aI l2, aR l1]) (rest := []) rfl rfl (Nat.le_of_ble_eq_true rfl) hk (fun a2 hk => m_J4_siftUp F.ok a2 l2 l1 h _ hk)) ⟨rfl, rfl⟩ fun h1 hk =>
g_aload_n F dJ4_offer_49 rfl 0 rfl <|
g_iload_n F dJ4_offer_50 rfl 2 rfl <|
g_iconst F dJ4_offer_51 ic_1 <|
g_iadd F dJ4_offer_52 <|
g_putV F dJ4_offer_53 fo_J4_1_java_util_PriorityQueue ck_J4 fl_java_util_PriorityQueue_58_J4 rfl (v := aI (l2 + (1:Int32))) (fit_i (l2 + (1:Int32))) hk fun h3 hk =>
g_iconst F dJ4_offer_56 ic_1 <|
g_zret F dJ4_offer_57 (Nat.le_refl 0) (Nat.le_refl 0) rfl hk
theorem m_J4_offer {S : Sx} (hS0 : Sok S) (v0 : Nat) (v1 : Option Nat) (h : hH) (Q : Int32 → hH → Prop) (hk : f_J4_offer S.E v0 v1 h Q) : Ct S yJ4_offer (ws_ yJ4_offer cJ4_offer 3 (some .boolean)) rmJ4_offer ([aR (some v0), aR v1].map vv) h (qI Q) := by
  refine Ct.of hS0 (by decide +kernel) rfl (Nat.le_of_ble_eq_true rfl) fun x hxS F hnm => ?_
  subst hxS
  unfold f_J4_offer at hk
  exact g_aload_n F dJ4_offer_0 rfl 1 rfl <|
g_ifnonnull F dJ4_offer_1 (tgt := 12) rfl (fun hc => have hk := hk.2 hc
g_aload_n F dJ4_offer_12 rfl 0 rfl <|
g_dup F dJ4_offer_13 rfl <|
g_getI F dJ4_offer_14 fo_J4_3_java_util_PriorityQueue in_J4 fl_java_util_PriorityQueue_93_J4 hk fun x4 hk =>
g_iconst F dJ4_offer_17 ic_1 <|
g_iadd F dJ4_offer_18 <|
g_putV F dJ4_offer_19 fo_J4_3_java_util_PriorityQueue ck_J4 fl_java_util_PriorityQueue_93_J4 rfl (v := aI (x4 + (1:Int32))) (fit_i (x4 + (1:Int32))) hk fun h5 hk =>
g_aload_n F dJ4_offer_22 rfl 0 rfl <|
g_getI F dJ4_offer_23 fo_J4_1_java_util_PriorityQueue in_J4 fl_java_util_PriorityQueue_58_J4 hk fun x6 hk =>
g_istore_n F dJ4_offer_26 rfl (Nat.le_of_ble_eq_true rfl) rfl <|
g_iload_n F dJ4_offer_27 rfl 0 rfl <|
g_aload_n F dJ4_offer_28 rfl 1 rfl <|
g_getR F dJ4_offer_29 fo_J4_0_java_util_PriorityQueue in_J4 fl_java_util_PriorityQueue_17_J4 hk fun x7 hk =>
g_alen (t := 4) F dJ4_offer_32 rfl hk fun x8 hk =>
g_icmp_lt F dJ4_offer_33 (tgt := 43) rfl (fun hc => have hk := hk.1 hc
G.fewer [1, 2, 0] rfl <| s_J4_offer_j43 F v1 x6 h5 hk ) (fun hc => have hk := hk.2 hc
g_aload_n F dJ4_offer_36 rfl 1 rfl <|
g_iload_n F dJ4_offer_37 rfl 0 rfl <|
g_iconst F dJ4_offer_38 ic_1 <|
g_iadd F dJ4_offer_39 <|
False.elim hk)) (fun hc => have hk := hk.1 hc
False.elim hk)
abbrev rmJ4_add : Room := { frames := 8, cells := 0, slots := 0, locals := 174 }
theorem m_J4_add {S : Sx} (hS0 : Sok S) (v0 : Nat) (v1 : Option Nat) (h : hH) (Q : Int32 → hH → Prop) (hk : f_J4_add S.E v0 v1 h Q) : Ct S yJ4_add (ws_ yJ4_add cJ4_add 2 (some .boolean)) rmJ4_add ([aR (some v0), aR v1].map vv) h (qI Q) := by
  refine Ct.of hS0 (by decide +kernel) rfl (Nat.le_of_ble_eq_true rfl) fun x hxS F hnm => ?_
  subst hxS
  unfold f_J4_add at hk
  exact g_aload_n F dJ4_add_0 rfl 0 rfl <|
g_aload_n F dJ4_add_1 rfl 1 rfl <|
g_calli0 (g_V F dJ4_add_2 q1034 mi_J4_offer ct_J4 (rm' := rmJ4_offer) ⟨Nat.le_of_ble_eq_true rfl, Nat.le_of_ble_eq_true rfl⟩ ⟨Nat.le_refl 0, Nat.le_refl 0⟩ (As := [aR v1]) (rest := []) rfl rfl (Nat.le_of_ble_eq_true rfl) hk (fun a3 hk => m_J4_offer F.ok a3 v1 h _ hk)) ⟨rfl, rfl⟩ fun x2 h1 hk =>
g_zret F dJ4_add_5 (Nat.le_refl 0) (Nat.le_refl 0) hk.1 hk.2
abbrev rmJ4_siftDownUsingComparator : Room := { frames := 5, cells := 0, slots := 0, locals := 105 }
theorem s_J4_siftDownUsingComparator_j61 {x : Cx} (F : Fx x cJ4_siftDownUsingComparator "java/util/PriorityQueue" 9 none rmJ4_siftDownUsingComparator) {Q : hH → Prop} {K5 : Int32 → Option Nat → Option Nat → Int32 → Option Nat → Int32 → hH → Prop} {K74 : Int32 → Option Nat → Option Nat → hH → Prop} (l0 : Int32) (l1 : Option Nat) (l2 : Option Nat) (l3 : Int32) (l4 : Option Nat) (l5 : Int32) (l6 : Int32) (l7 : Option Nat) (h : hH) (hk : f_J4_siftDownUsingComparator_j61 x.S.E Q K5 K74 l0 l1 l2 l3 l4 l5 l6 l7 h) (hK5 : ∀ (l0 : Int32) (l1 : Option Nat) (l2 : Option Nat) (l3 : Int32) (l4 : Option Nat) (l5 : Int32) (h : hH), K5 l0 l1 l2 l3 l4 l5 h → G x (xQ x rmJ4_siftDownUsingComparator (qV Q)) 5 [(0, aI l0), (1, aR l1), (2, aR l2), (3, aI l3), (4, aR l4), (5, aI l5)] [] h 0 0) (hK74 : ∀ (l0 : Int32) (l1 : Option Nat) (l2 : Option Nat) (h : hH), K74 l0 l1 l2 h → G x (xQ x rmJ4_siftDownUsingComparator (qV Q)) 74 [(0, aI l0), (1, aR l1), (2, aR l2)] [] h 0 0) : G x (xQ x rmJ4_siftDownUsingComparator (qV Q)) 61 [(0, aI l0), (1, aR l1), (2, aR l2), (3, aI l3), (4, aR l4), (5, aI l5), (6, aI l6), (7, aR l7)] [] h 0 0 := by
  unfold f_J4_siftDownUsingComparator_j61 at hk
  exact g_aload F dJ4_siftDownUsingComparator_61 4 rfl <|
g_aload_n F dJ4_siftDownUsingComparator_63 rfl 1 rfl <|
g_aload F dJ4_siftDownUsingComparator_64 7 rfl <|
hk.elim (fun hk => g_calli05 (g_F (y0 := ({ cls := "java/util/Comparator", name := "compare", desc := "(Ljava/lang/Object;Ljava/lang/Object;)I" } : MethodName)) F dJ4_siftDownUsingComparator_66 q1052 q1072 q1070 q119 q1074 (F.face q1054 q1053 q1073 q1071 q1069 ⟨by decide, by decide⟩) moi_java_util_Comparator_compare__Ljava_lang_Object_Ljava_lang_Object__I ct_X4 (rm' := rmX4_compare) ⟨Nat.le_of_ble_eq_true rfl, Nat.le_of_ble_eq_true rfl⟩ ⟨Nat.le_refl 0, Nat.le_refl 0⟩ (As := [aR l1, aR l7]) (rest := []) rfl rfl (Nat.le_of_ble_eq_true rfl) hk (fun a4 hk => m_X4_compare F.ok a4 l1 l7 h _ hk)) ⟨rfl, rfl⟩ fun x2 h1 hk =>
g_if_gt F dJ4_siftDownUsingComparator_71 (tgt := 77) rfl (fun hc => have hk := hk.1 hc
g_aload_n F dJ4_siftDownUsingComparator_77 rfl 2 rfl <|
g_iload_n F dJ4_siftDownUsingComparator_78 rfl 0 rfl <|
g_aload F dJ4_siftDownUsingComparator_79 7 rfl <|
g_aast4 F dJ4_siftDownUsingComparator_81 hk fun h3 hk =>
g_iload F dJ4_siftDownUsingComparator_82 6 rfl <|
g_istore_n F dJ4_siftDownUsingComparator_84 rfl (Nat.le_of_ble_eq_true rfl) rfl <|
g_goto F dJ4_siftDownUsingComparator_85 (tgt := 5) rfl <|
G.fewer [0, 1, 2, 3, 4, 5] rfl <| hK5 l6 l1 l2 l3 l4 l5 h3 hk) (fun hc => have hk := hk.2 hc
G.fewer [0, 1, 2] rfl <| hK74 l0 l1 l2 h1 hk)) (fun hk => g_calli05 (g_F (y0 := ({ cls := "java/util/Comparator", name := "compare", desc := "(Ljava/lang/Object;Ljava/lang/Object;)I" } : MethodName)) F dJ4_siftDownUsingComparator_66 q1052 q1058 q1056 q166 q1060 (F.face q1054 q1053 q1059 q1057 q1055 ⟨by decide, by decide⟩) moi_java_util_Comparator_compare__Ljava_lang_Object_Ljava_lang_Object__I ct_X17 (rm' := rmX17_compare) ⟨Nat.le_of_ble_eq_true rfl, Nat.le_of_ble_eq_true rfl⟩ ⟨Nat.le_refl 0, Nat.le_refl 0⟩ (As := [aR l1, aR l7]) (rest := []) rfl rfl (Nat.le_of_ble_eq_true rfl) hk (fun a5 hk => m_X17_compare F.ok a5 l1 l7 h _ hk)) ⟨rfl, rfl⟩ fun x2 h1 hk =>
g_if_gt F dJ4_siftDownUsingComparator_71 (tgt := 77) rfl (fun hc => have hk := hk.1 hc
g_aload_n F dJ4_siftDownUsingComparator_77 rfl 2 rfl <|
g_iload_n F dJ4_siftDownUsingComparator_78 rfl 0 rfl <|
g_aload F dJ4_siftDownUsingComparator_79 7 rfl <|
g_aast4 F dJ4_siftDownUsingComparator_81 hk fun h3 hk =>
g_iload F dJ4_siftDownUsingComparator_82 6 rfl <|
g_istore_n F dJ4_siftDownUsingComparator_84 rfl (Nat.le_of_ble_eq_true rfl) rfl <|
g_goto F dJ4_siftDownUsingComparator_85 (tgt := 5) rfl <|
G.fewer [0, 1, 2, 3, 4, 5] rfl <| hK5 l6 l1 l2 l3 l4 l5 h3 hk) (fun hc => have hk := hk.2 hc
G.fewer [0, 1, 2] rfl <| hK74 l0 l1 l2 h1 hk))
theorem s_J4_siftDownUsingComparator_l5 {x : Cx} (F : Fx x cJ4_siftDownUsingComparator "java/util/PriorityQueue" 9 none rmJ4_siftDownUsingComparator) {Q : hH → Prop} {K74 : Int32 → Option Nat → Option Nat → hH → Prop} {K88 : Int32 → Option Nat → Option Nat → hH → Prop} (n : Nat) (l0 : Int32) (l1 : Option Nat) (l2 : Option Nat) (l3 : Int32) (l4 : Option Nat) (l5 : Int32) (h : hH) (hk : f_J4_siftDownUsingComparator_l5 x.S.E Q K74 K88 n l0 l1 l2 l3 l4 l5 h) (hK74 : ∀ (l0 : Int32) (l1 : Option Nat) (l2 : Option Nat) (h : hH), K74 l0 l1 l2 h → G x (xQ x rmJ4_siftDownUsingComparator (qV Q)) 74 [(0, aI l0), (1, aR l1), (2, aR l2)] [] h 0 0) (hK88 : ∀ (l0 : Int32) (l1 : Option Nat) (l2 : Option Nat) (h : hH), K88 l0 l1 l2 h → G x (xQ x rmJ4_siftDownUsingComparator (qV Q)) 88 [(0, aI l0), (1, aR l1), (2, aR l2)] [] h 0 0) : G x (xQ x rmJ4_siftDownUsingComparator (qV Q)) 5 [(0, aI l0), (1, aR l1), (2, aR l2), (3, aI l3), (4, aR l4), (5, aI l5)] [] h 0 0 := by
  induction n generalizing l0 l1 l2 l3 l4 l5 h with
  | zero => exact False.elim hk
  | succ n ih =>
    unfold f_J4_siftDownUsingComparator_l5 at hk
    exact g_iload_n F dJ4_siftDownUsingComparator_5 rfl 0 rfl <|
g_iload F dJ4_siftDownUsingComparator_6 5 rfl <|
g_icmp_ge F dJ4_siftDownUsingComparator_8 (tgt := 88) rfl (fun hc => have hk := hk.1 hc
G.fewer [0, 1, 2] rfl <| hK88 l0 l1 l2 h hk) (fun hc => have hk := hk.2 hc
g_iload_n F dJ4_siftDownUsingComparator_11 rfl 0 rfl <|
g_iconst F dJ4_siftDownUsingComparator_12 ic_1 <|
g_ishl F dJ4_siftDownUsingComparator_13 <|
g_iconst F dJ4_siftDownUsingComparator_14 ic_1 <|
g_iadd F dJ4_siftDownUsingComparator_15 <|
g_istore F dJ4_siftDownUsingComparator_16 (Nat.le_of_ble_eq_true rfl) rfl <|
g_aload_n F dJ4_siftDownUsingComparator_18 rfl 3 rfl <|
g_iload F dJ4_siftDownUsingComparator_19 0 rfl <|
g_aald (t := 4) F dJ4_siftDownUsingComparator_21 rfl rfl hk fun x6 hk =>
g_astore F dJ4_siftDownUsingComparator_22 (Nat.le_of_ble_eq_true rfl) rfl <|
g_iload F dJ4_siftDownUsingComparator_24 1 rfl <|
g_iconst F dJ4_siftDownUsingComparator_26 ic_1 <|
g_iadd F dJ4_siftDownUsingComparator_27 <|
g_istore F dJ4_siftDownUsingComparator_28 (Nat.le_of_ble_eq_true rfl) rfl <|
g_iload F dJ4_siftDownUsingComparator_30 0 rfl <|
g_iload_n F dJ4_siftDownUsingComparator_32 rfl 6 rfl <|
g_icmp_ge F dJ4_siftDownUsingComparator_33 (tgt := 61) rfl (fun hc => have hk := hk.1 hc
G.fewer [3, 4, 5, 6, 7, 8, 2, 1] rfl <| s_J4_siftDownUsingComparator_j61 F l0 l1 l2 l3 l4 l5 ((l0 <<< ((1:Int32) &&& 31)) + (1:Int32)) x6 h hk ih hK74) (fun hc => have hk := hk.2 hc
g_aload F dJ4_siftDownUsingComparator_36 7 rfl <|
g_aload F dJ4_siftDownUsingComparator_38 1 rfl <|
g_aload_n F dJ4_siftDownUsingComparator_40 rfl 5 rfl <|
g_iload F dJ4_siftDownUsingComparator_41 0 rfl <|
g_aald (t := 4) F dJ4_siftDownUsingComparator_43 rfl rfl hk fun x7 hk =>
hk.elim (fun hk => g_calli05 (g_F (y0 := ({ cls := "java/util/Comparator", name := "compare", desc := "(Ljava/lang/Object;Ljava/lang/Object;)I" } : MethodName)) F dJ4_siftDownUsingComparator_44 q1052 q1072 q1070 q119 q1074 (F.face q1054 q1053 q1073 q1071 q1069 ⟨by decide, by decide⟩) moi_java_util_Comparator_compare__Ljava_lang_Object_Ljava_lang_Object__I ct_X4 (rm' := rmX4_compare) ⟨Nat.le_of_ble_eq_true rfl, Nat.le_of_ble_eq_true rfl⟩ ⟨Nat.le_refl 0, Nat.le_refl 0⟩ (As := [aR x6, aR x7]) (rest := []) rfl rfl (Nat.le_of_ble_eq_true rfl) hk (fun a11 hk => m_X4_compare F.ok a11 x6 x7 h _ hk)) ⟨rfl, rfl⟩ fun x9 h8 hk =>
g_if_le F dJ4_siftDownUsingComparator_49 (tgt := 61) rfl (fun hc => have hk := hk.1 hc
G.fewer [3, 4, 5, 6, 7, 8, 2, 1] rfl <| s_J4_siftDownUsingComparator_j61 F l0 l1 l2 l3 l4 l5 ((l0 <<< ((1:Int32) &&& 31)) + (1:Int32)) x6 h8 hk ih hK74) (fun hc => have hk := hk.2 hc
g_aload_n F dJ4_siftDownUsingComparator_52 rfl 5 rfl <|
g_iload F dJ4_siftDownUsingComparator_53 0 rfl <|
g_dup F dJ4_siftDownUsingComparator_55 rfl <|
g_istore F dJ4_siftDownUsingComparator_56 (Nat.le_of_ble_eq_true rfl) rfl <|
g_aald (t := 4) F dJ4_siftDownUsingComparator_58 rfl rfl hk fun x10 hk =>
g_astore F dJ4_siftDownUsingComparator_59 (Nat.le_of_ble_eq_true rfl) rfl <|
G.fewer [3, 4, 5, 6, 7, 8, 1, 0] rfl <| s_J4_siftDownUsingComparator_j61 F l0 l1 l2 l3 l4 l5 (((l0 <<< ((1:Int32) &&& 31)) + (1:Int32)) + (1:Int32)) x10 h8 hk ih hK74)) (fun hk => g_calli05 (g_F (y0 := ({ cls := "java/util/Comparator", name := "compare", desc := "(Ljava/lang/Object;Ljava/lang/Object;)I" } : MethodName)) F dJ4_siftDownUsingComparator_44 q1052 q1058 q1056 q166 q1060 (F.face q1054 q1053 q1059 q1057 q1055 ⟨by decide, by decide⟩) moi_java_util_Comparator_compare__Ljava_lang_Object_Ljava_lang_Object__I ct_X17 (rm' := rmX17_compare) ⟨Nat.le_of_ble_eq_true rfl, Nat.le_of_ble_eq_true rfl⟩ ⟨Nat.le_refl 0, Nat.le_refl 0⟩ (As := [aR x6, aR x7]) (rest := []) rfl rfl (Nat.le_of_ble_eq_true rfl) hk (fun a12 hk => m_X17_compare F.ok a12 x6 x7 h _ hk)) ⟨rfl, rfl⟩ fun x9 h8 hk =>
g_if_le F dJ4_siftDownUsingComparator_49 (tgt := 61) rfl (fun hc => have hk := hk.1 hc
G.fewer [3, 4, 5, 6, 7, 8, 2, 1] rfl <| s_J4_siftDownUsingComparator_j61 F l0 l1 l2 l3 l4 l5 ((l0 <<< ((1:Int32) &&& 31)) + (1:Int32)) x6 h8 hk ih hK74) (fun hc => have hk := hk.2 hc
g_aload_n F dJ4_siftDownUsingComparator_52 rfl 5 rfl <|
g_iload F dJ4_siftDownUsingComparator_53 0 rfl <|
g_dup F dJ4_siftDownUsingComparator_55 rfl <|
g_istore F dJ4_siftDownUsingComparator_56 (Nat.le_of_ble_eq_true rfl) rfl <|
g_aald (t := 4) F dJ4_siftDownUsingComparator_58 rfl rfl hk fun x10 hk =>
g_astore F dJ4_siftDownUsingComparator_59 (Nat.le_of_ble_eq_true rfl) rfl <|
G.fewer [3, 4, 5, 6, 7, 8, 1, 0] rfl <| s_J4_siftDownUsingComparator_j61 F l0 l1 l2 l3 l4 l5 (((l0 <<< ((1:Int32) &&& 31)) + (1:Int32)) + (1:Int32)) x10 h8 hk ih hK74))))
theorem s_J4_siftDownUsingComparator_j88 {x : Cx} (F : Fx x cJ4_siftDownUsingComparator "java/util/PriorityQueue" 9 none rmJ4_siftDownUsingComparator) {Q : hH → Prop} (l0 : Int32) (l1 : Option Nat) (l2 : Option Nat) (h : hH) (hk : f_J4_siftDownUsingComparator_j88 x.S.E Q l0 l1 l2 h) : G x (xQ x rmJ4_siftDownUsingComparator (qV Q)) 88 [(0, aI l0), (1, aR l1), (2, aR l2)] [] h 0 0 := by
  unfold f_J4_siftDownUsingComparator_j88 at hk
  exact g_aload_n F dJ4_siftDownUsingComparator_88 rfl 2 rfl <|
g_iload_n F dJ4_siftDownUsingComparator_89 rfl 0 rfl <|
g_aload_n F dJ4_siftDownUsingComparator_90 rfl 1 rfl <|
g_aast4 F dJ4_siftDownUsingComparator_91 hk fun h13 hk =>
g_vret F dJ4_siftDownUsingComparator_92 (Nat.le_refl 0) (Nat.le_refl 0) hk
theorem m_J4_siftDownUsingComparator {S : Sx} (hS0 : Sok S) (v0 : Int32) (v1 : Option Nat) (v2 : Option Nat) (v3 : Int32) (v4 : Option Nat) (h : hH) (Q : hH → Prop) (hk : f_J4_siftDownUsingComparator S.E v0 v1 v2 v3 v4 h Q) : Ct S yJ4_siftDownUsingComparator (ws_ yJ4_siftDownUsingComparator cJ4_siftDownUsingComparator 9 none) rmJ4_siftDownUsingComparator ([aI v0, aR v1, aR v2, aI v3, aR v4].map vv) h (qV Q) := by
  refine Ct.of hS0 (by decide +kernel) rfl (Nat.le_of_ble_eq_true rfl) fun x hxS F hnm => ?_
  subst hxS
  unfold f_J4_siftDownUsingComparator at hk
  exact g_iload_n F dJ4_siftDownUsingComparator_0 rfl 3 rfl <|
g_iconst F dJ4_siftDownUsingComparator_1 ic_1 <|
g_iushr F dJ4_siftDownUsingComparator_2 <|
g_istore F dJ4_siftDownUsingComparator_3 (Nat.le_of_ble_eq_true rfl) rfl <|
G.fewer [1, 2, 3, 4, 5, 0] rfl <| s_J4_siftDownUsingComparator_l5 F 1000000 v0 v1 v2 v3 v4 (iUsh v3 (1:Int32)) h hk ((fun l0 l1 l2 h hk => g_goto F dJ4_siftDownUsingComparator_74 (tgt := 88) rfl <|
s_J4_siftDownUsingComparator_j88 F l0 l1 l2 h hk )) ((fun l0 l1 l2 h hk => s_J4_siftDownUsingComparator_j88 F l0 l1 l2 h hk ))
abbrev rmJ4_poll : Room := { frames := 6, cells := 0, slots := 0, locals := 133 }
theorem m_J4_poll {S : Sx} (hS0 : Sok S) (v0 : Nat) (h : hH) (Q : Option Nat → hH → Prop) (hk : f_J4_poll S.E v0 h Q) : Ct S yJ4_poll (ws_ yJ4_poll cJ4_poll 6 (some (.object "java/lang/Object"))) rmJ4_poll ([aR (some v0)].map vv) h (qR Q) := by
  refine Ct.of hS0 (by decide +kernel) rfl (Nat.le_of_ble_eq_true rfl) fun x hxS F hnm => ?_
  subst hxS
  unfold f_J4_poll at hk
  exact g_aload_n F dJ4_poll_0 rfl 0 rfl <|
g_getR F dJ4_poll_1 fo_J4_0_java_util_PriorityQueue in_J4 fl_java_util_PriorityQueue_17_J4 hk fun x1 hk =>
g_dup F dJ4_poll_4 rfl <|
g_astore_n F dJ4_poll_5 rfl (Nat.le_of_ble_eq_true rfl) rfl <|
g_iconst F dJ4_poll_6 ic_0 <|
g_aald (t := 4) F dJ4_poll_7 rfl rfl hk fun x2 hk =>
g_dup F dJ4_poll_8 rfl <|
g_astore_n F dJ4_poll_9 rfl (Nat.le_of_ble_eq_true rfl) rfl <|
g_ifnull F dJ4_poll_10 (tgt := 79) rfl (fun hc => have hk := hk.1 hc
g_aload_n F dJ4_poll_79 rfl 0 rfl <|
g_aret F (Or.inl ⟨_, rfl⟩) dJ4_poll_80 (Nat.le_refl 0) (Nat.le_refl 0) hk) (fun hc => have hk := hk.2 hc
g_aload_n F dJ4_poll_13 rfl 2 rfl <|
g_dup F dJ4_poll_14 rfl <|
g_getI F dJ4_poll_15 fo_J4_3_java_util_PriorityQueue in_J4 fl_java_util_PriorityQueue_93_J4 hk fun x3 hk =>
g_iconst F dJ4_poll_18 ic_1 <|
g_iadd F dJ4_poll_19 <|
g_putV F dJ4_poll_20 fo_J4_3_java_util_PriorityQueue ck_J4 fl_java_util_PriorityQueue_93_J4 rfl (v := aI (x3 + (1:Int32))) (fit_i (x3 + (1:Int32))) hk fun h4 hk =>
g_aload_n F dJ4_poll_23 rfl 1 rfl <|
g_aload_n F dJ4_poll_24 rfl 2 rfl <|
g_dup F dJ4_poll_25 rfl <|
g_getI F dJ4_poll_26 fo_J4_1_java_util_PriorityQueue in_J4 fl_java_util_PriorityQueue_58_J4 hk fun x5 hk =>
g_iconst F dJ4_poll_29 ic_1 <|
g_isub F dJ4_poll_30 <|
g_dup_x1 F dJ4_poll_31 rfl rfl <|
g_putV F dJ4_poll_32 fo_J4_1_java_util_PriorityQueue ck_J4 fl_java_util_PriorityQueue_58_J4 rfl (v := aI (x5 - (1:Int32))) (fit_i (x5 - (1:Int32))) hk fun h6 hk =>
g_dup F dJ4_poll_35 rfl <|
g_istore_n F dJ4_poll_36 rfl (Nat.le_of_ble_eq_true rfl) rfl <|
g_aald (t := 4) F dJ4_poll_37 rfl rfl hk fun x7 hk =>
g_astore F dJ4_poll_38 (Nat.le_of_ble_eq_true rfl) rfl <|
g_aload_n F dJ4_poll_40 rfl 3 rfl <|
g_iload_n F dJ4_poll_41 rfl 1 rfl <|
g_null F dJ4_poll_42 <|
g_aast4 F dJ4_poll_43 hk fun h8 hk =>
g_iload_n F dJ4_poll_44 rfl 1 rfl <|
g_if_le F dJ4_poll_45 (tgt := 79) rfl (fun hc => have hk := hk.1 hc
g_aload_n F dJ4_poll_79 rfl 2 rfl <|
g_aret F (Or.inl ⟨_, rfl⟩) dJ4_poll_80 (Nat.le_refl 0) (Nat.le_refl 0) hk) (fun hc => have hk := hk.2 hc
g_aload_n F dJ4_poll_48 rfl 4 rfl <|
g_getR F dJ4_poll_49 fo_J4_2_java_util_PriorityQueue in_J4 fl_java_util_PriorityQueue_21_J4 hk fun x9 hk =>
g_dup F dJ4_poll_52 rfl <|
g_astore F dJ4_poll_53 (Nat.le_of_ble_eq_true rfl) rfl <|
g_ifnonnull F dJ4_poll_55 (tgt := 69) rfl (fun hc => have hk := hk.2 hc
g_iconst F dJ4_poll_69 ic_0 <|
g_aload F dJ4_poll_70 1 rfl <|
g_aload_n F dJ4_poll_72 rfl 4 rfl <|
g_iload_n F dJ4_poll_73 rfl 2 rfl <|
g_aload F dJ4_poll_74 0 rfl <|
g_callv0 (g_S F dJ4_poll_76 q1312 ms_J4_siftDownUsingComparator (rm' := rmJ4_siftDownUsingComparator) ⟨Nat.le_of_ble_eq_true rfl, Nat.le_of_ble_eq_true rfl⟩ ⟨Nat.le_refl 0, Nat.le_refl 0⟩ (As := [aI (0:Int32), aR x7, aR x1, aI (x5 - (1:Int32)), aR x9]) (rest := []) rfl rfl (Nat.le_of_ble_eq_true rfl) (m_J4_siftDownUsingComparator F.ok (0:Int32) x7 x1 (x5 - (1:Int32)) x9 h8 _ hk)) ⟨rfl, rfl⟩ fun h10 hk =>
g_aload_n F dJ4_poll_79 rfl 3 rfl <|
g_aret F (Or.inl ⟨_, rfl⟩) dJ4_poll_80 (Nat.le_refl 0) (Nat.le_refl 0) hk) (fun hc => have hk := hk.1 hc
g_iconst F dJ4_poll_58 ic_0 <|
g_aload F dJ4_poll_59 1 rfl <|
g_aload_n F dJ4_poll_61 rfl 4 rfl <|
g_iload_n F dJ4_poll_62 rfl 2 rfl <|
False.elim hk)))
abbrev rmJ42_init : Room := { frames := 2, cells := 0, slots := 0, locals := 40 }
theorem m_J42_init {S : Sx} (hS0 : Sok S) (v0 : Nat) (v1 : Option Nat) (h : hH) (Q : hH → Prop) (hk : f_J42_init S.E v0 v1 h Q) : Ct S yJ42_init (ws_ yJ42_init cJ42_init 2 none) rmJ42_init ([aR (some v0), aR v1].map vv) h (qV Q) := by
  refine Ct.of hS0 (by decide +kernel) rfl (Nat.le_of_ble_eq_true rfl) fun x hxS F hnm => ?_
  subst hxS
  unfold f_J42_init at hk
  exact g_aload_n F dJ42_init_0 rfl 0 rfl <|
g_aload_n F dJ42_init_1 rfl 1 rfl <|
g_putF F dJ42_init_2 fo_J42_5_java_util_PriorityQueue_Itr ck_J42 q2414 rfl hnm rfl (v := aR v1) (fit_rf "java/util/PriorityQueue" v1) hk fun h1 hk =>
g_aload_n F dJ42_init_5 rfl 0 rfl <|
g_objInit (rest := []) F dJ42_init_6 q2408 q182 q_objcode (Nat.le_of_ble_eq_true rfl) (Nat.le_of_ble_eq_true rfl) <|
g_aload_n F dJ42_init_9 rfl 0 rfl <|
g_iconst F dJ42_init_10 ic_m1 <|
g_putV F dJ42_init_11 fo_J42_1_java_util_PriorityQueue_Itr ck_J42 fl_java_util_PriorityQueue_Itr_13_J42 rfl (v := aI (-1:Int32)) (fit_i (-1:Int32)) hk fun h2 hk =>
g_aload_n F dJ42_init_14 rfl 0 rfl <|
g_aload_n F dJ42_init_15 rfl 0 rfl <|
g_getR F dJ42_init_16 fo_J42_5_java_util_PriorityQueue_Itr in_J42 fl_java_util_PriorityQueue_Itr_1_J42 hk fun x3 hk =>
g_getI F dJ42_init_19 fo_J4_3_java_util_PriorityQueue in_J4 fl_java_util_PriorityQueue_Itr_17_J4 hk fun x4 hk =>
g_putV F dJ42_init_22 fo_J42_4_java_util_PriorityQueue_Itr ck_J42 fl_java_util_PriorityQueue_Itr_22_J42 rfl (v := aI x4) (fit_i x4) hk fun h5 hk =>
g_vret F dJ42_init_25 (Nat.le_refl 0) (Nat.le_refl 0) hk
abbrev rmJ4_iterator : Room := { frames := 3, cells := 1, slots := 6, locals := 61 }
theorem m_J4_iterator {S : Sx} (hS0 : Sok S) (v0 : Nat) (h : hH) (Q : Option Nat → hH → Prop) (hk : f_J4_iterator S.E v0 h Q) : Ct S yJ4_iterator (ws_ yJ4_iterator cJ4_iterator 1 (some (.object "java/util/Iterator"))) rmJ4_iterator ([aR (some v0)].map vv) h (qR Q) := by
  refine Ct.of hS0 (by decide +kernel) rfl (Nat.le_of_ble_eq_true rfl) fun x hxS F hnm => ?_
  subst hxS
  unfold f_J4_iterator at hk
  have hM : 0 + 1 ≤ 1 := by omega
  have hS : 0 + 6 ≤ 6 := by omega
  refine G.widen (c' := 0 + 0) (k' := 0 + 0) (Nat.le_refl 0) (Nat.le_refl 0) ?_
  exact g_new (fs := [.int 0, .int 0, va_rf none, va_rf none, .int 0, va_rf none]) F dJ4_iterator_0 ck_J42 ct_J42 q2403 q2404 q174 df_J42 (show 0 + 0 + 1 ≤ 1 by omega) (show 0 + 0 + 6 ≤ 6 by omega) hk fun q1 h2 hk =>
g_dup F dJ4_iterator_3 rfl <|
g_aload_n F dJ4_iterator_4 rfl 0 rfl <|
g_callv0 (g_I F dJ4_iterator_5 q2405 mc_J42_init (rm' := rmJ42_init) ⟨Nat.le_of_ble_eq_true rfl, Nat.le_of_ble_eq_true rfl⟩ ⟨show 0 + 0 + 1 + 0 ≤ 1 by omega, show 0 + 0 + 6 + 0 ≤ 6 by omega⟩ (As := [aR (some v0)]) (rest := [aR (some q1)]) rfl rfl (Nat.le_of_ble_eq_true rfl) (m_J42_init F.ok q1 (some v0) h2 _ hk)) ⟨rfl, rfl⟩ fun h3 hk =>
g_aret F (Or.inl ⟨_, rfl⟩) dJ4_iterator_8 (show 0 + 0 + 1 ≤ 1 by omega) (show 0 + 0 + 6 ≤ 6 by omega) hk
abbrev rmJ5_elementAt : Room := { frames := 2, cells := 0, slots := 0, locals := 40 }
theorem m_J5_elementAt {S : Sx} (hS0 : Sok S) (v0 : Option Nat) (v1 : Int32) (h : hH) (Q : Option Nat → hH → Prop) (hk : f_J5_elementAt S.E v0 v1 h Q) : Ct S yJ5_elementAt (ws_ yJ5_elementAt cJ5_elementAt 2 (some (.object "java/lang/Object"))) rmJ5_elementAt ([aR v0, aI v1].map vv) h (qR Q) := by
  refine Ct.of hS0 (by decide +kernel) rfl (Nat.le_of_ble_eq_true rfl) fun x hxS F hnm => ?_
  subst hxS
  unfold f_J5_elementAt at hk
  exact g_aload_n F dJ5_elementAt_0 rfl 0 rfl <|
g_iload_n F dJ5_elementAt_1 rfl 1 rfl <|
g_aald (t := 4) F dJ5_elementAt_2 rfl rfl hk fun x1 hk =>
g_aret F (Or.inl ⟨_, rfl⟩) dJ5_elementAt_3 (Nat.le_refl 0) (Nat.le_refl 0) hk
abbrev rmJ5_inc : Room := { frames := 2, cells := 0, slots := 0, locals := 40 }
theorem m_J5_inc {S : Sx} (hS0 : Sok S) (v0 : Int32) (v1 : Int32) (h : hH) (Q : Int32 → hH → Prop) (hk : f_J5_inc S.E v0 v1 h Q) : Ct S yJ5_inc (ws_ yJ5_inc cJ5_inc 2 (some .int)) rmJ5_inc ([aI v0, aI v1].map vv) h (qI Q) := by
  refine Ct.of hS0 (by decide +kernel) rfl (Nat.le_of_ble_eq_true rfl) fun x hxS F hnm => ?_
  subst hxS
  unfold f_J5_inc at hk
  exact g_iinc (v := (v0 + (1:Int32))) F dJ5_inc_0 (j := 0) rfl (iinc_1 v0) (Nat.le_of_ble_eq_true rfl) rfl <|
g_iload_n F dJ5_inc_3 rfl 0 rfl <|
g_iload_n F dJ5_inc_4 rfl 1 rfl <|
g_icmp_lt F dJ5_inc_5 (tgt := 10) rfl (fun hc => have hk := hk.1 hc
g_iload_n F dJ5_inc_10 rfl 0 rfl <|
g_iret F dJ5_inc_11 (Nat.le_refl 0) (Nat.le_refl 0) hk) (fun hc => have hk := hk.2 hc
g_iconst F dJ5_inc_8 ic_0 <|
g_istore_n F dJ5_inc_9 rfl (Nat.le_of_ble_eq_true rfl) rfl <|
g_iload_n F dJ5_inc_10 rfl 0 rfl <|
g_iret F dJ5_inc_11 (Nat.le_refl 0) (Nat.le_refl 0) hk)
abbrev rmJ5_pollFirst : Room := { frames := 3, cells := 0, slots := 0, locals := 61 }
theorem m_J5_pollFirst {S : Sx} (hS0 : Sok S) (v0 : Nat) (h : hH) (Q : Option Nat → hH → Prop) (hk : f_J5_pollFirst S.E v0 h Q) : Ct S yJ5_pollFirst (ws_ yJ5_pollFirst cJ5_pollFirst 4 (some (.object "java/lang/Object"))) rmJ5_pollFirst ([aR (some v0)].map vv) h (qR Q) := by
  refine Ct.of hS0 (by decide +kernel) rfl (Nat.le_of_ble_eq_true rfl) fun x hxS F hnm => ?_
  subst hxS
  unfold f_J5_pollFirst at hk
  exact g_aload_n F dJ5_pollFirst_0 rfl 0 rfl <|
g_getR F dJ5_pollFirst_1 fo_J5_0_java_util_ArrayDeque in_J5 fl_java_util_ArrayDeque_3_J5 hk fun x1 hk =>
g_dup F dJ5_pollFirst_4 rfl <|
g_astore_n F dJ5_pollFirst_5 rfl (Nat.le_of_ble_eq_true rfl) rfl <|
g_aload_n F dJ5_pollFirst_6 rfl 1 rfl <|
g_getI F dJ5_pollFirst_7 fo_J5_1_java_util_ArrayDeque in_J5 fl_java_util_ArrayDeque_24_J5 hk fun x2 hk =>
g_dup F dJ5_pollFirst_10 rfl <|
g_istore_n F dJ5_pollFirst_11 rfl (Nat.le_of_ble_eq_true rfl) rfl <|
g_callr0 (g_S F dJ5_pollFirst_12 q415 ms_J5_elementAt (rm' := rmJ5_elementAt) ⟨Nat.le_of_ble_eq_true rfl, Nat.le_of_ble_eq_true rfl⟩ ⟨Nat.le_refl 0, Nat.le_refl 0⟩ (As := [aR x1, aI x2]) (rest := []) rfl rfl (Nat.le_of_ble_eq_true rfl) (m_J5_elementAt F.ok x1 x2 h _ hk)) ⟨rfl, rfl⟩ fun x4 h3 hk =>
g_astore_n F dJ5_pollFirst_15 rfl (Nat.le_of_ble_eq_true rfl) rfl <|
g_aload_n F dJ5_pollFirst_16 rfl 0 rfl <|
g_ifnull F dJ5_pollFirst_17 (tgt := 34) rfl (fun hc => have hk := hk.1 hc
g_aload_n F dJ5_pollFirst_34 rfl 0 rfl <|
g_aret F (Or.inl ⟨_, rfl⟩) dJ5_pollFirst_35 (Nat.le_refl 0) (Nat.le_refl 0) hk) (fun hc => have hk := hk.2 hc
g_aload_n F dJ5_pollFirst_20 rfl 2 rfl <|
g_iload_n F dJ5_pollFirst_21 rfl 1 rfl <|
g_null F dJ5_pollFirst_22 <|
g_aast4 F dJ5_pollFirst_23 hk fun h5 hk =>
g_aload_n F dJ5_pollFirst_24 rfl 3 rfl <|
g_iload_n F dJ5_pollFirst_25 rfl 1 rfl <|
g_aload_n F dJ5_pollFirst_26 rfl 2 rfl <|
g_alen (t := 4) F dJ5_pollFirst_27 rfl hk fun x6 hk =>
g_calli0 (g_S F dJ5_pollFirst_28 q2029 ms_J5_inc (rm' := rmJ5_inc) ⟨Nat.le_of_ble_eq_true rfl, Nat.le_of_ble_eq_true rfl⟩ ⟨Nat.le_refl 0, Nat.le_refl 0⟩ (As := [aI x2, aI x6]) (rest := [aR (some v0)]) rfl rfl (Nat.le_of_ble_eq_true rfl) (m_J5_inc F.ok x2 x6 h5 _ hk)) ⟨rfl, rfl⟩ fun x8 h7 hk =>
g_putV F dJ5_pollFirst_31 fo_J5_1_java_util_ArrayDeque ck_J5 fl_java_util_ArrayDeque_24_J5 rfl (v := aI x8) (fit_i x8) hk fun h9 hk =>
g_aload_n F dJ5_pollFirst_34 rfl 0 rfl <|
g_aret F (Or.inl ⟨_, rfl⟩) dJ5_pollFirst_35 (Nat.le_refl 0) (Nat.le_refl 0) hk)
abbrev rmJ5_poll : Room := { frames := 4, cells := 0, slots := 0, locals := 84 }
theorem m_J5_poll {S : Sx} (hS0 : Sok S) (v0 : Nat) (h : hH) (Q : Option Nat → hH → Prop) (hk : f_J5_poll S.E v0 h Q) : Ct S yJ5_poll (ws_ yJ5_poll cJ5_poll 1 (some (.object "java/lang/Object"))) rmJ5_poll ([aR (some v0)].map vv) h (qR Q) := by
  refine Ct.of hS0 (by decide +kernel) rfl (Nat.le_of_ble_eq_true rfl) fun x hxS F hnm => ?_
  subst hxS
  unfold f_J5_poll at hk
  exact g_aload_n F dJ5_poll_0 rfl 0 rfl <|
g_callr0 (g_V F dJ5_poll_1 q2025 mi_J5_pollFirst ct_J5 (rm' := rmJ5_pollFirst) ⟨Nat.le_of_ble_eq_true rfl, Nat.le_of_ble_eq_true rfl⟩ ⟨Nat.le_refl 0, Nat.le_refl 0⟩ (As := []) (rest := []) rfl rfl (Nat.le_of_ble_eq_true rfl) hk (fun a3 hk => m_J5_pollFirst F.ok a3 h _ hk)) ⟨rfl, rfl⟩ fun x2 h1 hk =>
g_aret F (Or.inl ⟨_, rfl⟩) dJ5_poll_4 (Nat.le_refl 0) (Nat.le_refl 0) hk
abbrev rmJ42_next : Room := { frames := 5, cells := 0, slots := 0, locals := 104 }
theorem s_J42_next_j96 {x : Cx} (F : Fx x cJ42_next "java/util/PriorityQueue$Itr" 1 (some (.object "java/lang/Object")) rmJ42_next) {v0 : Nat} {Q : Option Nat → hH → Prop} (h : hH) (hk : f_J42_next_j96 x.S.E v0 Q h) : G x (xQ x rmJ42_next (qR Q)) 96 [] [] h 0 0 := by
  unfold f_J42_next_j96 at hk
  exact False.elim hk
theorem m_J42_next {S : Sx} (hS0 : Sok S) (v0 : Nat) (h : hH) (Q : Option Nat → hH → Prop) (hk : f_J42_next S.E v0 h Q) : Ct S yJ42_next (ws_ yJ42_next cJ42_next 1 (some (.object "java/lang/Object"))) rmJ42_next ([aR (some v0)].map vv) h (qR Q) := by
  refine Ct.of hS0 (by decide +kernel) rfl (Nat.le_of_ble_eq_true rfl) fun x hxS F hnm => ?_
  subst hxS
  unfold f_J42_next at hk
  exact g_aload_n F dJ42_next_0 rfl 0 rfl <|
g_getI F dJ42_next_1 fo_J42_4_java_util_PriorityQueue_Itr in_J42 fl_java_util_PriorityQueue_Itr_22_J42 hk fun x1 hk =>
g_aload_n F dJ42_next_4 rfl 0 rfl <|
g_getR F dJ42_next_5 fo_J42_5_java_util_PriorityQueue_Itr in_J42 fl_java_util_PriorityQueue_Itr_1_J42 hk fun x2 hk =>
g_getI F dJ42_next_8 fo_J4_3_java_util_PriorityQueue in_J4 fl_java_util_PriorityQueue_Itr_17_J4 hk fun x3 hk =>
g_icmp_eq F dJ42_next_11 (tgt := 22) rfl (fun hc => have hk := hk.1 hc
g_aload_n F dJ42_next_22 rfl 0 rfl <|
g_getI F dJ42_next_23 fo_J42_0_java_util_PriorityQueue_Itr in_J42 fl_java_util_PriorityQueue_Itr_25_J42 hk fun x4 hk =>
g_aload_n F dJ42_next_26 rfl 0 rfl <|
g_getR F dJ42_next_27 fo_J42_5_java_util_PriorityQueue_Itr in_J42 fl_java_util_PriorityQueue_Itr_1_J42 hk fun x5 hk =>
g_getI F dJ42_next_30 fo_J4_1_java_util_PriorityQueue in_J4 fl_java_util_PriorityQueue_Itr_28_J4 hk fun x6 hk =>
g_icmp_ge F dJ42_next_33 (tgt := 61) rfl (fun hc => have hk := hk.1 hc
g_aload_n F dJ42_next_61 rfl 0 rfl <|
g_getR F dJ42_next_62 fo_J42_2_java_util_PriorityQueue_Itr in_J42 fl_java_util_PriorityQueue_Itr_31_J42 hk fun x7 hk =>
g_ifnull F dJ42_next_65 (tgt := 96) rfl (fun hc => have hk := hk.1 hc
G.fewer [] rfl <| s_J42_next_j96 F h hk ) (fun hc => have hk := hk.2 hc
g_aload_n F dJ42_next_68 rfl 0 rfl <|
g_iconst F dJ42_next_69 ic_m1 <|
g_putV F dJ42_next_70 fo_J42_1_java_util_PriorityQueue_Itr ck_J42 fl_java_util_PriorityQueue_Itr_13_J42 rfl (v := aI (-1:Int32)) (fit_i (-1:Int32)) hk fun h8 hk =>
g_aload_n F dJ42_next_73 rfl 0 rfl <|
g_aload_n F dJ42_next_74 rfl 0 rfl <|
g_getR F dJ42_next_75 fo_J42_2_java_util_PriorityQueue_Itr in_J42 fl_java_util_PriorityQueue_Itr_31_J42 hk fun x9 hk =>
g_callr0 (g_V F dJ42_next_78 q2295 mi_J5_poll ct_J5 (rm' := rmJ5_poll) ⟨Nat.le_of_ble_eq_true rfl, Nat.le_of_ble_eq_true rfl⟩ ⟨Nat.le_refl 0, Nat.le_refl 0⟩ (As := []) (rest := [aR (some v0)]) rfl rfl (Nat.le_of_ble_eq_true rfl) hk (fun a12 hk => m_J5_poll F.ok a12 h8 _ hk)) ⟨rfl, rfl⟩ fun x11 h10 hk =>
g_putV F dJ42_next_81 fo_J42_3_java_util_PriorityQueue_Itr ck_J42 fl_java_util_PriorityQueue_Itr_52_J42 rfl (v := aR x11) (fit_rf "java/lang/Object" x11) hk fun h13 hk =>
g_aload_n F dJ42_next_84 rfl 0 rfl <|
g_getR F dJ42_next_85 fo_J42_3_java_util_PriorityQueue_Itr in_J42 fl_java_util_PriorityQueue_Itr_52_J42 hk fun x14 hk =>
g_ifnull F dJ42_next_88 (tgt := 96) rfl (fun hc => have hk := hk.1 hc
G.fewer [] rfl <| s_J42_next_j96 F h13 hk ) (fun hc => have hk := hk.2 hc
g_aload_n F dJ42_next_91 rfl 0 rfl <|
g_getR F dJ42_next_92 fo_J42_3_java_util_PriorityQueue_Itr in_J42 fl_java_util_PriorityQueue_Itr_52_J42 hk fun x15 hk =>
g_aret F (Or.inl ⟨_, rfl⟩) dJ42_next_95 (Nat.le_refl 0) (Nat.le_refl 0) hk))) (fun hc => have hk := hk.2 hc
g_aload_n F dJ42_next_36 rfl 0 rfl <|
g_getR F dJ42_next_37 fo_J42_5_java_util_PriorityQueue_Itr in_J42 fl_java_util_PriorityQueue_Itr_1_J42 hk fun x16 hk =>
g_getR F dJ42_next_40 fo_J4_0_java_util_PriorityQueue in_J4 fl_java_util_PriorityQueue_Itr_44_J4 hk fun x17 hk =>
g_aload_n F dJ42_next_43 rfl 0 rfl <|
g_aload_n F dJ42_next_44 rfl 0 rfl <|
g_dup F dJ42_next_45 rfl <|
g_getI F dJ42_next_46 fo_J42_0_java_util_PriorityQueue_Itr in_J42 fl_java_util_PriorityQueue_Itr_25_J42 hk fun x18 hk =>
g_dup_x1 F dJ42_next_49 rfl rfl <|
g_iconst F dJ42_next_50 ic_1 <|
g_iadd F dJ42_next_51 <|
g_putV F dJ42_next_52 fo_J42_0_java_util_PriorityQueue_Itr ck_J42 fl_java_util_PriorityQueue_Itr_25_J42 rfl (v := aI (x18 + (1:Int32))) (fit_i (x18 + (1:Int32))) hk fun h19 hk =>
g_dup_x1 F dJ42_next_55 rfl rfl <|
g_putV F dJ42_next_56 fo_J42_1_java_util_PriorityQueue_Itr ck_J42 fl_java_util_PriorityQueue_Itr_13_J42 rfl (v := aI x18) (fit_i x18) hk fun h20 hk =>
g_aald (t := 4) F dJ42_next_59 rfl rfl hk fun x21 hk =>
g_aret F (Or.inl ⟨_, rfl⟩) dJ42_next_60 (Nat.le_refl 0) (Nat.le_refl 0) hk)) (fun hc => have hk := hk.2 hc
False.elim hk)
abbrev rmJ5_isEmpty : Room := { frames := 2, cells := 0, slots := 0, locals := 40 }
theorem m_J5_isEmpty {S : Sx} (hS0 : Sok S) (v0 : Nat) (h : hH) (Q : Int32 → hH → Prop) (hk : f_J5_isEmpty S.E v0 h Q) : Ct S yJ5_isEmpty (ws_ yJ5_isEmpty cJ5_isEmpty 1 (some .boolean)) rmJ5_isEmpty ([aR (some v0)].map vv) h (qI Q) := by
  refine Ct.of hS0 (by decide +kernel) rfl (Nat.le_of_ble_eq_true rfl) fun x hxS F hnm => ?_
  subst hxS
  unfold f_J5_isEmpty at hk
  exact g_aload_n F dJ5_isEmpty_0 rfl 0 rfl <|
g_getI F dJ5_isEmpty_1 fo_J5_1_java_util_ArrayDeque in_J5 fl_java_util_ArrayDeque_24_J5 hk fun x1 hk =>
g_aload_n F dJ5_isEmpty_4 rfl 0 rfl <|
g_getI F dJ5_isEmpty_5 fo_J5_2_java_util_ArrayDeque in_J5 fl_java_util_ArrayDeque_20_J5 hk fun x2 hk =>
g_icmp_ne F dJ5_isEmpty_8 (tgt := 15) rfl (fun hc => have hk := hk.2 hc
g_iconst F dJ5_isEmpty_15 ic_0 <|
g_zret F dJ5_isEmpty_16 (Nat.le_refl 0) (Nat.le_refl 0) rfl hk) (fun hc => have hk := hk.1 hc
g_iconst F dJ5_isEmpty_11 ic_1 <|
g_goto F dJ5_isEmpty_12 (tgt := 16) rfl <|
g_zret F dJ5_isEmpty_16 (Nat.le_refl 0) (Nat.le_refl 0) rfl hk)
abbrev rmJ42_hasNext : Room := { frames := 3, cells := 0, slots := 0, locals := 60 }
theorem s_J42_hasNext_j31 {x : Cx} (F : Fx x cJ42_hasNext "java/util/PriorityQueue$Itr" 1 (some .boolean) rmJ42_hasNext) {v0 : Nat} {Q : Int32 → hH → Prop} (h : hH) (hk : f_J42_hasNext_j31 x.S.E v0 Q h) : G x (xQ x rmJ42_hasNext (qI Q)) 31 [] [] h 0 0 := by
  unfold f_J42_hasNext_j31 at hk
  exact g_iconst F dJ42_hasNext_31 ic_1 <|
g_goto F dJ42_hasNext_32 (tgt := 36) rfl <|
g_zret F dJ42_hasNext_36 (Nat.le_refl 0) (Nat.le_refl 0) rfl hk
theorem m_J42_hasNext {S : Sx} (hS0 : Sok S) (v0 : Nat) (h : hH) (Q : Int32 → hH → Prop) (hk : f_J42_hasNext S.E v0 h Q) : Ct S yJ42_hasNext (ws_ yJ42_hasNext cJ42_hasNext 1 (some .boolean)) rmJ42_hasNext ([aR (some v0)].map vv) h (qI Q) := by
  refine Ct.of hS0 (by decide +kernel) rfl (Nat.le_of_ble_eq_true rfl) fun x hxS F hnm => ?_
  subst hxS
  unfold f_J42_hasNext at hk
  exact g_aload_n F dJ42_hasNext_0 rfl 0 rfl <|
g_getI F dJ42_hasNext_1 fo_J42_0_java_util_PriorityQueue_Itr in_J42 fl_java_util_PriorityQueue_Itr_25_J42 hk fun x1 hk =>
g_aload_n F dJ42_hasNext_4 rfl 0 rfl <|
g_getR F dJ42_hasNext_5 fo_J42_5_java_util_PriorityQueue_Itr in_J42 fl_java_util_PriorityQueue_Itr_1_J42 hk fun x2 hk =>
g_getI F dJ42_hasNext_8 fo_J4_1_java_util_PriorityQueue in_J4 fl_java_util_PriorityQueue_Itr_28_J4 hk fun x3 hk =>
g_icmp_lt F dJ42_hasNext_11 (tgt := 31) rfl (fun hc => have hk := hk.1 hc
G.fewer [] rfl <| s_J42_hasNext_j31 F h hk ) (fun hc => have hk := hk.2 hc
g_aload_n F dJ42_hasNext_14 rfl 0 rfl <|
g_getR F dJ42_hasNext_15 fo_J42_2_java_util_PriorityQueue_Itr in_J42 fl_java_util_PriorityQueue_Itr_31_J42 hk fun x4 hk =>
g_ifnull F dJ42_hasNext_18 (tgt := 35) rfl (fun hc => have hk := hk.1 hc
g_iconst F dJ42_hasNext_35 ic_0 <|
g_zret F dJ42_hasNext_36 (Nat.le_refl 0) (Nat.le_refl 0) rfl hk) (fun hc => have hk := hk.2 hc
g_aload_n F dJ42_hasNext_21 rfl 0 rfl <|
g_getR F dJ42_hasNext_22 fo_J42_2_java_util_PriorityQueue_Itr in_J42 fl_java_util_PriorityQueue_Itr_31_J42 hk fun x5 hk =>
g_calli0 (g_V F dJ42_hasNext_25 q2380 mi_J5_isEmpty ct_J5 (rm' := rmJ5_isEmpty) ⟨Nat.le_of_ble_eq_true rfl, Nat.le_of_ble_eq_true rfl⟩ ⟨Nat.le_refl 0, Nat.le_refl 0⟩ (As := []) (rest := []) rfl rfl (Nat.le_of_ble_eq_true rfl) hk (fun a8 hk => m_J5_isEmpty F.ok a8 h _ hk)) ⟨rfl, rfl⟩ fun x7 h6 hk =>
g_if_ne F dJ42_hasNext_28 (tgt := 35) rfl (fun hc => have hk := hk.2 hc
g_iconst F dJ42_hasNext_35 ic_0 <|
g_zret F dJ42_hasNext_36 (Nat.le_refl 0) (Nat.le_refl 0) rfl hk) (fun hc => have hk := hk.1 hc
G.fewer [] rfl <| s_J42_hasNext_j31 F h6 hk )))
abbrev rmJ5_init : Room := { frames := 3, cells := 1, slots := 17, locals := 60 }
theorem m_J5_init {S : Sx} (hS0 : Sok S) (v0 : Nat) (h : hH) (Q : hH → Prop) (hk : f_J5_init S.E v0 h Q) : Ct S yJ5_init (ws_ yJ5_init cJ5_init 1 none) rmJ5_init ([aR (some v0)].map vv) h (qV Q) := by
  refine Ct.of hS0 (by decide +kernel) rfl (Nat.le_of_ble_eq_true rfl) fun x hxS F hnm => ?_
  subst hxS
  unfold f_J5_init at hk
  have hM : 0 + 1 ≤ 1 := by omega
  have hS : 0 + 17 ≤ 17 := by omega
  refine G.widen (c' := 0 + 0) (k' := 0 + 0) (Nat.le_refl 0) (Nat.le_refl 0) ?_
  exact g_aload_n F dJ5_init_0 rfl 0 rfl <|
g_callv0 (g_I F dJ5_init_1 q331 mc_J0_init (rm' := rmJ0_init) ⟨Nat.le_of_ble_eq_true rfl, Nat.le_of_ble_eq_true rfl⟩ ⟨show 0 + 0 + 0 ≤ 1 by omega, show 0 + 0 + 0 ≤ 17 by omega⟩ (As := []) (rest := []) rfl rfl (Nat.le_of_ble_eq_true rfl) (m_J0_init F.ok v0 h _ hk)) ⟨rfl, rfl⟩ fun h1 hk =>
g_aload_n F dJ5_init_4 rfl 0 rfl <|
g_bipush F dJ5_init_5 bp_17 <|
g_newQ (t := 4) F dJ5_init_7 q332 q274 rfl rfl (Nat.le_of_ble_eq_true rfl) (Nat.le_of_ble_eq_true rfl) (show 0 + 0 + 1 ≤ 1 by omega) (show 0 + 0 + 17 ≤ 17 by omega) hk fun q2 h3 hk =>
g_putV F dJ5_init_10 fo_J5_0_java_util_ArrayDeque ck_J5 fl_java_util_ArrayDeque_3_J5 rfl (v := aR (some q2)) (fit_ra (.object "java/lang/Object") (some q2)) hk fun h4 hk =>
g_vret F dJ5_init_13 (show 0 + 0 + 1 ≤ 1 by omega) (show 0 + 0 + 17 ≤ 17 by omega) hk
abbrev rmJ5_dec : Room := { frames := 2, cells := 0, slots := 0, locals := 40 }
theorem m_J5_dec {S : Sx} (hS0 : Sok S) (v0 : Int32) (v1 : Int32) (h : hH) (Q : Int32 → hH → Prop) (hk : f_J5_dec S.E v0 v1 h Q) : Ct S yJ5_dec (ws_ yJ5_dec cJ5_dec 2 (some .int)) rmJ5_dec ([aI v0, aI v1].map vv) h (qI Q) := by
  refine Ct.of hS0 (by decide +kernel) rfl (Nat.le_of_ble_eq_true rfl) fun x hxS F hnm => ?_
  subst hxS
  unfold f_J5_dec at hk
  exact g_iinc (v := (v0 + (-1:Int32))) F dJ5_dec_0 (j := 0) rfl (iinc_m1 v0) (Nat.le_of_ble_eq_true rfl) rfl <|
g_iload_n F dJ5_dec_3 rfl 0 rfl <|
g_if_ge F dJ5_dec_4 (tgt := 11) rfl (fun hc => have hk := hk.1 hc
g_iload_n F dJ5_dec_11 rfl 0 rfl <|
g_iret F dJ5_dec_12 (Nat.le_refl 0) (Nat.le_refl 0) hk) (fun hc => have hk := hk.2 hc
g_iload_n F dJ5_dec_7 rfl 1 rfl <|
g_iconst F dJ5_dec_8 ic_1 <|
g_isub F dJ5_dec_9 <|
g_istore_n F dJ5_dec_10 rfl (Nat.le_of_ble_eq_true rfl) rfl <|
g_iload_n F dJ5_dec_11 rfl 0 rfl <|
g_iret F dJ5_dec_12 (Nat.le_refl 0) (Nat.le_refl 0) hk)
abbrev rmJ5_pollLast : Room := { frames := 3, cells := 0, slots := 0, locals := 61 }
theorem m_J5_pollLast {S : Sx} (hS0 : Sok S) (v0 : Nat) (h : hH) (Q : Option Nat → hH → Prop) (hk : f_J5_pollLast S.E v0 h Q) : Ct S yJ5_pollLast (ws_ yJ5_pollLast cJ5_pollLast 4 (some (.object "java/lang/Object"))) rmJ5_pollLast ([aR (some v0)].map vv) h (qR Q) := by
  refine Ct.of hS0 (by decide +kernel) rfl (Nat.le_of_ble_eq_true rfl) fun x hxS F hnm => ?_
  subst hxS
  unfold f_J5_pollLast at hk
  exact g_aload_n F dJ5_pollLast_0 rfl 0 rfl <|
g_getR F dJ5_pollLast_1 fo_J5_0_java_util_ArrayDeque in_J5 fl_java_util_ArrayDeque_3_J5 hk fun x1 hk =>
g_dup F dJ5_pollLast_4 rfl <|
g_astore_n F dJ5_pollLast_5 rfl (Nat.le_of_ble_eq_true rfl) rfl <|
g_aload_n F dJ5_pollLast_6 rfl 1 rfl <|
g_getI F dJ5_pollLast_7 fo_J5_2_java_util_ArrayDeque in_J5 fl_java_util_ArrayDeque_20_J5 hk fun x2 hk =>
g_aload_n F dJ5_pollLast_10 rfl 0 rfl <|
g_alen (t := 4) F dJ5_pollLast_11 rfl hk fun x3 hk =>
g_calli0 (g_S F dJ5_pollLast_12 q412 ms_J5_dec (rm' := rmJ5_dec) ⟨Nat.le_of_ble_eq_true rfl, Nat.le_of_ble_eq_true rfl⟩ ⟨Nat.le_refl 0, Nat.le_refl 0⟩ (As := [aI x2, aI x3]) (rest := [aR x1]) rfl rfl (Nat.le_of_ble_eq_true rfl) (m_J5_dec F.ok x2 x3 h _ hk)) ⟨rfl, rfl⟩ fun x5 h4 hk =>
g_dup F dJ5_pollLast_15 rfl <|
g_istore_n F dJ5_pollLast_16 rfl (Nat.le_of_ble_eq_true rfl) rfl <|
g_callr0 (g_S F dJ5_pollLast_17 q415 ms_J5_elementAt (rm' := rmJ5_elementAt) ⟨Nat.le_of_ble_eq_true rfl, Nat.le_of_ble_eq_true rfl⟩ ⟨Nat.le_refl 0, Nat.le_refl 0⟩ (As := [aR x1, aI x5]) (rest := []) rfl rfl (Nat.le_of_ble_eq_true rfl) (m_J5_elementAt F.ok x1 x5 h4 _ hk)) ⟨rfl, rfl⟩ fun x7 h6 hk =>
g_astore_n F dJ5_pollLast_20 rfl (Nat.le_of_ble_eq_true rfl) rfl <|
g_aload_n F dJ5_pollLast_21 rfl 0 rfl <|
g_ifnull F dJ5_pollLast_22 (tgt := 34) rfl (fun hc => have hk := hk.1 hc
g_aload_n F dJ5_pollLast_34 rfl 0 rfl <|
g_aret F (Or.inl ⟨_, rfl⟩) dJ5_pollLast_35 (Nat.le_refl 0) (Nat.le_refl 0) hk) (fun hc => have hk := hk.2 hc
g_aload_n F dJ5_pollLast_25 rfl 2 rfl <|
g_aload_n F dJ5_pollLast_26 rfl 3 rfl <|
g_iload_n F dJ5_pollLast_27 rfl 1 rfl <|
g_dup_x1 F dJ5_pollLast_28 rfl rfl <|
g_putV F dJ5_pollLast_29 fo_J5_2_java_util_ArrayDeque ck_J5 fl_java_util_ArrayDeque_20_J5 rfl (v := aI x5) (fit_i x5) hk fun h8 hk =>
g_null F dJ5_pollLast_32 <|
g_aast4 F dJ5_pollLast_33 hk fun h9 hk =>
g_aload_n F dJ5_pollLast_34 rfl 0 rfl <|
g_aret F (Or.inl ⟨_, rfl⟩) dJ5_pollLast_35 (Nat.le_refl 0) (Nat.le_refl 0) hk)
abbrev rmJ5_removeLast : Room := { frames := 4, cells := 0, slots := 0, locals := 84 }
theorem m_J5_removeLast {S : Sx} (hS0 : Sok S) (v0 : Nat) (h : hH) (Q : Option Nat → hH → Prop) (hk : f_J5_removeLast S.E v0 h Q) : Ct S yJ5_removeLast (ws_ yJ5_removeLast cJ5_removeLast 2 (some (.object "java/lang/Object"))) rmJ5_removeLast ([aR (some v0)].map vv) h (qR Q) := by
  refine Ct.of hS0 (by decide +kernel) rfl (Nat.le_of_ble_eq_true rfl) fun x hxS F hnm => ?_
  subst hxS
  unfold f_J5_removeLast at hk
  exact g_aload_n F dJ5_removeLast_0 rfl 0 rfl <|
g_callr0 (g_V F dJ5_removeLast_1 q408 mi_J5_pollLast ct_J5 (rm' := rmJ5_pollLast) ⟨Nat.le_of_ble_eq_true rfl, Nat.le_of_ble_eq_true rfl⟩ ⟨Nat.le_refl 0, Nat.le_refl 0⟩ (As := []) (rest := []) rfl rfl (Nat.le_of_ble_eq_true rfl) hk (fun a3 hk => m_J5_pollLast F.ok a3 h _ hk)) ⟨rfl, rfl⟩ fun x2 h1 hk =>
g_astore_n F dJ5_removeLast_4 rfl (Nat.le_of_ble_eq_true rfl) rfl <|
g_aload_n F dJ5_removeLast_5 rfl 0 rfl <|
g_ifnonnull F dJ5_removeLast_6 (tgt := 17) rfl (fun hc => have hk := hk.2 hc
g_aload_n F dJ5_removeLast_17 rfl 0 rfl <|
g_aret F (Or.inl ⟨_, rfl⟩) dJ5_removeLast_18 (Nat.le_refl 0) (Nat.le_refl 0) hk) (fun hc => have hk := hk.1 hc
False.elim hk)
abbrev rmJ5_sub : Room := { frames := 2, cells := 0, slots := 0, locals := 40 }
theorem m_J5_sub {S : Sx} (hS0 : Sok S) (v0 : Int32) (v1 : Int32) (v2 : Int32) (h : hH) (Q : Int32 → hH → Prop) (hk : f_J5_sub S.E v0 v1 v2 h Q) : Ct S yJ5_sub (ws_ yJ5_sub cJ5_sub 3 (some .int)) rmJ5_sub ([aI v0, aI v1, aI v2].map vv) h (qI Q) := by
  refine Ct.of hS0 (by decide +kernel) rfl (Nat.le_of_ble_eq_true rfl) fun x hxS F hnm => ?_
  subst hxS
  unfold f_J5_sub at hk
  exact g_iload_n F dJ5_sub_0 rfl 0 rfl <|
g_iload_n F dJ5_sub_1 rfl 1 rfl <|
g_isub F dJ5_sub_2 <|
g_dup F dJ5_sub_3 rfl <|
g_istore_n F dJ5_sub_4 rfl (Nat.le_of_ble_eq_true rfl) rfl <|
g_if_ge F dJ5_sub_5 (tgt := 12) rfl (fun hc => have hk := hk.1 hc
g_iload_n F dJ5_sub_12 rfl 0 rfl <|
g_iret F dJ5_sub_13 (Nat.le_refl 0) (Nat.le_refl 0) hk) (fun hc => have hk := hk.2 hc
g_iload_n F dJ5_sub_8 rfl 0 rfl <|
g_iload_n F dJ5_sub_9 rfl 2 rfl <|
g_iadd F dJ5_sub_10 <|
g_istore_n F dJ5_sub_11 rfl (Nat.le_of_ble_eq_true rfl) rfl <|
g_iload_n F dJ5_sub_12 rfl 0 rfl <|
g_iret F dJ5_sub_13 (Nat.le_refl 0) (Nat.le_refl 0) hk)
abbrev rmJ5_size : Room := { frames := 3, cells := 0, slots := 0, locals := 62 }
theorem m_J5_size {S : Sx} (hS0 : Sok S) (v0 : Nat) (h : hH) (Q : Int32 → hH → Prop) (hk : f_J5_size S.E v0 h Q) : Ct S yJ5_size (ws_ yJ5_size cJ5_size 1 (some .int)) rmJ5_size ([aR (some v0)].map vv) h (qI Q) := by
  refine Ct.of hS0 (by decide +kernel) rfl (Nat.le_of_ble_eq_true rfl) fun x hxS F hnm => ?_
  subst hxS
  unfold f_J5_size at hk
  exact g_aload_n F dJ5_size_0 rfl 0 rfl <|
g_getI F dJ5_size_1 fo_J5_2_java_util_ArrayDeque in_J5 fl_java_util_ArrayDeque_20_J5 hk fun x1 hk =>
g_aload_n F dJ5_size_4 rfl 0 rfl <|
g_getI F dJ5_size_5 fo_J5_1_java_util_ArrayDeque in_J5 fl_java_util_ArrayDeque_24_J5 hk fun x2 hk =>
g_aload_n F dJ5_size_8 rfl 0 rfl <|
g_getR F dJ5_size_9 fo_J5_0_java_util_ArrayDeque in_J5 fl_java_util_ArrayDeque_3_J5 hk fun x3 hk =>
g_alen (t := 4) F dJ5_size_12 rfl hk fun x4 hk =>
g_calli0 (g_S F dJ5_size_13 q422 ms_J5_sub (rm' := rmJ5_sub) ⟨Nat.le_of_ble_eq_true rfl, Nat.le_of_ble_eq_true rfl⟩ ⟨Nat.le_refl 0, Nat.le_refl 0⟩ (As := [aI x1, aI x2, aI x4]) (rest := []) rfl rfl (Nat.le_of_ble_eq_true rfl) (m_J5_sub F.ok x1 x2 x4 h _ hk)) ⟨rfl, rfl⟩ fun x6 h5 hk =>
g_iret F dJ5_size_16 (Nat.le_refl 0) (Nat.le_refl 0) hk
abbrev rmJ5_circularClear : Room := { frames := 2, cells := 0, slots := 0, locals := 40 }
theorem s_J5_circularClear_l12 {x : Cx} (F : Fx x cJ5_circularClear "java/util/ArrayDeque" 4 none rmJ5_circularClear) {Q : hH → Prop} {K32 : hH → Prop} (n : Nat) (l0 : Option Nat) (l1 : Int32) (l2 : Int32) (l3 : Int32) (h : hH) (hk : f_J5_circularClear_l12 x.S.E Q K32 n l0 l1 l2 l3 h) (hK32 : ∀ (h : hH), K32 h → G x (xQ x rmJ5_circularClear (qV Q)) 32 [] [] h 0 0) : G x (xQ x rmJ5_circularClear (qV Q)) 12 [(0, aR l0), (1, aI l1), (2, aI l2), (3, aI l3)] [] h 0 0 := by
  induction n generalizing l0 l1 l2 l3 h with
  | zero => exact False.elim hk
  | succ n ih =>
    unfold f_J5_circularClear_l12 at hk
    exact g_iload_n F dJ5_circularClear_12 rfl 1 rfl <|
g_iload_n F dJ5_circularClear_13 rfl 3 rfl <|
g_icmp_ge F dJ5_circularClear_14 (tgt := 27) rfl (fun hc => have hk := hk.1 hc
g_iload_n F dJ5_circularClear_27 rfl 3 rfl <|
g_iload_n F dJ5_circularClear_28 rfl 2 rfl <|
g_icmp_ne F dJ5_circularClear_29 (tgt := 35) rfl (fun hc => have hk := hk.2 hc
g_iconst F dJ5_circularClear_35 ic_0 <|
g_istore_n F dJ5_circularClear_36 rfl (Nat.le_of_ble_eq_true rfl) rfl <|
g_iload_n F dJ5_circularClear_37 rfl 2 rfl <|
g_istore_n F dJ5_circularClear_38 rfl (Nat.le_of_ble_eq_true rfl) rfl <|
g_goto F dJ5_circularClear_39 (tgt := 12) rfl <|
G.fewer [2, 1, 3, 0] rfl <| ih l0 (0:Int32) l2 l2 h hk) (fun hc => have hk := hk.1 hc
G.fewer [] rfl <| hK32 h hk)) (fun hc => have hk := hk.2 hc
g_aload_n F dJ5_circularClear_17 rfl 0 rfl <|
g_iload_n F dJ5_circularClear_18 rfl 1 rfl <|
g_null F dJ5_circularClear_19 <|
g_aast4 F dJ5_circularClear_20 hk fun h1 hk =>
g_iinc (v := (l1 + (1:Int32))) F dJ5_circularClear_21 (j := 1) rfl (iinc_1 l1) (Nat.le_of_ble_eq_true rfl) rfl <|
g_goto F dJ5_circularClear_24 (tgt := 12) rfl <|
G.fewer [1, 0, 2, 3] rfl <| ih l0 (l1 + (1:Int32)) l2 l3 h1 hk)
theorem m_J5_circularClear {S : Sx} (hS0 : Sok S) (v0 : Option Nat) (v1 : Int32) (v2 : Int32) (h : hH) (Q : hH → Prop) (hk : f_J5_circularClear S.E v0 v1 v2 h Q) : Ct S yJ5_circularClear (ws_ yJ5_circularClear cJ5_circularClear 4 none) rmJ5_circularClear ([aR v0, aI v1, aI v2].map vv) h (qV Q) := by
  refine Ct.of hS0 (by decide +kernel) rfl (Nat.le_of_ble_eq_true rfl) fun x hxS F hnm => ?_
  subst hxS
  unfold f_J5_circularClear at hk
  exact g_iload_n F dJ5_circularClear_0 rfl 1 rfl <|
g_iload_n F dJ5_circularClear_1 rfl 2 rfl <|
g_icmp_gt F dJ5_circularClear_2 (tgt := 9) rfl (fun hc => have hk := hk.1 hc
g_aload_n F dJ5_circularClear_9 rfl 0 rfl <|
g_alen (t := 4) F dJ5_circularClear_10 rfl hk fun x2 hk =>
g_istore_n F dJ5_circularClear_11 rfl (Nat.le_of_ble_eq_true rfl) rfl <|
G.fewer [1, 2, 3, 0] rfl <| s_J5_circularClear_l12 F 1000000 v0 v1 v2 x2 h hk ((fun h hk => g_goto F dJ5_circularClear_32 (tgt := 42) rfl <|
g_vret F dJ5_circularClear_42 (Nat.le_refl 0) (Nat.le_refl 0) hk))) (fun hc => have hk := hk.2 hc
g_iload_n F dJ5_circularClear_5 rfl 2 rfl <|
g_goto F dJ5_circularClear_6 (tgt := 11) rfl <|
g_istore_n F dJ5_circularClear_11 rfl (Nat.le_of_ble_eq_true rfl) rfl <|
G.fewer [1, 2, 3, 0] rfl <| s_J5_circularClear_l12 F 1000000 v0 v1 v2 v2 h hk ((fun h hk => g_goto F dJ5_circularClear_32 (tgt := 42) rfl <|
g_vret F dJ5_circularClear_42 (Nat.le_refl 0) (Nat.le_refl 0) hk)))
abbrev rmJ5_clear : Room := { frames := 3, cells := 0, slots := 0, locals := 63 }
theorem m_J5_clear {S : Sx} (hS0 : Sok S) (v0 : Nat) (h : hH) (Q : hH → Prop) (hk : f_J5_clear S.E v0 h Q) : Ct S yJ5_clear (ws_ yJ5_clear cJ5_clear 1 none) rmJ5_clear ([aR (some v0)].map vv) h (qV Q) := by
  refine Ct.of hS0 (by decide +kernel) rfl (Nat.le_of_ble_eq_true rfl) fun x hxS F hnm => ?_
  subst hxS
  unfold f_J5_clear at hk
  exact g_aload_n F dJ5_clear_0 rfl 0 rfl <|
g_getR F dJ5_clear_1 fo_J5_0_java_util_ArrayDeque in_J5 fl_java_util_ArrayDeque_3_J5 hk fun x1 hk =>
g_aload_n F dJ5_clear_4 rfl 0 rfl <|
g_getI F dJ5_clear_5 fo_J5_1_java_util_ArrayDeque in_J5 fl_java_util_ArrayDeque_24_J5 hk fun x2 hk =>
g_aload_n F dJ5_clear_8 rfl 0 rfl <|
g_getI F dJ5_clear_9 fo_J5_2_java_util_ArrayDeque in_J5 fl_java_util_ArrayDeque_20_J5 hk fun x3 hk =>
g_callv0 (g_S F dJ5_clear_12 q1568 ms_J5_circularClear (rm' := rmJ5_circularClear) ⟨Nat.le_of_ble_eq_true rfl, Nat.le_of_ble_eq_true rfl⟩ ⟨Nat.le_refl 0, Nat.le_refl 0⟩ (As := [aR x1, aI x2, aI x3]) (rest := []) rfl rfl (Nat.le_of_ble_eq_true rfl) (m_J5_circularClear F.ok x1 x2 x3 h _ hk)) ⟨rfl, rfl⟩ fun h4 hk =>
g_aload_n F dJ5_clear_15 rfl 0 rfl <|
g_aload_n F dJ5_clear_16 rfl 0 rfl <|
g_iconst F dJ5_clear_17 ic_0 <|
g_dup_x1 F dJ5_clear_18 rfl rfl <|
g_putV F dJ5_clear_19 fo_J5_2_java_util_ArrayDeque ck_J5 fl_java_util_ArrayDeque_20_J5 rfl (v := aI (0:Int32)) (fit_i (0:Int32)) hk fun h5 hk =>
g_putV F dJ5_clear_22 fo_J5_1_java_util_ArrayDeque ck_J5 fl_java_util_ArrayDeque_24_J5 rfl (v := aI (0:Int32)) (fit_i (0:Int32)) hk fun h6 hk =>
g_vret F dJ5_clear_25 (Nat.le_refl 0) (Nat.le_refl 0) hk
abbrev rmJ5_removeFirst : Room := { frames := 4, cells := 0, slots := 0, locals := 84 }
theorem m_J5_removeFirst {S : Sx} (hS0 : Sok S) (v0 : Nat) (h : hH) (Q : Option Nat → hH → Prop) (hk : f_J5_removeFirst S.E v0 h Q) : Ct S yJ5_removeFirst (ws_ yJ5_removeFirst cJ5_removeFirst 2 (some (.object "java/lang/Object"))) rmJ5_removeFirst ([aR (some v0)].map vv) h (qR Q) := by
  refine Ct.of hS0 (by decide +kernel) rfl (Nat.le_of_ble_eq_true rfl) fun x hxS F hnm => ?_
  subst hxS
  unfold f_J5_removeFirst at hk
  exact g_aload_n F dJ5_removeFirst_0 rfl 0 rfl <|
g_callr0 (g_V F dJ5_removeFirst_1 q2025 mi_J5_pollFirst ct_J5 (rm' := rmJ5_pollFirst) ⟨Nat.le_of_ble_eq_true rfl, Nat.le_of_ble_eq_true rfl⟩ ⟨Nat.le_refl 0, Nat.le_refl 0⟩ (As := []) (rest := []) rfl rfl (Nat.le_of_ble_eq_true rfl) hk (fun a3 hk => m_J5_pollFirst F.ok a3 h _ hk)) ⟨rfl, rfl⟩ fun x2 h1 hk =>
g_astore_n F dJ5_removeFirst_4 rfl (Nat.le_of_ble_eq_true rfl) rfl <|
g_aload_n F dJ5_removeFirst_5 rfl 0 rfl <|
g_ifnonnull F dJ5_removeFirst_6 (tgt := 17) rfl (fun hc => have hk := hk.2 hc
g_aload_n F dJ5_removeFirst_17 rfl 0 rfl <|
g_aret F (Or.inl ⟨_, rfl⟩) dJ5_removeFirst_18 (Nat.le_refl 0) (Nat.le_refl 0) hk) (fun hc => have hk := hk.1 hc
False.elim hk)
abbrev rmJ5_pop : Room := { frames := 5, cells := 0, slots := 0, locals := 105 }
theorem m_J5_pop {S : Sx} (hS0 : Sok S) (v0 : Nat) (h : hH) (Q : Option Nat → hH → Prop) (hk : f_J5_pop S.E v0 h Q) : Ct S yJ5_pop (ws_ yJ5_pop cJ5_pop 1 (some (.object "java/lang/Object"))) rmJ5_pop ([aR (some v0)].map vv) h (qR Q) := by
  refine Ct.of hS0 (by decide +kernel) rfl (Nat.le_of_ble_eq_true rfl) fun x hxS F hnm => ?_
  subst hxS
  unfold f_J5_pop at hk
  exact g_aload_n F dJ5_pop_0 rfl 0 rfl <|
g_callr0 (g_V F dJ5_pop_1 q2244 mi_J5_removeFirst ct_J5 (rm' := rmJ5_removeFirst) ⟨Nat.le_of_ble_eq_true rfl, Nat.le_of_ble_eq_true rfl⟩ ⟨Nat.le_refl 0, Nat.le_refl 0⟩ (As := []) (rest := []) rfl rfl (Nat.le_of_ble_eq_true rfl) hk (fun a3 hk => m_J5_removeFirst F.ok a3 h _ hk)) ⟨rfl, rfl⟩ fun x2 h1 hk =>
g_aret F (Or.inl ⟨_, rfl⟩) dJ5_pop_4 (Nat.le_refl 0) (Nat.le_refl 0) hk
abbrev rmJ5_addFirst : Room := { frames := 3, cells := 0, slots := 0, locals := 61 }
theorem m_J5_addFirst {S : Sx} (hS0 : Sok S) (v0 : Nat) (v1 : Option Nat) (h : hH) (Q : hH → Prop) (hk : f_J5_addFirst S.E v0 v1 h Q) : Ct S yJ5_addFirst (ws_ yJ5_addFirst cJ5_addFirst 3 none) rmJ5_addFirst ([aR (some v0), aR v1].map vv) h (qV Q) := by
  refine Ct.of hS0 (by decide +kernel) rfl (Nat.le_of_ble_eq_true rfl) fun x hxS F hnm => ?_
  subst hxS
  unfold f_J5_addFirst at hk
  exact g_aload_n F dJ5_addFirst_0 rfl 1 rfl <|
g_ifnonnull F dJ5_addFirst_1 (tgt := 12) rfl (fun hc => have hk := hk.2 hc
g_aload_n F dJ5_addFirst_12 rfl 0 rfl <|
g_getR F dJ5_addFirst_13 fo_J5_0_java_util_ArrayDeque in_J5 fl_java_util_ArrayDeque_3_J5 hk fun x1 hk =>
g_astore_n F dJ5_addFirst_16 rfl (Nat.le_of_ble_eq_true rfl) rfl <|
g_aload_n F dJ5_addFirst_17 rfl 0 rfl <|
g_aload_n F dJ5_addFirst_18 rfl 1 rfl <|
g_aload_n F dJ5_addFirst_19 rfl 1 rfl <|
g_getI F dJ5_addFirst_20 fo_J5_1_java_util_ArrayDeque in_J5 fl_java_util_ArrayDeque_24_J5 hk fun x2 hk =>
g_aload_n F dJ5_addFirst_23 rfl 0 rfl <|
g_alen (t := 4) F dJ5_addFirst_24 rfl hk fun x3 hk =>
g_calli0 (g_S F dJ5_addFirst_25 q412 ms_J5_dec (rm' := rmJ5_dec) ⟨Nat.le_of_ble_eq_true rfl, Nat.le_of_ble_eq_true rfl⟩ ⟨Nat.le_refl 0, Nat.le_refl 0⟩ (As := [aI x2, aI x3]) (rest := [aR (some v0), aR x1]) rfl rfl (Nat.le_of_ble_eq_true rfl) (m_J5_dec F.ok x2 x3 h _ hk)) ⟨rfl, rfl⟩ fun x5 h4 hk =>
g_dup_x1 F dJ5_addFirst_28 rfl rfl <|
g_putV F dJ5_addFirst_29 fo_J5_1_java_util_ArrayDeque ck_J5 fl_java_util_ArrayDeque_24_J5 rfl (v := aI x5) (fit_i x5) hk fun h6 hk =>
g_aload_n F dJ5_addFirst_32 rfl 2 rfl <|
g_aast4 F dJ5_addFirst_33 hk fun h7 hk =>
g_aload_n F dJ5_addFirst_34 rfl 1 rfl <|
g_getI F dJ5_addFirst_35 fo_J5_1_java_util_ArrayDeque in_J5 fl_java_util_ArrayDeque_24_J5 hk fun x8 hk =>
g_aload_n F dJ5_addFirst_38 rfl 1 rfl <|
g_getI F dJ5_addFirst_39 fo_J5_2_java_util_ArrayDeque in_J5 fl_java_util_ArrayDeque_20_J5 hk fun x9 hk =>
g_icmp_ne F dJ5_addFirst_42 (tgt := 50) rfl (fun hc => have hk := hk.2 hc
g_vret F dJ5_addFirst_50 (Nat.le_refl 0) (Nat.le_refl 0) hk) (fun hc => have hk := hk.1 hc
g_aload_n F dJ5_addFirst_45 rfl 1 rfl <|
g_iconst F dJ5_addFirst_46 ic_1 <|
False.elim hk)) (fun hc => have hk := hk.1 hc
False.elim hk)
abbrev rmJ5_push : Room := { frames := 4, cells := 0, slots := 0, locals := 83 }
theorem m_J5_push {S : Sx} (hS0 : Sok S) (v0 : Nat) (v1 : Option Nat) (h : hH) (Q : hH → Prop) (hk : f_J5_push S.E v0 v1 h Q) : Ct S yJ5_push (ws_ yJ5_push cJ5_push 2 none) rmJ5_push ([aR (some v0), aR v1].map vv) h (qV Q) := by
  refine Ct.of hS0 (by decide +kernel) rfl (Nat.le_of_ble_eq_true rfl) fun x hxS F hnm => ?_
  subst hxS
  unfold f_J5_push at hk
  exact g_aload_n F dJ5_push_0 rfl 0 rfl <|
g_aload_n F dJ5_push_1 rfl 1 rfl <|
g_callv0 (g_V F dJ5_push_2 q2257 mi_J5_addFirst ct_J5 (rm' := rmJ5_addFirst) ⟨Nat.le_of_ble_eq_true rfl, Nat.le_of_ble_eq_true rfl⟩ ⟨Nat.le_refl 0, Nat.le_refl 0⟩ (As := [aR v1]) (rest := []) rfl rfl (Nat.le_of_ble_eq_true rfl) hk (fun a2 hk => m_J5_addFirst F.ok a2 v1 h _ hk)) ⟨rfl, rfl⟩ fun h1 hk =>
g_vret F dJ5_push_5 (Nat.le_refl 0) (Nat.le_refl 0) hk
abbrev rmJ5_addLast : Room := { frames := 3, cells := 0, slots := 0, locals := 61 }
theorem m_J5_addLast {S : Sx} (hS0 : Sok S) (v0 : Nat) (v1 : Option Nat) (h : hH) (Q : hH → Prop) (hk : f_J5_addLast S.E v0 v1 h Q) : Ct S yJ5_addLast (ws_ yJ5_addLast cJ5_addLast 3 none) rmJ5_addLast ([aR (some v0), aR v1].map vv) h (qV Q) := by
  refine Ct.of hS0 (by decide +kernel) rfl (Nat.le_of_ble_eq_true rfl) fun x hxS F hnm => ?_
  subst hxS
  unfold f_J5_addLast at hk
  exact g_aload_n F dJ5_addLast_0 rfl 1 rfl <|
g_ifnonnull F dJ5_addLast_1 (tgt := 12) rfl (fun hc => have hk := hk.2 hc
g_aload_n F dJ5_addLast_12 rfl 0 rfl <|
g_getR F dJ5_addLast_13 fo_J5_0_java_util_ArrayDeque in_J5 fl_java_util_ArrayDeque_3_J5 hk fun x1 hk =>
g_astore_n F dJ5_addLast_16 rfl (Nat.le_of_ble_eq_true rfl) rfl <|
g_aload_n F dJ5_addLast_17 rfl 0 rfl <|
g_aload_n F dJ5_addLast_18 rfl 1 rfl <|
g_getI F dJ5_addLast_19 fo_J5_2_java_util_ArrayDeque in_J5 fl_java_util_ArrayDeque_20_J5 hk fun x2 hk =>
g_aload_n F dJ5_addLast_22 rfl 2 rfl <|
g_aast4 F dJ5_addLast_23 hk fun h3 hk =>
g_aload_n F dJ5_addLast_24 rfl 1 rfl <|
g_getI F dJ5_addLast_25 fo_J5_1_java_util_ArrayDeque in_J5 fl_java_util_ArrayDeque_24_J5 hk fun x4 hk =>
g_aload_n F dJ5_addLast_28 rfl 1 rfl <|
g_aload_n F dJ5_addLast_29 rfl 1 rfl <|
g_getI F dJ5_addLast_30 fo_J5_2_java_util_ArrayDeque in_J5 fl_java_util_ArrayDeque_20_J5 hk fun x5 hk =>
g_aload_n F dJ5_addLast_33 rfl 0 rfl <|
g_alen (t := 4) F dJ5_addLast_34 rfl hk fun x6 hk =>
g_calli0 (g_S F dJ5_addLast_35 q2029 ms_J5_inc (rm' := rmJ5_inc) ⟨Nat.le_of_ble_eq_true rfl, Nat.le_of_ble_eq_true rfl⟩ ⟨Nat.le_refl 0, Nat.le_refl 0⟩ (As := [aI x5, aI x6]) (rest := [aR (some v0), aI x4]) rfl rfl (Nat.le_of_ble_eq_true rfl) (m_J5_inc F.ok x5 x6 h3 _ hk)) ⟨rfl, rfl⟩ fun x8 h7 hk =>
g_dup_x1 F dJ5_addLast_38 rfl rfl <|
g_putV F dJ5_addLast_39 fo_J5_2_java_util_ArrayDeque ck_J5 fl_java_util_ArrayDeque_20_J5 rfl (v := aI x8) (fit_i x8) hk fun h9 hk =>
g_icmp_ne F dJ5_addLast_42 (tgt := 50) rfl (fun hc => have hk := hk.2 hc
g_vret F dJ5_addLast_50 (Nat.le_refl 0) (Nat.le_refl 0) hk) (fun hc => have hk := hk.1 hc
g_aload_n F dJ5_addLast_45 rfl 1 rfl <|
g_iconst F dJ5_addLast_46 ic_1 <|
False.elim hk)) (fun hc => have hk := hk.1 hc
False.elim hk)
