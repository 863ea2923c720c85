set_option maxRecDepth 100000
set_option maxHeartbeats 10000000
theorem ct_X11 : CL[8]? = some (RX11, TX11, 1) := rfl
theorem ck_X11 : ClsOk RX11 TX11 1 tyX11 := ⟨in_X11, tyX11_ok, nmX11⟩
theorem fo_X11_0_LockstepRoom_Tree : FieldOk "LockstepRoom$Tree" 8 0 RX11 TX11 1 := ⟨ct_X11, Nat.le_of_ble_eq_true rfl, Or.inl rfl⟩
theorem fl_LockstepRoom_Tree_9_X11 : Cond.fieldLink "LockstepRoom$Tree" 9 "LockstepRoom$Tree" (TX11 0).2.1 (TX11 0).2.2.1 ∈ lw_all ∨ ∃ host, Cond.fieldLinkNest "LockstepRoom$Tree" 9 "LockstepRoom$Tree" (TX11 0).2.1 (TX11 0).2.2.1 host ∈ lw_tbl := Or.inl q1469
theorem nz_2147483647_Int64 : ¬ (2147483647 : Int64) = 0 := by decide
theorem sp_977 : (Int16.ofInt (977)).toInt32 = (977 : Int32) := by decide
theorem bp_15 : (Int8.ofInt (15)).toInt32 = (15 : Int32) := by decide
theorem fo_X10_5_LockstepRoom_Member : FieldOk "LockstepRoom$Member" 7 5 RX10 TX10 10 := ⟨ct_X10, Nat.le_of_ble_eq_true rfl, Or.inl rfl⟩
theorem fl_LockstepRoom_Member_9_X10 : Cond.fieldLink "LockstepRoom$Member" 9 "LockstepRoom$Member" (TX10 5).2.1 (TX10 5).2.2.1 ∈ lw_all ∨ ∃ host, Cond.fieldLinkNest "LockstepRoom$Member" 9 "LockstepRoom$Member" (TX10 5).2.1 (TX10 5).2.2.1 host ∈ lw_tbl := Or.inl q1414
theorem df_J24 : ∀ j, j < 9 → defaultValue (tyJ24 j) = vp_V [va_rf none, va_rf none, va_rf none, va_rf none, .int 0, .int 0, va_rf none, va_rf none, va_rf none] j := fun j hj => by rcases (show j = 0 ∨ j = 1 ∨ j = 2 ∨ j = 3 ∨ j = 4 ∨ j = 5 ∨ j = 6 ∨ j = 7 ∨ j = 8 by omega) with rfl | rfl | rfl | rfl | rfl | rfl | rfl | rfl | rfl <;> rfl
theorem mo_J24_init : MOk yJ24_init 0 := by decide +kernel
theorem mc_J24_init : MC yJ24_init cJ24_init 1 0 := ⟨q1369, q149, q1370, rfl, mo_J24_init⟩
theorem fo_X10_9_LockstepRoom_Member : FieldOk "LockstepRoom$Member" 7 9 RX10 TX10 10 := ⟨ct_X10, Nat.le_of_ble_eq_true rfl, Or.inl rfl⟩
theorem fl_LockstepRoom_Member_18_X10 : Cond.fieldLink "LockstepRoom$Member" 18 "LockstepRoom$Member" (TX10 9).2.1 (TX10 9).2.2.1 ∈ lw_all ∨ ∃ host, Cond.fieldLinkNest "LockstepRoom$Member" 18 "LockstepRoom$Member" (TX10 9).2.1 (TX10 9).2.2.1 host ∈ lw_tbl := Or.inl q1427
theorem fl_LockstepRoom_Member_22_X10 : Cond.fieldLink "LockstepRoom$Member" 22 "LockstepRoom$Member" (TX10 0).2.1 (TX10 0).2.2.1 ∈ lw_all ∨ ∃ host, Cond.fieldLinkNest "LockstepRoom$Member" 22 "LockstepRoom$Member" (TX10 0).2.1 (TX10 0).2.2.1 host ∈ lw_tbl := Or.inl q1400
theorem fo_X10_1_LockstepRoom_Member : FieldOk "LockstepRoom$Member" 7 1 RX10 TX10 10 := ⟨ct_X10, Nat.le_of_ble_eq_true rfl, Or.inl rfl⟩
theorem fl_LockstepRoom_Member_26_X10 : Cond.fieldLink "LockstepRoom$Member" 26 "LockstepRoom$Member" (TX10 1).2.1 (TX10 1).2.2.1 ∈ lw_all ∨ ∃ host, Cond.fieldLinkNest "LockstepRoom$Member" 26 "LockstepRoom$Member" (TX10 1).2.1 (TX10 1).2.2.1 host ∈ lw_tbl := Or.inl q1403
theorem fo_X10_2_LockstepRoom_Member : FieldOk "LockstepRoom$Member" 7 2 RX10 TX10 10 := ⟨ct_X10, Nat.le_of_ble_eq_true rfl, Or.inl rfl⟩
theorem fl_LockstepRoom_Member_29_X10 : Cond.fieldLink "LockstepRoom$Member" 29 "LockstepRoom$Member" (TX10 2).2.1 (TX10 2).2.2.1 ∈ lw_all ∨ ∃ host, Cond.fieldLinkNest "LockstepRoom$Member" 29 "LockstepRoom$Member" (TX10 2).2.1 (TX10 2).2.2.1 host ∈ lw_tbl := Or.inl q1405
theorem fo_X10_3_LockstepRoom_Member : FieldOk "LockstepRoom$Member" 7 3 RX10 TX10 10 := ⟨ct_X10, Nat.le_of_ble_eq_true rfl, Or.inl rfl⟩
theorem fl_LockstepRoom_Member_32_X10 : Cond.fieldLink "LockstepRoom$Member" 32 "LockstepRoom$Member" (TX10 3).2.1 (TX10 3).2.2.1 ∈ lw_all ∨ ∃ host, Cond.fieldLinkNest "LockstepRoom$Member" 32 "LockstepRoom$Member" (TX10 3).2.1 (TX10 3).2.2.1 host ∈ lw_tbl := Or.inl q1407
theorem fo_X10_4_LockstepRoom_Member : FieldOk "LockstepRoom$Member" 7 4 RX10 TX10 10 := ⟨ct_X10, Nat.le_of_ble_eq_true rfl, Or.inl rfl⟩
theorem fl_LockstepRoom_Member_36_X10 : Cond.fieldLink "LockstepRoom$Member" 36 "LockstepRoom$Member" (TX10 4).2.1 (TX10 4).2.2.1 ∈ lw_all ∨ ∃ host, Cond.fieldLinkNest "LockstepRoom$Member" 36 "LockstepRoom$Member" (TX10 4).2.1 (TX10 4).2.2.1 host ∈ lw_tbl := Or.inl q1410
theorem df_X11 : ∀ j, j < 1 → defaultValue (tyX11 j) = vp_V [va_rf none] j := fun j hj => by rcases (show j = 0 by omega) with rfl <;> rfl
theorem mo_X11_init : MOk yX11_init 1 := by decide +kernel
theorem mc_X11_init : MC yX11_init cX11_init 3 1 := ⟨q1461, q150, q1462, rfl, mo_X11_init⟩
theorem mo_J20_valueOf : MOk yJ20_valueOf 1 := by decide +kernel
theorem ms_J20_valueOf : MS yJ20_valueOf cJ20_valueOf 1 (some (.object "java/lang/Integer")) 1 := ⟨q887, q140, q888, mo_J20_valueOf⟩
theorem mo_X10_tree : MOk yX10_tree 0 := by decide +kernel
theorem mi_X10_tree : MI yX10_tree "LockstepRoom$Member" cX10_tree 1 (some (.object "LockstepRoom$Tree")) 0 := ⟨q1455, q1456, q147, q1457, rfl, mo_X10_tree⟩
theorem mo_X11_root : MOk yX11_root 0 := by decide +kernel
theorem mi_X11_root : MI yX11_root "LockstepRoom$Tree" cX11_root 1 (some .int) 0 := ⟨q1476, q1477, q150, q1478, rfl, mo_X11_root⟩
theorem mo_J24_put : MOk yJ24_put 2 := by decide +kernel
theorem mi_J24_put : MI yJ24_put "java/util/TreeMap" cJ24_put 3 (some (.object "java/lang/Object")) 2 := ⟨q1480, q1481, q149, q1482, rfl, mo_J24_put⟩
theorem mo_J24_get : MOk yJ24_get 1 := by decide +kernel
theorem mi_J24_get : MI yJ24_get "java/util/TreeMap" cJ24_get 3 (some (.object "java/lang/Object")) 1 := ⟨q1657, q1658, q149, q1659, rfl, mo_J24_get⟩
theorem mo_J20_intValue : MOk yJ20_intValue 0 := by decide +kernel
theorem mi_J20_intValue : MI yJ20_intValue "java/lang/Integer" cJ20_intValue 1 (some .int) 0 := ⟨q883, q884, q140, q885, rfl, mo_J20_intValue⟩
theorem df_X10 : ∀ j, j < 10 → defaultValue (tyX10 j) = vp_V [.int 0, .int 0, .int 0, va_rf none, .int 0, .int 0, .int 0, .int 0, .int 0, va_rf none] j := fun j hj => by rcases (show j = 0 ∨ j = 1 ∨ j = 2 ∨ j = 3 ∨ j = 4 ∨ j = 5 ∨ j = 6 ∨ j = 7 ∨ j = 8 ∨ j = 9 by omega) with rfl | rfl | rfl | rfl | rfl | rfl | rfl | rfl | rfl | rfl <;> rfl
theorem mo_X10_init : MOk yX10_init 5 := by decide +kernel
theorem mc_X10_init : MC yX10_init cX10_init 6 5 := ⟨q1363, q147, q1364, rfl, mo_X10_init⟩
theorem fl_LockstepRoom_Member_47_X10 : Cond.fieldLink "LockstepRoom$Member" 47 "LockstepRoom$Member" (TX10 6).2.1 (TX10 6).2.2.1 ∈ lw_all ∨ ∃ host, Cond.fieldLinkNest "LockstepRoom$Member" 47 "LockstepRoom$Member" (TX10 6).2.1 (TX10 6).2.2.1 host ∈ lw_tbl := Or.inl q1418
theorem fo_X10_7_LockstepRoom_Member : FieldOk "LockstepRoom$Member" 7 7 RX10 TX10 10 := ⟨ct_X10, Nat.le_of_ble_eq_true rfl, Or.inl rfl⟩
theorem fl_LockstepRoom_Member_50_X10 : Cond.fieldLink "LockstepRoom$Member" 50 "LockstepRoom$Member" (TX10 7).2.1 (TX10 7).2.2.1 ∈ lw_all ∨ ∃ host, Cond.fieldLinkNest "LockstepRoom$Member" 50 "LockstepRoom$Member" (TX10 7).2.1 (TX10 7).2.2.1 host ∈ lw_tbl := Or.inl q1421
theorem fo_X10_8_LockstepRoom_Member : FieldOk "LockstepRoom$Member" 7 8 RX10 TX10 10 := ⟨ct_X10, Nat.le_of_ble_eq_true rfl, Or.inl rfl⟩
theorem fl_LockstepRoom_Member_53_X10 : Cond.fieldLink "LockstepRoom$Member" 53 "LockstepRoom$Member" (TX10 8).2.1 (TX10 8).2.2.1 ∈ lw_all ∨ ∃ host, Cond.fieldLinkNest "LockstepRoom$Member" 53 "LockstepRoom$Member" (TX10 8).2.1 (TX10 8).2.2.1 host ∈ lw_tbl := Or.inl q1424
theorem mo_J24_putAll : MOk yJ24_putAll 1 := by decide +kernel
theorem mo_J24_firstKey : MOk yJ24_firstKey 0 := by decide +kernel
theorem mi_J24_firstKey : MI yJ24_firstKey "java/util/TreeMap" cJ24_firstKey 1 (some (.object "java/lang/Object")) 0 := ⟨q2722, q2723, q149, q2724, rfl, mo_J24_firstKey⟩
theorem ct_X13 : CL[10]? = some (RX13, TX13, 3) := rfl
theorem ck_X13 : ClsOk RX13 TX13 3 tyX13 := ⟨in_X13, tyX13_ok, nmX13⟩
theorem fo_X13_2_LockstepRoom_Descent : FieldOk "LockstepRoom$Descent" 10 2 RX13 TX13 3 := ⟨ct_X13, Nat.le_of_ble_eq_true rfl, Or.inl rfl⟩
theorem fl_LockstepRoom_Descent_16_X13 : Cond.fieldLink "LockstepRoom$Descent" 16 "LockstepRoom$Descent" (TX13 2).2.1 (TX13 2).2.2.1 ∈ lw_all ∨ ∃ host, Cond.fieldLinkNest "LockstepRoom$Descent" 16 "LockstepRoom$Descent" (TX13 2).2.1 (TX13 2).2.2.1 host ∈ lw_tbl := Or.inl q2516
theorem fo_X13_0_LockstepRoom_Descent : FieldOk "LockstepRoom$Descent" 10 0 RX13 TX13 3 := ⟨ct_X13, Nat.le_of_ble_eq_true rfl, Or.inl rfl⟩
theorem fl_LockstepRoom_Descent_7_X13 : Cond.fieldLink "LockstepRoom$Descent" 7 "LockstepRoom$Descent" (TX13 0).2.1 (TX13 0).2.2.1 ∈ lw_all ∨ ∃ host, Cond.fieldLinkNest "LockstepRoom$Descent" 7 "LockstepRoom$Descent" (TX13 0).2.1 (TX13 0).2.2.1 host ∈ lw_tbl := Or.inl q2514
theorem fl_LockstepRoom_Descent_20_X11 : Cond.fieldLink "LockstepRoom$Descent" 20 "LockstepRoom$Tree" (TX11 0).2.1 (TX11 0).2.2.1 ∈ lw_all ∨ ∃ host, Cond.fieldLinkNest "LockstepRoom$Descent" 20 "LockstepRoom$Tree" (TX11 0).2.1 (TX11 0).2.2.1 host ∈ lw_tbl := Or.inr ⟨_, q1470⟩
theorem fo_X13_1_LockstepRoom_Descent : FieldOk "LockstepRoom$Descent" 10 1 RX13 TX13 3 := ⟨ct_X13, Nat.le_of_ble_eq_true rfl, Or.inl rfl⟩
theorem fl_LockstepRoom_Descent_13_X13 : Cond.fieldLink "LockstepRoom$Descent" 13 "LockstepRoom$Descent" (TX13 1).2.1 (TX13 1).2.2.1 ∈ lw_all ∨ ∃ host, Cond.fieldLinkNest "LockstepRoom$Descent" 13 "LockstepRoom$Descent" (TX13 1).2.1 (TX13 1).2.2.1 host ∈ lw_tbl := Or.inl q2515
theorem ct_X14 : CL[11]? = some (RX14, TX14, 3) := rfl
theorem ck_X14 : ClsOk RX14 TX14 3 tyX14 := ⟨in_X14, tyX14_ok, nmX14⟩
theorem fo_X14_1_LockstepRoom_Descent_1 : FieldOk "LockstepRoom$Descent$1" 11 1 RX14 TX14 3 := ⟨ct_X14, Nat.le_of_ble_eq_true rfl, Or.inl rfl⟩
theorem fl_LockstepRoom_Descent_1_22_X14 : Cond.fieldLink "LockstepRoom$Descent$1" 22 "LockstepRoom$Descent$1" (TX14 1).2.1 (TX14 1).2.2.1 ∈ lw_all ∨ ∃ host, Cond.fieldLinkNest "LockstepRoom$Descent$1" 22 "LockstepRoom$Descent$1" (TX14 1).2.1 (TX14 1).2.2.1 host ∈ lw_tbl := Or.inl q2537
theorem fo_X14_0_LockstepRoom_Descent_1 : FieldOk "LockstepRoom$Descent$1" 11 0 RX14 TX14 3 := ⟨ct_X14, Nat.le_of_ble_eq_true rfl, Or.inl rfl⟩
theorem fl_LockstepRoom_Descent_1_18_X14 : Cond.fieldLink "LockstepRoom$Descent$1" 18 "LockstepRoom$Descent$1" (TX14 0).2.1 (TX14 0).2.2.1 ∈ lw_all ∨ ∃ host, Cond.fieldLinkNest "LockstepRoom$Descent$1" 18 "LockstepRoom$Descent$1" (TX14 0).2.1 (TX14 0).2.2.1 host ∈ lw_tbl := Or.inl q2536
theorem mo_J5_pop : MOk yJ5_pop 0 := by decide +kernel
theorem mi_J5_pop : MI yJ5_pop "java/util/ArrayDeque" cJ5_pop 1 (some (.object "java/lang/Object")) 0 := ⟨q2241, q2242, q120, q2243, rfl, mo_J5_pop⟩
theorem fo_X14_2_LockstepRoom_Descent_1 : FieldOk "LockstepRoom$Descent$1" 11 2 RX14 TX14 3 := ⟨ct_X14, Nat.le_of_ble_eq_true rfl, Or.inl rfl⟩
theorem fl_LockstepRoom_Descent_1_3_X14 : Cond.fieldLink "LockstepRoom$Descent$1" 3 "LockstepRoom$Descent$1" (TX14 2).2.1 (TX14 2).2.2.1 ∈ lw_all ∨ ∃ host, Cond.fieldLinkNest "LockstepRoom$Descent$1" 3 "LockstepRoom$Descent$1" (TX14 2).2.1 (TX14 2).2.2.1 host ∈ lw_tbl := Or.inl q2538
theorem mo_X13_differs : MOk yX13_differs 1 := by decide +kernel
theorem mi_X13_differs : MI yX13_differs "LockstepRoom$Descent" cX13_differs 2 (some .boolean) 1 := ⟨q2249, qs35, q156, q2251, rfl, mo_X13_differs⟩
theorem mo_J5_push : MOk yJ5_push 1 := by decide +kernel
theorem mi_J5_push : MI yJ5_push "java/util/ArrayDeque" cJ5_push 2 none 1 := ⟨q2254, q2255, q120, q2256, rfl, mo_J5_push⟩
theorem df_J5 : ∀ j, j < 3 → defaultValue (tyJ5 j) = vp_V [va_rf none, .int 0, .int 0] j := fun j hj => by rcases (show j = 0 ∨ j = 1 ∨ j = 2 by omega) with rfl | rfl | rfl <;> rfl
theorem mo_J5_init : MOk yJ5_init 0 := by decide +kernel
theorem mc_J5_init : MC yJ5_init cJ5_init 1 0 := ⟨q329, q120, q330, rfl, mo_J5_init⟩
theorem mo_X14_goOn : MOk yX14_goOn 0 := by decide +kernel
theorem mi_X14_goOn : MI yX14_goOn "LockstepRoom$Descent$1" cX14_goOn 2 none 0 := ⟨q2236, qs34, q157, q2238, rfl, mo_X14_goOn⟩
theorem df_X14 : ∀ j, j < 3 → defaultValue (tyX14 j) = vp_V [va_rf none, .int 0, va_rf none] j := fun j hj => by rcases (show j = 0 ∨ j = 1 ∨ j = 2 by omega) with rfl | rfl | rfl <;> rfl
theorem mo_X14_init : MOk yX14_init 1 := by decide +kernel
theorem mc_X14_init : MC yX14_init cX14_init 2 1 := ⟨q2531, q157, q2532, rfl, mo_X14_init⟩
theorem mo_X14_next_2 : MOk yX14_next_2 0 := by decide +kernel
theorem mi_X14_next_2 : MI yX14_next_2 "LockstepRoom$Descent$1" cX14_next_2 2 (some (.object "java/lang/Integer")) 0 := ⟨q2208, q2209, q157, q2210, rfl, mo_X14_next_2⟩
theorem ct_X7 : CL[29]? = some (RX7, TX7, 7) := rfl
theorem ck_X7 : ClsOk RX7 TX7 7 tyX7 := ⟨in_X7, tyX7_ok, nmX7⟩
theorem fo_X7_3_java_lang_Throwable : FieldOk "java/lang/Throwable" 29 3 RX7 TX7 7 := ⟨ct_X7, Nat.le_of_ble_eq_true rfl, Or.inl rfl⟩
theorem fl_java_lang_Throwable_31_X7 : Cond.fieldLink "java/lang/Throwable" 31 "java/lang/Throwable" (TX7 3).2.1 (TX7 3).2.2.1 ∈ lw_all ∨ ∃ host, Cond.fieldLinkNest "java/lang/Throwable" 31 "java/lang/Throwable" (TX7 3).2.1 (TX7 3).2.2.1 host ∈ lw_tbl := Or.inl q815
theorem fo_X7_0_java_lang_Throwable : FieldOk "java/lang/Throwable" 29 0 RX7 TX7 7 := ⟨ct_X7, Nat.le_of_ble_eq_true rfl, Or.inl rfl⟩
theorem fl_java_lang_Throwable_7_X7 : Cond.fieldLink "java/lang/Throwable" 7 "java/lang/Throwable" (TX7 0).2.1 (TX7 0).2.2.1 ∈ lw_all ∨ ∃ host, Cond.fieldLinkNest "java/lang/Throwable" 7 "java/lang/Throwable" (TX7 0).2.1 (TX7 0).2.2.1 host ∈ lw_tbl := Or.inl q816
theorem fo_X7_2_java_lang_Throwable : FieldOk "java/lang/Throwable" 29 2 RX7 TX7 7 := ⟨ct_X7, Nat.le_of_ble_eq_true rfl, Or.inl rfl⟩
theorem fl_java_lang_Throwable_24_X7 : Cond.fieldLink "java/lang/Throwable" 24 "java/lang/Throwable" (TX7 2).2.1 (TX7 2).2.2.1 ∈ lw_all ∨ ∃ host, Cond.fieldLinkNest "java/lang/Throwable" 24 "java/lang/Throwable" (TX7 2).2.1 (TX7 2).2.2.1 host ∈ lw_tbl := Or.inl q818
theorem zl_java_lang_Throwable_13 : Cond.fieldLink "java/lang/Throwable" 13 "java/lang/Throwable" "UNASSIGNED_STACK" "[Ljava/lang/StackTraceElement;" ∈ lw_all ∨ ∃ host, Cond.fieldLinkNest "java/lang/Throwable" 13 "java/lang/Throwable" "UNASSIGNED_STACK" "[Ljava/lang/StackTraceElement;" host ∈ lw_tbl := Or.inl q786
theorem fo_X7_1_java_lang_Throwable : FieldOk "java/lang/Throwable" 29 1 RX7 TX7 7 := ⟨ct_X7, Nat.le_of_ble_eq_true rfl, Or.inl rfl⟩
theorem fl_java_lang_Throwable_17_X7 : Cond.fieldLink "java/lang/Throwable" 17 "java/lang/Throwable" (TX7 1).2.1 (TX7 1).2.2.1 ∈ lw_all ∨ ∃ host, Cond.fieldLinkNest "java/lang/Throwable" 17 "java/lang/Throwable" (TX7 1).2.1 (TX7 1).2.2.1 host ∈ lw_tbl := Or.inl q817
theorem zl_java_lang_Throwable_20 : Cond.fieldLink "java/lang/Throwable" 20 "java/lang/Throwable" "SUPPRESSED_SENTINEL" "Ljava/util/List;" ∈ lw_all ∨ ∃ host, Cond.fieldLinkNest "java/lang/Throwable" 20 "java/lang/Throwable" "SUPPRESSED_SENTINEL" "Ljava/util/List;" host ∈ lw_tbl := Or.inl q788
theorem mo_J16_init_2 : MOk yJ16_init_2 4 := by decide +kernel
theorem mc_J16_init_2 : MC yJ16_init_2 cJ16_init_2 5 4 := ⟨q810, q135, q811, rfl, mo_J16_init_2⟩
theorem mo_J17_init : MOk yJ17_init 4 := by decide +kernel
theorem mc_J17_init : MC yJ17_init cJ17_init 5 4 := ⟨q807, q136, q808, rfl, mo_J17_init⟩
theorem fo_X7_6_LockstepRoom_LoadError : FieldOk "LockstepRoom$LoadError" 29 6 RX7 TX7 7 := ⟨ct_X7, Nat.le_of_ble_eq_true rfl, Or.inl rfl⟩
theorem fl_LockstepRoom_LoadError_7_X7 : Cond.fieldLink "LockstepRoom$LoadError" 7 "LockstepRoom$LoadError" (TX7 6).2.1 (TX7 6).2.2.1 ∈ lw_all ∨ ∃ host, Cond.fieldLinkNest "LockstepRoom$LoadError" 7 "LockstepRoom$LoadError" (TX7 6).2.1 (TX7 6).2.2.1 host ∈ lw_tbl := Or.inl q812
abbrev rmX11_init : Room := { frames := 2, cells := 1, slots := 32, locals := 40 }
theorem s_X11_init_l52 {x : Cx} (F : Fx x cX11_init "LockstepRoom$Tree" 3 none rmX11_init) {v0 : Nat} (hnm : x.meth.name = "<init>") {Q : hH → Prop} {K112 : hH → Prop} {ce ke : Nat} (hM2 : ce ≤ 1) (hS2 : ke ≤ 32) (n : Nat) (l2 : Int32) (h : hH) (cb kb : Nat) (hM0 : cb + n * 0 ≤ ce) (hS0 : kb + n * 0 ≤ ke) (hk : f_X11_init_l52 x.S.E v0 Q K112 n l2 h) (hK112 : ∀ (h : hH), K112 h → G x (xQ x rmX11_init (qV Q)) 112 [] [] h ce ke) : G x (xQ x rmX11_init (qV Q)) 52 [(0, aR (some v0)), (2, aI l2)] [] h cb kb := by
  induction n generalizing l2 h cb kb with
  | zero => exact False.elim hk
  | succ n ih =>
    have hM : cb + 0 ≤ ce := by omega
    have hS : kb + 0 ≤ ke := by omega
    unfold f_X11_init_l52 at hk
    exact G.widen (c' := cb + 0) (k' := kb + 0) (Nat.le_refl _) (Nat.le_refl _) <| g_iload_n F dX11_init_52 rfl 1 rfl <|
g_if_le F dX11_init_53 (tgt := 112) rfl (fun hc => have hk := hk.1 hc
G.fewer [] rfl <| G.widen (show cb + 0 ≤ ce by omega) (show kb + 0 ≤ ke by omega) <| hK112 h hk) (fun hc => have hk := hk.2 hc
g_aload_n F dX11_init_56 rfl 0 rfl <|
g_getR F dX11_init_57 fo_X11_0_LockstepRoom_Tree in_X11 fl_LockstepRoom_Tree_9_X11 hk fun x1 hk =>
g_iload_n F dX11_init_60 rfl 1 rfl <|
g_ldc2 F dX11_init_61 q1465 <|
g_aload_n F dX11_init_64 rfl 0 rfl <|
g_getR F dX11_init_65 fo_X11_0_LockstepRoom_Tree in_X11 fl_LockstepRoom_Tree_9_X11 hk fun x2 hk =>
g_iconst F dX11_init_68 ic_2 <|
g_iload_n F dX11_init_69 rfl 1 rfl <|
g_imul F dX11_init_70 <|
g_iald F dX11_init_71 hk fun x3 hk =>
g_i2l F dX11_init_72 <|
g_lmul F dX11_init_73 <|
g_ldc2 F dX11_init_74 q1466 <|
g_ldc2 F dX11_init_77 q1467 <|
g_iload_n F dX11_init_80 rfl 1 rfl <|
g_i2l F dX11_init_81 <|
g_lmul F dX11_init_82 <|
g_ladd F dX11_init_83 <|
g_aload_n F dX11_init_84 rfl 0 rfl <|
g_getR F dX11_init_85 fo_X11_0_LockstepRoom_Tree in_X11 fl_LockstepRoom_Tree_9_X11 hk fun x4 hk =>
g_iconst F dX11_init_88 ic_2 <|
g_iload_n F dX11_init_89 rfl 1 rfl <|
g_imul F dX11_init_90 <|
g_iconst F dX11_init_91 ic_1 <|
g_iadd F dX11_init_92 <|
g_iald F dX11_init_93 hk fun x5 hk =>
g_i2l F dX11_init_94 <|
g_lmul F dX11_init_95 <|
g_ladd F dX11_init_96 <|
g_iload_n F dX11_init_97 rfl 1 rfl <|
g_i2l F dX11_init_98 <|
g_ladd F dX11_init_99 <|
g_ldc2 F dX11_init_100 q1468 <|
g_lrem F dX11_init_103 nz_2147483647_Int64 <|
g_l2i F dX11_init_104 <|
g_iast F dX11_init_105 hk fun h6 hk =>
g_iinc (v := (l2 + (-1:Int32))) F dX11_init_106 (j := 1) rfl (iinc_m1 l2) (Nat.le_of_ble_eq_true rfl) rfl <|
g_goto F dX11_init_109 (tgt := 52) rfl <|
G.fewer [1, 0] rfl <| (fun l2 h hk => ih l2 h (cb + 0) (kb + 0) (by omega) (by omega) hk) (l2 + (-1:Int32)) h6 hk)
theorem s_X11_init_l14 {x : Cx} (F : Fx x cX11_init "LockstepRoom$Tree" 3 none rmX11_init) {v0 : Nat} (hnm : x.meth.name = "<init>") {Q : hH → Prop} {K49 : hH → Prop} {ce ke : Nat} (hM2 : ce ≤ 1) (hS2 : ke ≤ 32) (n : Nat) (l1 : Option Nat) (l2 : Int32) (h : hH) (cb kb : Nat) (hM0 : cb + n * 0 ≤ ce) (hS0 : kb + n * 0 ≤ ke) (hk : f_X11_init_l14 x.S.E v0 Q K49 n l1 l2 h) (hK49 : ∀ (h : hH), K49 h → G x (xQ x rmX11_init (qV Q)) 49 [(0, aR (some v0))] [] h ce ke) : G x (xQ x rmX11_init (qV Q)) 14 [(0, aR (some v0)), (1, aR l1), (2, aI l2)] [] h cb kb := by
  induction n generalizing l1 l2 h cb kb with
  | zero => exact False.elim hk
  | succ n ih =>
    have hM : cb + 0 ≤ ce := by omega
    have hS : kb + 0 ≤ ke := by omega
    unfold f_X11_init_l14 at hk
    exact G.widen (c' := cb + 0) (k' := kb + 0) (Nat.le_refl _) (Nat.le_refl _) <| g_iload_n F dX11_init_14 rfl 2 rfl <|
g_bipush F dX11_init_15 bp_16 <|
g_icmp_ge F dX11_init_17 (tgt := 49) rfl (fun hc => have hk := hk.1 hc
G.fewer [0] rfl <| G.widen (show cb + 0 ≤ ce by omega) (show kb + 0 ≤ ke by omega) <| hK49 h hk) (fun hc => have hk := hk.2 hc
g_aload_n F dX11_init_20 rfl 0 rfl <|
g_getR F dX11_init_21 fo_X11_0_LockstepRoom_Tree in_X11 fl_LockstepRoom_Tree_9_X11 hk fun x7 hk =>
g_bipush F dX11_init_24 bp_16 <|
g_iload_n F dX11_init_26 rfl 2 rfl <|
g_iadd F dX11_init_27 <|
g_ldc F dX11_init_28 q1464 <|
g_aload_n F dX11_init_30 rfl 1 rfl <|
g_iload_n F dX11_init_31 rfl 2 rfl <|
g_iald F dX11_init_32 hk fun x8 hk =>
g_imul F dX11_init_33 <|
g_sipush F dX11_init_34 sp_977 <|
g_iload_n F dX11_init_37 rfl 2 rfl <|
g_imul F dX11_init_38 <|
g_iadd F dX11_init_39 <|
g_iconst F dX11_init_40 ic_1 <|
g_iadd F dX11_init_41 <|
g_iast F dX11_init_42 hk fun h9 hk =>
g_iinc (v := (l2 + (1:Int32))) F dX11_init_43 (j := 2) rfl (iinc_1 l2) (Nat.le_of_ble_eq_true rfl) rfl <|
g_goto F dX11_init_46 (tgt := 14) rfl <|
G.fewer [1, 2, 0] rfl <| (fun l1 l2 h hk => ih l1 l2 h (cb + 0) (kb + 0) (by omega) (by omega) hk) l1 (l2 + (1:Int32)) h9 hk)
theorem m_X11_init {S : Sx} (hS0 : Sok S) (v0 : Nat) (v1 : Option Nat) (h : hH) (Q : hH → Prop) (hk : f_X11_init S.E v0 v1 h Q) : Ct S yX11_init (ws_ yX11_init cX11_init 3 none) rmX11_init ([aR (some v0), aR v1].map vv) h (qV Q) := by
  refine Ct.of hS0 (by decide +kernel) rfl (Nat.le_of_ble_eq_true rfl) fun x hxS F hnm => ?_
  subst hxS
  unfold f_X11_init at hk
  have hM : 0 + 1 ≤ 1 := by omega
  have hS : 0 + 32 ≤ 32 := by omega
  refine G.widen (c' := 0 + 0) (k' := 0 + 0) (Nat.le_refl 0) (Nat.le_refl 0) ?_
  exact g_aload_n F dX11_init_0 rfl 0 rfl <|
g_objInit (rest := []) F dX11_init_1 q1463 q182 q_objcode (Nat.le_of_ble_eq_true rfl) (Nat.le_of_ble_eq_true rfl) <|
g_aload_n F dX11_init_4 rfl 0 rfl <|
g_bipush F dX11_init_5 bp_32 <|
g_newI (t := 0) F dX11_init_7 q256 rfl rfl rfl (Nat.le_of_ble_eq_true rfl) (Nat.le_of_ble_eq_true rfl) (show 0 + 0 + 1 ≤ 1 by omega) (show 0 + 0 + 32 ≤ 32 by omega) hk fun q10 h11 hk =>
g_putF F dX11_init_9 fo_X11_0_LockstepRoom_Tree ck_X11 q1469 rfl hnm rfl (v := aR (some q10)) (fit_ra .int (some q10)) hk fun h12 hk =>
g_iconst F dX11_init_12 ic_0 <|
g_istore_n F dX11_init_13 rfl (Nat.le_of_ble_eq_true rfl) rfl <|
G.fewer [1, 2, 0] rfl <| G.widen (show 0 + 0 + 1 ≤ 0 + 1 by omega) (show 0 + 0 + 32 ≤ 0 + 32 by omega) <| s_X11_init_l14 F hnm (ce := 0 + 1) (ke := 0 + 32) (show 0 + 1 ≤ 1 by omega) (show 0 + 32 ≤ 32 by omega) 1000000 v1 (0:Int32) h12 (0 + 1) (0 + 32) (show 0 + 1 + 1000000 * 0 ≤ 0 + 1 by omega) (show 0 + 32 + 1000000 * 0 ≤ 0 + 32 by omega) hk ((fun h hk => g_bipush F dX11_init_49 bp_15 <|
g_istore_n F dX11_init_51 rfl (Nat.le_of_ble_eq_true rfl) rfl <|
G.fewer [1, 0] rfl <| s_X11_init_l52 F hnm (ce := 0 + 1) (ke := 0 + 32) (show 0 + 1 ≤ 1 by omega) (show 0 + 32 ≤ 32 by omega) 1000000 (15:Int32) h (0 + 1) (0 + 32) (show 0 + 1 + 1000000 * 0 ≤ 0 + 1 by omega) (show 0 + 32 + 1000000 * 0 ≤ 0 + 32 by omega) hk ((fun h hk => g_vret F dX11_init_112 (show 0 + 1 ≤ 1 by omega) (show 0 + 32 ≤ 32 by omega) hk))))
abbrev rmX11_root : Room := { frames := 2, cells := 0, slots := 0, locals := 40 }
theorem m_X11_root {S : Sx} (hS0 : Sok S) (v0 : Nat) (h : hH) (Q : Int32 → hH → Prop) (hk : f_X11_root S.E v0 h Q) : Ct S yX11_root (ws_ yX11_root cX11_root 1 (some .int)) rmX11_root ([aR (some v0)].map vv) h (qI Q) := by
  refine Ct.of hS0 (by decide +kernel) rfl (Nat.le_of_ble_eq_true rfl) fun x hxS F hnm => ?_
  subst hxS
  unfold f_X11_root at hk
  exact g_aload_n F dX11_root_0 rfl 0 rfl <|
g_getR F dX11_root_1 fo_X11_0_LockstepRoom_Tree in_X11 fl_LockstepRoom_Tree_9_X11 hk fun x1 hk =>
g_iconst F dX11_root_4 ic_1 <|
g_iald F dX11_root_5 hk fun x2 hk =>
g_iret F dX11_root_6 (Nat.le_refl 0) (Nat.le_refl 0) hk
abbrev rmX10_init : Room := { frames := 4, cells := 1, slots := 9, locals := 80 }
theorem m_X10_init {S : Sx} (hS0 : Sok S) (v0 : Nat) (v1 : Int32) (v2 : Int32) (v3 : Int32) (v4 : Option Nat) (v5 : Int32) (h : hH) (Q : hH → Prop) (hk : f_X10_init S.E v0 v1 v2 v3 v4 v5 h Q) : Ct S yX10_init (ws_ yX10_init cX10_init 6 none) rmX10_init ([aR (some v0), aI v1, aI v2, aI v3, aR v4, aI v5].map vv) h (qV Q) := by
  refine Ct.of hS0 (by decide +kernel) rfl (Nat.le_of_ble_eq_true rfl) fun x hxS F hnm => ?_
  subst hxS
  unfold f_X10_init at hk
  have hM : 0 + 1 ≤ 1 := by omega
  have hS : 0 + 9 ≤ 9 := by omega
  refine G.widen (c' := 0 + 0) (k' := 0 + 0) (Nat.le_refl 0) (Nat.le_refl 0) ?_
  exact g_aload_n F dX10_init_0 rfl 0 rfl <|
g_objInit (rest := []) F dX10_init_1 q1365 q182 q_objcode (Nat.le_of_ble_eq_true rfl) (Nat.le_of_ble_eq_true rfl) <|
g_aload_n F dX10_init_4 rfl 0 rfl <|
g_iconst F dX10_init_5 ic_1 <|
g_putV F dX10_init_6 fo_X10_5_LockstepRoom_Member ck_X10 fl_LockstepRoom_Member_9_X10 rfl (v := aI (1:Int32)) ⟨rfl, rfl⟩ hk fun h1 hk =>
g_aload_n F dX10_init_9 rfl 0 rfl <|
g_new (fs := [va_rf none, va_rf none, va_rf none, va_rf none, .int 0, .int 0, va_rf none, va_rf none, va_rf none]) F dX10_init_10 ck_J24 ct_J24 q1366 q1367 q149 df_J24 (show 0 + 0 + 1 ≤ 1 by omega) (show 0 + 0 + 9 ≤ 9 by omega) hk fun q2 h3 hk =>
g_dup F dX10_init_13 rfl <|
g_callv0 (g_I F dX10_init_14 q1368 mc_J24_init (rm' := rmJ24_init) ⟨Nat.le_of_ble_eq_true rfl, Nat.le_of_ble_eq_true rfl⟩ ⟨show 0 + 0 + 1 + 0 ≤ 1 by omega, show 0 + 0 + 9 + 0 ≤ 9 by omega⟩ (As := []) (rest := [aR (some q2), aR (some v0)]) rfl rfl (Nat.le_of_ble_eq_true rfl) (m_J24_init F.ok q2 h3 _ hk)) ⟨rfl, rfl⟩ fun h4 hk =>
g_putF F dX10_init_17 fo_X10_9_LockstepRoom_Member ck_X10 q1427 rfl hnm rfl (v := aR (some q2)) (fit_rf "java/util/TreeMap" (some q2)) hk fun h5 hk =>
g_aload_n F dX10_init_20 rfl 0 rfl <|
g_iload_n F dX10_init_21 rfl 1 rfl <|
g_putF F dX10_init_22 fo_X10_0_LockstepRoom_Member ck_X10 q1400 rfl hnm rfl (v := aI v1) (fit_i v1) hk fun h6 hk =>
g_aload_n F dX10_init_25 rfl 0 rfl <|
g_iload_n F dX10_init_26 rfl 2 rfl <|
g_putF F dX10_init_27 fo_X10_1_LockstepRoom_Member ck_X10 q1403 rfl hnm rfl (v := aI v2) (fit_i v2) hk fun h7 hk =>
g_aload_n F dX10_init_30 rfl 0 rfl <|
g_iload_n F dX10_init_31 rfl 3 rfl <|
g_putF F dX10_init_32 fo_X10_2_LockstepRoom_Member ck_X10 q1405 rfl hnm rfl (v := aI v3) (fit_i v3) hk fun h8 hk =>
g_aload_n F dX10_init_35 rfl 0 rfl <|
g_aload F dX10_init_36 4 rfl <|
g_putV F dX10_init_38 fo_X10_3_LockstepRoom_Member ck_X10 fl_LockstepRoom_Member_32_X10 rfl (v := aR v4) (fit_ra .int v4) hk fun h9 hk =>
g_aload_n F dX10_init_41 rfl 0 rfl <|
g_iload F dX10_init_42 5 rfl <|
g_putV F dX10_init_44 fo_X10_4_LockstepRoom_Member ck_X10 fl_LockstepRoom_Member_36_X10 rfl (v := aI v5) (fit_i v5) hk fun h10 hk =>
g_vret F dX10_init_47 (show 0 + 0 + 1 ≤ 1 by omega) (show 0 + 0 + 9 ≤ 9 by omega) hk
abbrev rmX10_tree : Room := { frames := 3, cells := 2, slots := 33, locals := 62 }
theorem m_X10_tree {S : Sx} (hS0 : Sok S) (v0 : Nat) (h : hH) (Q : Option Nat → hH → Prop) (hk : f_X10_tree S.E v0 h Q) : Ct S yX10_tree (ws_ yX10_tree cX10_tree 1 (some (.object "LockstepRoom$Tree"))) rmX10_tree ([aR (some v0)].map vv) h (qR Q) := by
  refine Ct.of hS0 (by decide +kernel) rfl (Nat.le_of_ble_eq_true rfl) fun x hxS F hnm => ?_
  subst hxS
  unfold f_X10_tree at hk
  have hM : 0 + 2 ≤ 2 := by omega
  have hS : 0 + 33 ≤ 33 := by omega
  refine G.widen (c' := 0 + 0) (k' := 0 + 0) (Nat.le_refl 0) (Nat.le_refl 0) ?_
  exact g_new (fs := [va_rf none]) F dX10_tree_0 ck_X11 ct_X11 q1458 q1459 q150 df_X11 (show 0 + 0 + 1 ≤ 2 by omega) (show 0 + 0 + 1 ≤ 33 by omega) hk fun q1 h2 hk =>
g_dup F dX10_tree_3 rfl <|
g_aload_n F dX10_tree_4 rfl 0 rfl <|
g_getR F dX10_tree_5 fo_X10_3_LockstepRoom_Member in_X10 fl_LockstepRoom_Member_32_X10 hk fun x3 hk =>
g_callv (g_I F dX10_tree_8 q1460 mc_X11_init (rm' := rmX11_init) ⟨Nat.le_of_ble_eq_true rfl, Nat.le_of_ble_eq_true rfl⟩ ⟨show 0 + 0 + 1 + 1 ≤ 2 by omega, show 0 + 0 + 1 + 32 ≤ 33 by omega⟩ (As := [aR x3]) (rest := [aR (some q1)]) rfl rfl (Nat.le_of_ble_eq_true rfl) (m_X11_init F.ok q1 x3 h2 _ hk)) fun h4 hk =>
g_aret F (Or.inl ⟨_, rfl⟩) dX10_tree_11 (show 0 + 0 + 1 + 1 ≤ 2 by omega) (show 0 + 0 + 1 + 32 ≤ 33 by omega) hk
abbrev rmX10_note : Room := { frames := 9, cells := 4, slots := 40, locals := 198 }
theorem m_X10_note {S : Sx} (hS0 : Sok S) (v0 : Nat) (h : hH) (Q : hH → Prop) (hk : f_X10_note S.E v0 h Q) : Ct S yX10_note (ws_ yX10_note cX10_note 2 none) rmX10_note ([aR (some v0)].map vv) h (qV Q) := by
  refine Ct.of hS0 (by decide +kernel) rfl (Nat.le_of_ble_eq_true rfl) fun x hxS F hnm => ?_
  subst hxS
  unfold f_X10_note at hk
  have hM : 0 + 4 ≤ 4 := by omega
  have hS : 0 + 40 ≤ 40 := by omega
  refine G.widen (c' := 0 + 0) (k' := 0 + 0) (Nat.le_refl 0) (Nat.le_refl 0) ?_
  exact g_aload_n F dX10_note_0 rfl 0 rfl <|
g_getR F dX10_note_1 fo_X10_9_LockstepRoom_Member in_X10 fl_LockstepRoom_Member_18_X10 hk fun x1 hk =>
g_aload_n F dX10_note_4 rfl 0 rfl <|
g_getI F dX10_note_5 fo_X10_4_LockstepRoom_Member in_X10 fl_LockstepRoom_Member_36_X10 hk fun x2 hk =>
g_callr0 (g_S F dX10_note_8 q1453 ms_J20_valueOf (rm' := rmJ20_valueOfS) ⟨Nat.le_of_ble_eq_true rfl, Nat.le_of_ble_eq_true rfl⟩ ⟨show 0 + 0 + 0 ≤ 4 by omega, show 0 + 0 + 0 ≤ 40 by omega⟩ (As := [aI x2]) (rest := [aR x1]) rfl rfl (Nat.le_of_ble_eq_true rfl) (m_J20_valueOfS F.ok x2 h _ hk)) ⟨rfl, rfl⟩ fun x4 h3 hk =>
g_aload_n F dX10_note_11 rfl 0 rfl <|
g_callr (g_V F dX10_note_12 q1454 mi_X10_tree ct_X10 (rm' := rmX10_tree) ⟨Nat.le_of_ble_eq_true rfl, Nat.le_of_ble_eq_true rfl⟩ ⟨show 0 + 0 + 2 ≤ 4 by omega, show 0 + 0 + 33 ≤ 40 by omega⟩ (As := []) (rest := [aR x4, aR x1]) rfl rfl (Nat.le_of_ble_eq_true rfl) hk (fun a7 hk => m_X10_tree F.ok a7 h3 _ hk)) fun x6 h5 hk =>
g_calli0 (g_V F dX10_note_15 q1475 mi_X11_root ct_X11 (rm' := rmX11_root) ⟨Nat.le_of_ble_eq_true rfl, Nat.le_of_ble_eq_true rfl⟩ ⟨show 0 + 0 + 2 + 0 ≤ 4 by omega, show 0 + 0 + 33 + 0 ≤ 40 by omega⟩ (As := []) (rest := [aR x4, aR x1]) rfl rfl (Nat.le_of_ble_eq_true rfl) hk (fun a10 hk => m_X11_root F.ok a10 h5 _ hk)) ⟨rfl, rfl⟩ fun x9 h8 hk =>
g_callr (g_S F dX10_note_18 q1453 ms_J20_valueOf (rm' := rmJ20_valueOf) ⟨Nat.le_of_ble_eq_true rfl, Nat.le_of_ble_eq_true rfl⟩ ⟨show 0 + 0 + 2 + 1 ≤ 4 by omega, show 0 + 0 + 33 + 1 ≤ 40 by omega⟩ (As := [aI x9]) (rest := [aR x4, aR x1]) rfl rfl (Nat.le_of_ble_eq_true rfl) (m_J20_valueOf F.ok x9 h8 _ hk)) fun x12 h11 hk =>
g_callr (g_V F dX10_note_21 q1479 mi_J24_put ct_J24 (rm' := rmJ24_put) ⟨Nat.le_of_ble_eq_true rfl, Nat.le_of_ble_eq_true rfl⟩ ⟨show 0 + 0 + 2 + 1 + 1 ≤ 4 by omega, show 0 + 0 + 33 + 1 + 6 ≤ 40 by omega⟩ (As := [aR x4, aR x12]) (rest := []) rfl rfl (Nat.le_of_ble_eq_true rfl) hk (fun a15 hk => m_J24_put F.ok a15 x4 x12 h11 _ hk)) fun x14 h13 hk =>
g_castS F dX10_note_24 q1563 ct_J20 hk fun hk =>
g_astore_n F dX10_note_27 rfl (Nat.le_of_ble_eq_true rfl) rfl <|
g_vret F dX10_note_28 (show 0 + 0 + 2 + 1 + 1 ≤ 4 by omega) (show 0 + 0 + 33 + 1 + 6 ≤ 40 by omega) hk
abbrev rmX10_rootAt : Room := { frames := 7, cells := 1, slots := 1, locals := 149 }
theorem m_X10_rootAt {S : Sx} (hS0 : Sok S) (v0 : Nat) (v1 : Int32) (h : hH) (Q : Int32 → hH → Prop) (hk : f_X10_rootAt S.E v0 v1 h Q) : Ct S yX10_rootAt (ws_ yX10_rootAt cX10_rootAt 3 (some .int)) rmX10_rootAt ([aR (some v0), aI v1].map vv) h (qI Q) := by
  refine Ct.of hS0 (by decide +kernel) rfl (Nat.le_of_ble_eq_true rfl) fun x hxS F hnm => ?_
  subst hxS
  unfold f_X10_rootAt at hk
  have hM : 0 + 1 ≤ 1 := by omega
  have hS : 0 + 1 ≤ 1 := by omega
  refine G.widen (c' := 0 + 0) (k' := 0 + 0) (Nat.le_refl 0) (Nat.le_refl 0) ?_
  exact g_aload_n F dX10_rootAt_0 rfl 0 rfl <|
g_getR F dX10_rootAt_1 fo_X10_9_LockstepRoom_Member in_X10 fl_LockstepRoom_Member_18_X10 hk fun x1 hk =>
g_iload_n F dX10_rootAt_4 rfl 1 rfl <|
g_callr (g_S F dX10_rootAt_5 q1453 ms_J20_valueOf (rm' := rmJ20_valueOf) ⟨Nat.le_of_ble_eq_true rfl, Nat.le_of_ble_eq_true rfl⟩ ⟨show 0 + 0 + 1 ≤ 1 by omega, show 0 + 0 + 1 ≤ 1 by omega⟩ (As := [aI v1]) (rest := [aR x1]) rfl rfl (Nat.le_of_ble_eq_true rfl) (m_J20_valueOf F.ok v1 h _ hk)) fun x3 h2 hk =>
g_callr0 (g_V F dX10_rootAt_8 q1656 mi_J24_get ct_J24 (rm' := rmJ24_get) ⟨Nat.le_of_ble_eq_true rfl, Nat.le_of_ble_eq_true rfl⟩ ⟨show 0 + 0 + 1 + 0 ≤ 1 by omega, show 0 + 0 + 1 + 0 ≤ 1 by omega⟩ (As := [aR x3]) (rest := []) rfl rfl (Nat.le_of_ble_eq_true rfl) hk (fun a6 hk => m_J24_get F.ok a6 x3 h2 _ hk)) ⟨rfl, rfl⟩ fun x5 h4 hk =>
g_castS F dX10_rootAt_11 q1563 ct_J20 hk fun hk =>
g_astore_n F dX10_rootAt_14 rfl (Nat.le_of_ble_eq_true rfl) rfl <|
g_aload_n F dX10_rootAt_15 rfl 0 rfl <|
g_ifnonnull F dX10_rootAt_16 (tgt := 23) rfl (fun hc => have hk := hk.2 hc
g_aload_n F dX10_rootAt_23 rfl 0 rfl <|
g_calli0 (g_V F dX10_rootAt_24 q1668 mi_J20_intValue ct_J20 (rm' := rmJ20_intValue) ⟨Nat.le_of_ble_eq_true rfl, Nat.le_of_ble_eq_true rfl⟩ ⟨show 0 + 0 + 1 + 0 ≤ 1 by omega, show 0 + 0 + 1 + 0 ≤ 1 by omega⟩ (As := []) (rest := []) rfl rfl (Nat.le_of_ble_eq_true rfl) hk (fun a9 hk => m_J20_intValue F.ok a9 h4 _ hk)) ⟨rfl, rfl⟩ fun x8 h7 hk =>
g_iret F dX10_rootAt_27 (show 0 + 0 + 1 ≤ 1 by omega) (show 0 + 0 + 1 ≤ 1 by omega) hk) (fun hc => have hk := hk.1 hc
g_iconst F dX10_rootAt_19 ic_m1 <|
g_goto F dX10_rootAt_20 (tgt := 27) rfl <|
g_iret F dX10_rootAt_27 (show 0 + 0 + 1 ≤ 1 by omega) (show 0 + 0 + 1 ≤ 1 by omega) hk)
abbrev rmX10_copy : Room := { frames := 16, cells := 132, slots := 802, locals := 434 }
theorem m_X10_copy {S : Sx} (hS0 : Sok S) (v0 : Nat) (h : hH) (Q : Option Nat → hH → Prop) (hk : f_X10_copy S.E v0 h Q) : Ct S yX10_copy (ws_ yX10_copy cX10_copy 2 (some (.object "LockstepRoom$Member"))) rmX10_copy ([aR (some v0)].map vv) h (qR Q) := by
  refine Ct.of hS0 (by decide +kernel) rfl (Nat.le_of_ble_eq_true rfl) fun x hxS F hnm => ?_
  subst hxS
  unfold f_X10_copy at hk
  have hM : 0 + 132 ≤ 132 := by omega
  have hS : 0 + 802 ≤ 802 := by omega
  refine G.widen (c' := 0 + 0) (k' := 0 + 0) (Nat.le_refl 0) (Nat.le_refl 0) ?_
  exact g_new (fs := [.int 0, .int 0, .int 0, va_rf none, .int 0, .int 0, .int 0, .int 0, .int 0, va_rf none]) F dX10_copy_0 ck_X10 ct_X10 q2042 q1361 q147 df_X10 (show 0 + 0 + 1 ≤ 132 by omega) (show 0 + 0 + 10 ≤ 802 by omega) hk fun q1 h2 hk =>
g_dup F dX10_copy_3 rfl <|
g_aload_n F dX10_copy_4 rfl 0 rfl <|
g_getI F dX10_copy_5 fo_X10_0_LockstepRoom_Member in_X10 fl_LockstepRoom_Member_22_X10 hk fun x3 hk =>
g_aload_n F dX10_copy_8 rfl 0 rfl <|
g_getI F dX10_copy_9 fo_X10_1_LockstepRoom_Member in_X10 fl_LockstepRoom_Member_26_X10 hk fun x4 hk =>
g_aload_n F dX10_copy_12 rfl 0 rfl <|
g_getI F dX10_copy_13 fo_X10_2_LockstepRoom_Member in_X10 fl_LockstepRoom_Member_29_X10 hk fun x5 hk =>
g_aload_n F dX10_copy_16 rfl 0 rfl <|
g_getR F dX10_copy_17 fo_X10_3_LockstepRoom_Member in_X10 fl_LockstepRoom_Member_32_X10 hk fun x6 hk =>
g_clI (rest := [aI x5, aI x4, aI x3, aR (some q1), aR (some q1)]) F dX10_copy_20 q2043 q224 q225 q226 q227 q228 (Nat.le_of_ble_eq_true rfl) (Nat.le_of_ble_eq_true rfl) (show 0 + 0 + 1 + 1 ≤ 132 by omega) (show 0 + 0 + 10 + 16 ≤ 802 by omega) hk fun q7 h8 hk =>
g_castA (t := 0) F dX10_copy_23 q2044 F.arr0 hk fun hk =>
g_aload_n F dX10_copy_26 rfl 0 rfl <|
g_getI F dX10_copy_27 fo_X10_4_LockstepRoom_Member in_X10 fl_LockstepRoom_Member_36_X10 hk fun x9 hk =>
g_callv (g_I F dX10_copy_30 q2045 mc_X10_init (rm' := rmX10_init) ⟨Nat.le_of_ble_eq_true rfl, Nat.le_of_ble_eq_true rfl⟩ ⟨show 0 + 0 + 1 + 1 + 1 ≤ 132 by omega, show 0 + 0 + 10 + 16 + 9 ≤ 802 by omega⟩ (As := [aI x3, aI x4, aI x5, aR (some q7), aI x9]) (rest := [aR (some q1)]) rfl rfl (Nat.le_of_ble_eq_true rfl) (m_X10_init F.ok q1 x3 x4 x5 (some q7) x9 h8 _ hk)) fun h10 hk =>
g_astore_n F dX10_copy_33 rfl (Nat.le_of_ble_eq_true rfl) rfl <|
g_aload_n F dX10_copy_34 rfl 0 rfl <|
g_aload_n F dX10_copy_35 rfl 1 rfl <|
g_getI F dX10_copy_36 fo_X10_5_LockstepRoom_Member in_X10 fl_LockstepRoom_Member_9_X10 hk fun x11 hk =>
g_putV F dX10_copy_39 fo_X10_5_LockstepRoom_Member ck_X10 fl_LockstepRoom_Member_9_X10 rfl (v := aI x11) hk.1 hk.2 fun h12 hk =>
g_aload_n F dX10_copy_42 rfl 0 rfl <|
g_aload_n F dX10_copy_43 rfl 1 rfl <|
g_getI F dX10_copy_44 fo_X10_6_LockstepRoom_Member in_X10 fl_LockstepRoom_Member_47_X10 hk fun x13 hk =>
g_putV F dX10_copy_47 fo_X10_6_LockstepRoom_Member ck_X10 fl_LockstepRoom_Member_47_X10 rfl (v := aI x13) (fit_i x13) hk fun h14 hk =>
g_aload_n F dX10_copy_50 rfl 0 rfl <|
g_aload_n F dX10_copy_51 rfl 1 rfl <|
g_getI F dX10_copy_52 fo_X10_7_LockstepRoom_Member in_X10 fl_LockstepRoom_Member_50_X10 hk fun x15 hk =>
g_putV F dX10_copy_55 fo_X10_7_LockstepRoom_Member ck_X10 fl_LockstepRoom_Member_50_X10 rfl (v := aI x15) (fit_i x15) hk fun h16 hk =>
g_aload_n F dX10_copy_58 rfl 0 rfl <|
g_aload_n F dX10_copy_59 rfl 1 rfl <|
g_getI F dX10_copy_60 fo_X10_8_LockstepRoom_Member in_X10 fl_LockstepRoom_Member_53_X10 hk fun x17 hk =>
g_putV F dX10_copy_63 fo_X10_8_LockstepRoom_Member ck_X10 fl_LockstepRoom_Member_53_X10 rfl (v := aI x17) (fit_i x17) hk fun h18 hk =>
g_aload_n F dX10_copy_66 rfl 0 rfl <|
g_getR F dX10_copy_67 fo_X10_9_LockstepRoom_Member in_X10 fl_LockstepRoom_Member_18_X10 hk fun x19 hk =>
g_aload_n F dX10_copy_70 rfl 1 rfl <|
g_getR F dX10_copy_71 fo_X10_9_LockstepRoom_Member in_X10 fl_LockstepRoom_Member_18_X10 hk fun x20 hk =>
g_callv (g_VW F dX10_copy_74 q2046 q2047 q2048 q149 q2049 rfl mo_J24_putAll ct_J24 (rm' := rmJ24_putAll) ⟨Nat.le_of_ble_eq_true rfl, Nat.le_of_ble_eq_true rfl⟩ ⟨show 0 + 0 + 1 + 1 + 1 + 129 ≤ 132 by omega, show 0 + 0 + 10 + 16 + 9 + 767 ≤ 802 by omega⟩ (As := [aR x20]) (rest := []) rfl rfl (Nat.le_of_ble_eq_true rfl) hk (fun a22 hk => m_J24_putAll F.ok a22 x20 h18 _ hk)) fun h21 hk =>
g_aload_n F dX10_copy_77 rfl 0 rfl <|
g_aret F (Or.inl ⟨_, rfl⟩) dX10_copy_78 (show 0 + 0 + 1 + 1 + 1 + 129 ≤ 132 by omega) (show 0 + 0 + 10 + 16 + 9 + 767 ≤ 802 by omega) hk
abbrev rmX10_first : Room := { frames := 4, cells := 0, slots := 0, locals := 81 }
theorem m_X10_first {S : Sx} (hS0 : Sok S) (v0 : Nat) (h : hH) (Q : Int32 → hH → Prop) (hk : f_X10_first S.E v0 h Q) : Ct S yX10_first (ws_ yX10_first cX10_first 1 (some .int)) rmX10_first ([aR (some v0)].map vv) h (qI Q) := by
  refine Ct.of hS0 (by decide +kernel) rfl (Nat.le_of_ble_eq_true rfl) fun x hxS F hnm => ?_
  subst hxS
  unfold f_X10_first at hk
  exact g_aload_n F dX10_first_0 rfl 0 rfl <|
g_getR F dX10_first_1 fo_X10_9_LockstepRoom_Member in_X10 fl_LockstepRoom_Member_18_X10 hk fun x1 hk =>
g_callr0 (g_V F dX10_first_4 q2721 mi_J24_firstKey ct_J24 (rm' := rmJ24_firstKey) ⟨Nat.le_of_ble_eq_true rfl, Nat.le_of_ble_eq_true rfl⟩ ⟨Nat.le_refl 0, Nat.le_refl 0⟩ (As := []) (rest := []) rfl rfl (Nat.le_of_ble_eq_true rfl) hk (fun a4 hk => m_J24_firstKey F.ok a4 h _ hk)) ⟨rfl, rfl⟩ fun x3 h2 hk =>
g_castS F dX10_first_7 q1563 ct_J20 hk fun hk =>
g_calli0 (g_V F dX10_first_10 q1668 mi_J20_intValue ct_J20 (rm' := rmJ20_intValue) ⟨Nat.le_of_ble_eq_true rfl, Nat.le_of_ble_eq_true rfl⟩ ⟨Nat.le_refl 0, Nat.le_refl 0⟩ (As := []) (rest := []) rfl rfl (Nat.le_of_ble_eq_true rfl) hk (fun a7 hk => m_J20_intValue F.ok a7 h2 _ hk)) ⟨rfl, rfl⟩ fun x6 h5 hk =>
g_iret F dX10_first_13 (Nat.le_refl 0) (Nat.le_refl 0) hk
abbrev rmX13_differs : Room := { frames := 2, cells := 0, slots := 0, locals := 40 }
theorem m_X13_differs {S : Sx} (hS0 : Sok S) (v0 : Nat) (v1 : Int32) (h : hH) (Q : Int32 → hH → Prop) (hk : f_X13_differs S.E v0 v1 h Q) : Ct S yX13_differs (ws_ yX13_differs cX13_differs 2 (some .boolean)) rmX13_differs ([aR (some v0), aI v1].map vv) h (qI Q) := by
  refine Ct.of hS0 (by decide +kernel) rfl (Nat.le_of_ble_eq_true rfl) fun x hxS F hnm => ?_
  subst hxS
  unfold f_X13_differs at hk
  exact g_aload_n F dX13_differs_0 rfl 0 rfl <|
g_dup F dX13_differs_1 rfl <|
g_getI F dX13_differs_2 fo_X13_2_LockstepRoom_Descent in_X13 fl_LockstepRoom_Descent_16_X13 hk fun x1 hk =>
g_iconst F dX13_differs_5 ic_1 <|
g_iadd F dX13_differs_6 <|
g_putV F dX13_differs_7 fo_X13_2_LockstepRoom_Descent ck_X13 fl_LockstepRoom_Descent_16_X13 rfl (v := aI (x1 + (1:Int32))) (fit_i (x1 + (1:Int32))) hk fun h2 hk =>
g_aload_n F dX13_differs_10 rfl 0 rfl <|
g_getR F dX13_differs_11 fo_X13_0_LockstepRoom_Descent in_X13 fl_LockstepRoom_Descent_7_X13 hk fun x3 hk =>
g_getR F dX13_differs_14 fo_X11_0_LockstepRoom_Tree in_X11 fl_LockstepRoom_Descent_20_X11 hk fun x4 hk =>
g_iload_n F dX13_differs_17 rfl 1 rfl <|
g_iald F dX13_differs_18 hk fun x5 hk =>
g_aload_n F dX13_differs_19 rfl 0 rfl <|
g_getR F dX13_differs_20 fo_X13_1_LockstepRoom_Descent in_X13 fl_LockstepRoom_Descent_13_X13 hk fun x6 hk =>
g_getR F dX13_differs_23 fo_X11_0_LockstepRoom_Tree in_X11 fl_LockstepRoom_Descent_20_X11 hk fun x7 hk =>
g_iload_n F dX13_differs_26 rfl 1 rfl <|
g_iald F dX13_differs_27 hk fun x8 hk =>
g_icmp_eq F dX13_differs_28 (tgt := 35) rfl (fun hc => have hk := hk.1 hc
g_iconst F dX13_differs_35 ic_0 <|
g_zret F dX13_differs_36 (Nat.le_refl 0) (Nat.le_refl 0) rfl hk) (fun hc => have hk := hk.2 hc
g_iconst F dX13_differs_31 ic_1 <|
g_goto F dX13_differs_32 (tgt := 36) rfl <|
g_zret F dX13_differs_36 (Nat.le_refl 0) (Nat.le_refl 0) rfl hk)
abbrev rmX13_init : Room := { frames := 2, cells := 0, slots := 0, locals := 40 }
theorem m_X13_init {S : Sx} (hS0 : Sok S) (v0 : Nat) (v1 : Option Nat) (v2 : Option Nat) (h : hH) (Q : hH → Prop) (hk : f_X13_init S.E v0 v1 v2 h Q) : Ct S yX13_init (ws_ yX13_init cX13_init 3 none) rmX13_init ([aR (some v0), aR v1, aR v2].map vv) h (qV Q) := by
  refine Ct.of hS0 (by decide +kernel) rfl (Nat.le_of_ble_eq_true rfl) fun x hxS F hnm => ?_
  subst hxS
  unfold f_X13_init at hk
  exact g_aload_n F dX13_init_0 rfl 0 rfl <|
g_objInit (rest := []) F dX13_init_1 q2513 q182 q_objcode (Nat.le_of_ble_eq_true rfl) (Nat.le_of_ble_eq_true rfl) <|
g_aload_n F dX13_init_4 rfl 0 rfl <|
g_aload_n F dX13_init_5 rfl 1 rfl <|
g_putF F dX13_init_6 fo_X13_0_LockstepRoom_Descent ck_X13 q2514 rfl hnm rfl (v := aR v1) (fit_rf "LockstepRoom$Tree" v1) hk fun h1 hk =>
g_aload_n F dX13_init_9 rfl 0 rfl <|
g_aload_n F dX13_init_10 rfl 2 rfl <|
g_putF F dX13_init_11 fo_X13_1_LockstepRoom_Descent ck_X13 q2515 rfl hnm rfl (v := aR v2) (fit_rf "LockstepRoom$Tree" v2) hk fun h2 hk =>
g_vret F dX13_init_14 (Nat.le_refl 0) (Nat.le_refl 0) hk
abbrev rmX14_goOn : Room := { frames := 6, cells := 0, slots := 0, locals := 125 }
theorem s_X14_goOn_l5 {x : Cx} (F : Fx x cX14_goOn "LockstepRoom$Descent$1" 2 none rmX14_goOn) {v0 : Nat} {Q : hH → Prop} {K99 : hH → Prop} (n : Nat) (h : hH) (hk : f_X14_goOn_l5 x.S.E v0 Q K99 n h) (hK99 : ∀ (h : hH), K99 h → G x (xQ x rmX14_goOn (qV Q)) 99 [] [] h 0 0) : G x (xQ x rmX14_goOn (qV Q)) 5 [(0, aR (some v0))] [] h 0 0 := by
  induction n generalizing h with
  | zero => exact False.elim hk
  | succ n ih =>
    unfold f_X14_goOn_l5 at hk
    exact g_aload_n F dX14_goOn_5 rfl 0 rfl <|
g_getI F dX14_goOn_6 fo_X14_1_LockstepRoom_Descent_1 in_X14 fl_LockstepRoom_Descent_1_22_X14 hk fun x1 hk =>
g_iconst F dX14_goOn_9 ic_m1 <|
g_icmp_ne F dX14_goOn_10 (tgt := 99) rfl (fun hc => have hk := hk.2 hc
G.fewer [] rfl <| hK99 h hk) (fun hc => have hk := hk.1 hc
g_aload_n F dX14_goOn_13 rfl 0 rfl <|
g_getR F dX14_goOn_14 fo_X14_0_LockstepRoom_Descent_1 in_X14 fl_LockstepRoom_Descent_1_18_X14 hk fun x2 hk =>
g_calli0 (g_V F dX14_goOn_17 q2239 mi_J5_isEmpty ct_J5 (rm' := rmJ5_isEmpty) ⟨Nat.le_of_ble_eq_true rfl, Nat.le_of_ble_eq_true rfl⟩ ⟨Nat.le_refl 0, Nat.le_refl 0⟩ (As := []) (rest := []) rfl rfl (Nat.le_of_ble_eq_true rfl) hk (fun a5 hk => m_J5_isEmpty F.ok a5 h _ hk)) ⟨rfl, rfl⟩ fun x4 h3 hk =>
g_if_ne F dX14_goOn_20 (tgt := 99) rfl (fun hc => have hk := hk.2 hc
G.fewer [] rfl <| hK99 h3 hk) (fun hc => have hk := hk.1 hc
g_aload_n F dX14_goOn_23 rfl 0 rfl <|
g_getR F dX14_goOn_24 fo_X14_0_LockstepRoom_Descent_1 in_X14 fl_LockstepRoom_Descent_1_18_X14 hk fun x6 hk =>
g_callr0 (g_V F dX14_goOn_27 q2240 mi_J5_pop ct_J5 (rm' := rmJ5_pop) ⟨Nat.le_of_ble_eq_true rfl, Nat.le_of_ble_eq_true rfl⟩ ⟨Nat.le_refl 0, Nat.le_refl 0⟩ (As := []) (rest := []) rfl rfl (Nat.le_of_ble_eq_true rfl) hk (fun a9 hk => m_J5_pop F.ok a9 h3 _ hk)) ⟨rfl, rfl⟩ fun x8 h7 hk =>
g_castS F dX14_goOn_30 q2245 ct_J20 hk fun hk =>
g_calli0 (g_V F dX14_goOn_33 q2246 mi_J20_intValue ct_J20 (rm' := rmJ20_intValue) ⟨Nat.le_of_ble_eq_true rfl, Nat.le_of_ble_eq_true rfl⟩ ⟨Nat.le_refl 0, Nat.le_refl 0⟩ (As := []) (rest := []) rfl rfl (Nat.le_of_ble_eq_true rfl) hk (fun a12 hk => m_J20_intValue F.ok a12 h7 _ hk)) ⟨rfl, rfl⟩ fun x11 h10 hk =>
g_istore_n F dX14_goOn_36 rfl (Nat.le_of_ble_eq_true rfl) rfl <|
g_aload_n F dX14_goOn_37 rfl 1 rfl <|
g_getR F dX14_goOn_38 fo_X14_2_LockstepRoom_Descent_1 in_X14 fl_LockstepRoom_Descent_1_3_X14 hk fun x13 hk =>
g_iload_n F dX14_goOn_41 rfl 0 rfl <|
g_calli0 (g_VN F dX14_goOn_42 q2247 mi_X13_differs ct_X13 (rm' := rmX13_differs) ⟨Nat.le_of_ble_eq_true rfl, Nat.le_of_ble_eq_true rfl⟩ ⟨Nat.le_refl 0, Nat.le_refl 0⟩ (As := [aI x11]) (rest := []) rfl rfl (Nat.le_of_ble_eq_true rfl) hk (fun a16 hk => m_X13_differs F.ok a16 x11 h10 _ hk)) ⟨rfl, rfl⟩ fun x15 h14 hk =>
g_if_ne F dX14_goOn_45 (tgt := 51) rfl (fun hc => have hk := hk.2 hc
g_iload_n F dX14_goOn_51 rfl 0 rfl <|
g_bipush F dX14_goOn_52 bp_16 <|
g_icmp_lt F dX14_goOn_54 (tgt := 68) rfl (fun hc => have hk := hk.1 hc
g_aload_n F dX14_goOn_68 rfl 1 rfl <|
g_getR F dX14_goOn_69 fo_X14_0_LockstepRoom_Descent_1 in_X14 fl_LockstepRoom_Descent_1_18_X14 hk fun x17 hk =>
g_iconst F dX14_goOn_72 ic_2 <|
g_iload_n F dX14_goOn_73 rfl 0 rfl <|
g_imul F dX14_goOn_74 <|
g_iconst F dX14_goOn_75 ic_1 <|
g_iadd F dX14_goOn_76 <|
g_callr0 (g_S F dX14_goOn_77 q2252 ms_J20_valueOf (rm' := rmJ20_valueOfS) ⟨Nat.le_of_ble_eq_true rfl, Nat.le_of_ble_eq_true rfl⟩ ⟨Nat.le_refl 0, Nat.le_refl 0⟩ (As := [aI (((2:Int32) * x11) + (1:Int32))]) (rest := [aR x17]) rfl rfl (Nat.le_of_ble_eq_true rfl) (m_J20_valueOfS F.ok (((2:Int32) * x11) + (1:Int32)) h14 _ hk)) ⟨rfl, rfl⟩ fun x19 h18 hk =>
g_callv0 (g_V F dX14_goOn_80 q2253 mi_J5_push ct_J5 (rm' := rmJ5_push) ⟨Nat.le_of_ble_eq_true rfl, Nat.le_of_ble_eq_true rfl⟩ ⟨Nat.le_refl 0, Nat.le_refl 0⟩ (As := [aR x19]) (rest := []) rfl rfl (Nat.le_of_ble_eq_true rfl) hk (fun a21 hk => m_J5_push F.ok a21 x19 h18 _ hk)) ⟨rfl, rfl⟩ fun h20 hk =>
g_aload_n F dX14_goOn_83 rfl 1 rfl <|
g_getR F dX14_goOn_84 fo_X14_0_LockstepRoom_Descent_1 in_X14 fl_LockstepRoom_Descent_1_18_X14 hk fun x22 hk =>
g_iconst F dX14_goOn_87 ic_2 <|
g_iload_n F dX14_goOn_88 rfl 0 rfl <|
g_imul F dX14_goOn_89 <|
g_callr0 (g_S F dX14_goOn_90 q2252 ms_J20_valueOf (rm' := rmJ20_valueOfS) ⟨Nat.le_of_ble_eq_true rfl, Nat.le_of_ble_eq_true rfl⟩ ⟨Nat.le_refl 0, Nat.le_refl 0⟩ (As := [aI ((2:Int32) * x11)]) (rest := [aR x22]) rfl rfl (Nat.le_of_ble_eq_true rfl) (m_J20_valueOfS F.ok ((2:Int32) * x11) h20 _ hk)) ⟨rfl, rfl⟩ fun x24 h23 hk =>
g_callv0 (g_V F dX14_goOn_93 q2253 mi_J5_push ct_J5 (rm' := rmJ5_push) ⟨Nat.le_of_ble_eq_true rfl, Nat.le_of_ble_eq_true rfl⟩ ⟨Nat.le_refl 0, Nat.le_refl 0⟩ (As := [aR x24]) (rest := []) rfl rfl (Nat.le_of_ble_eq_true rfl) hk (fun a26 hk => m_J5_push F.ok a26 x24 h23 _ hk)) ⟨rfl, rfl⟩ fun h25 hk =>
g_goto F dX14_goOn_96 (tgt := 5) rfl <|
G.fewer [1] rfl <| ih h25 hk) (fun hc => have hk := hk.2 hc
g_aload_n F dX14_goOn_57 rfl 1 rfl <|
g_iload_n F dX14_goOn_58 rfl 0 rfl <|
g_bipush F dX14_goOn_59 bp_16 <|
g_isub F dX14_goOn_61 <|
g_putV F dX14_goOn_62 fo_X14_1_LockstepRoom_Descent_1 ck_X14 fl_LockstepRoom_Descent_1_22_X14 rfl (v := aI (x11 - (16:Int32))) (fit_i (x11 - (16:Int32))) hk fun h27 hk =>
g_goto F dX14_goOn_65 (tgt := 96) rfl <|
g_goto F dX14_goOn_96 (tgt := 5) rfl <|
G.fewer [1] rfl <| ih h27 hk)) (fun hc => have hk := hk.1 hc
g_goto F dX14_goOn_48 (tgt := 5) rfl <|
G.fewer [1] rfl <| ih h14 hk)))
theorem m_X14_goOn {S : Sx} (hS0 : Sok S) (v0 : Nat) (h : hH) (Q : hH → Prop) (hk : f_X14_goOn S.E v0 h Q) : Ct S yX14_goOn (ws_ yX14_goOn cX14_goOn 2 none) rmX14_goOn ([aR (some v0)].map vv) h (qV Q) := by
  refine Ct.of hS0 (by decide +kernel) rfl (Nat.le_of_ble_eq_true rfl) fun x hxS F hnm => ?_
  subst hxS
  unfold f_X14_goOn at hk
  exact g_aload_n F dX14_goOn_0 rfl 0 rfl <|
g_iconst F dX14_goOn_1 ic_m1 <|
g_putV F dX14_goOn_2 fo_X14_1_LockstepRoom_Descent_1 ck_X14 fl_LockstepRoom_Descent_1_22_X14 rfl (v := aI (-1:Int32)) (fit_i (-1:Int32)) hk fun h28 hk =>
s_X14_goOn_l5 F 1000000 h28 hk ((fun h hk => g_vret F dX14_goOn_99 (Nat.le_refl 0) (Nat.le_refl 0) hk))
abbrev rmX14_init : Room := { frames := 7, cells := 2, slots := 20, locals := 146 }
theorem m_X14_init {S : Sx} (hS0 : Sok S) (v0 : Nat) (v1 : Option Nat) (h : hH) (Q : hH → Prop) (hk : f_X14_init S.E v0 v1 h Q) : Ct S yX14_init (ws_ yX14_init cX14_init 2 none) rmX14_init ([aR (some v0), aR v1].map vv) h (qV Q) := by
  refine Ct.of hS0 (by decide +kernel) rfl (Nat.le_of_ble_eq_true rfl) fun x hxS F hnm => ?_
  subst hxS
  unfold f_X14_init at hk
  have hM : 0 + 2 ≤ 2 := by omega
  have hS : 0 + 20 ≤ 20 := by omega
  refine G.widen (c' := 0 + 0) (k' := 0 + 0) (Nat.le_refl 0) (Nat.le_refl 0) ?_
  exact g_aload_n F dX14_init_0 rfl 0 rfl <|
g_aload_n F dX14_init_1 rfl 1 rfl <|
g_putF F dX14_init_2 fo_X14_2_LockstepRoom_Descent_1 ck_X14 q2538 rfl hnm rfl (v := aR v1) (fit_rf "LockstepRoom$Descent" v1) hk fun h1 hk =>
g_aload_n F dX14_init_5 rfl 0 rfl <|
g_objInit (rest := []) F dX14_init_6 q2533 q182 q_objcode (Nat.le_of_ble_eq_true rfl) (Nat.le_of_ble_eq_true rfl) <|
g_aload_n F dX14_init_9 rfl 0 rfl <|
g_new (fs := [va_rf none, .int 0, .int 0]) F dX14_init_10 ck_J5 ct_J5 q2534 q327 q120 df_J5 (show 0 + 0 + 1 ≤ 2 by omega) (show 0 + 0 + 3 ≤ 20 by omega) hk fun q2 h3 hk =>
g_dup F dX14_init_13 rfl <|
g_callv (g_I F dX14_init_14 q2535 mc_J5_init (rm' := rmJ5_init) ⟨Nat.le_of_ble_eq_true rfl, Nat.le_of_ble_eq_true rfl⟩ ⟨show 0 + 0 + 1 + 1 ≤ 2 by omega, show 0 + 0 + 3 + 17 ≤ 20 by omega⟩ (As := []) (rest := [aR (some q2), aR (some v0)]) rfl rfl (Nat.le_of_ble_eq_true rfl) (m_J5_init F.ok q2 h3 _ hk)) fun h4 hk =>
g_putF F dX14_init_17 fo_X14_0_LockstepRoom_Descent_1 ck_X14 q2536 rfl hnm rfl (v := aR (some q2)) (fit_rf "java/util/ArrayDeque" (some q2)) hk fun h5 hk =>
g_aload_n F dX14_init_20 rfl 0 rfl <|
g_iconst F dX14_init_21 ic_m1 <|
g_putV F dX14_init_22 fo_X14_1_LockstepRoom_Descent_1 ck_X14 fl_LockstepRoom_Descent_1_22_X14 rfl (v := aI (-1:Int32)) (fit_i (-1:Int32)) hk fun h6 hk =>
g_aload_n F dX14_init_25 rfl 0 rfl <|
g_getR F dX14_init_26 fo_X14_0_LockstepRoom_Descent_1 in_X14 fl_LockstepRoom_Descent_1_18_X14 hk fun x7 hk =>
g_iconst F dX14_init_29 ic_1 <|
g_callr0 (g_S F dX14_init_30 q2252 ms_J20_valueOf (rm' := rmJ20_valueOfS) ⟨Nat.le_of_ble_eq_true rfl, Nat.le_of_ble_eq_true rfl⟩ ⟨show 0 + 0 + 1 + 1 + 0 ≤ 2 by omega, show 0 + 0 + 3 + 17 + 0 ≤ 20 by omega⟩ (As := [aI (1:Int32)]) (rest := [aR x7]) rfl rfl (Nat.le_of_ble_eq_true rfl) (m_J20_valueOfS F.ok (1:Int32) h6 _ hk)) ⟨rfl, rfl⟩ fun x9 h8 hk =>
g_callv0 (g_V F dX14_init_33 q2253 mi_J5_push ct_J5 (rm' := rmJ5_push) ⟨Nat.le_of_ble_eq_true rfl, Nat.le_of_ble_eq_true rfl⟩ ⟨show 0 + 0 + 1 + 1 + 0 ≤ 2 by omega, show 0 + 0 + 3 + 17 + 0 ≤ 20 by omega⟩ (As := [aR x9]) (rest := []) rfl rfl (Nat.le_of_ble_eq_true rfl) hk (fun a11 hk => m_J5_push F.ok a11 x9 h8 _ hk)) ⟨rfl, rfl⟩ fun h10 hk =>
g_aload_n F dX14_init_36 rfl 0 rfl <|
g_callv0 (g_V F dX14_init_37 q2234 mi_X14_goOn ct_X14 (rm' := rmX14_goOn) ⟨Nat.le_of_ble_eq_true rfl, Nat.le_of_ble_eq_true rfl⟩ ⟨show 0 + 0 + 1 + 1 + 0 ≤ 2 by omega, show 0 + 0 + 3 + 17 + 0 ≤ 20 by omega⟩ (As := []) (rest := []) rfl rfl (Nat.le_of_ble_eq_true rfl) hk (fun a13 hk => m_X14_goOn F.ok a13 h10 _ hk)) ⟨rfl, rfl⟩ fun h12 hk =>
g_vret F dX14_init_40 (show 0 + 0 + 1 + 1 ≤ 2 by omega) (show 0 + 0 + 3 + 17 ≤ 20 by omega) hk
abbrev rmX13_iterator : Room := { frames := 8, cells := 3, slots := 23, locals := 167 }
theorem m_X13_iterator {S : Sx} (hS0 : Sok S) (v0 : Nat) (h : hH) (Q : Option Nat → hH → Prop) (hk : f_X13_iterator S.E v0 h Q) : Ct S yX13_iterator (ws_ yX13_iterator cX13_iterator 1 (some (.object "java/util/Iterator"))) rmX13_iterator ([aR (some v0)].map vv) h (qR Q) := by
  refine Ct.of hS0 (by decide +kernel) rfl (Nat.le_of_ble_eq_true rfl) fun x hxS F hnm => ?_
  subst hxS
  unfold f_X13_iterator at hk
  have hM : 0 + 3 ≤ 3 := by omega
  have hS : 0 + 23 ≤ 23 := by omega
  refine G.widen (c' := 0 + 0) (k' := 0 + 0) (Nat.le_refl 0) (Nat.le_refl 0) ?_
  exact g_new (fs := [va_rf none, .int 0, va_rf none]) F dX13_iterator_0 ck_X14 ct_X14 q2529 q2237 q157 df_X14 (show 0 + 0 + 1 ≤ 3 by omega) (show 0 + 0 + 3 ≤ 23 by omega) hk fun q1 h2 hk =>
g_dup F dX13_iterator_3 rfl <|
g_aload_n F dX13_iterator_4 rfl 0 rfl <|
g_callv (g_I F dX13_iterator_5 q2530 mc_X14_init (rm' := rmX14_init) ⟨Nat.le_of_ble_eq_true rfl, Nat.le_of_ble_eq_true rfl⟩ ⟨show 0 + 0 + 1 + 2 ≤ 3 by omega, show 0 + 0 + 3 + 20 ≤ 23 by omega⟩ (As := [aR (some v0)]) (rest := [aR (some q1)]) rfl rfl (Nat.le_of_ble_eq_true rfl) (m_X14_init F.ok q1 (some v0) h2 _ hk)) fun h3 hk =>
g_aret F (Or.inl ⟨_, rfl⟩) dX13_iterator_8 (show 0 + 0 + 1 + 2 ≤ 3 by omega) (show 0 + 0 + 3 + 20 ≤ 23 by omega) hk
abbrev rmX14_next_2 : Room := { frames := 7, cells := 0, slots := 0, locals := 146 }
theorem m_X14_next_2 {S : Sx} (hS0 : Sok S) (v0 : Nat) (h : hH) (Q : Option Nat → hH → Prop) (hk : f_X14_next_2 S.E v0 h Q) : Ct S yX14_next_2 (ws_ yX14_next_2 cX14_next_2 2 (some (.object "java/lang/Integer"))) rmX14_next_2 ([aR (some v0)].map vv) h (qR Q) := by
  refine Ct.of hS0 (by decide +kernel) rfl (Nat.le_of_ble_eq_true rfl) fun x hxS F hnm => ?_
  subst hxS
  unfold f_X14_next_2 at hk
  exact g_aload_n F dX14_next_2_0 rfl 0 rfl <|
g_getI F dX14_next_2_1 fo_X14_1_LockstepRoom_Descent_1 in_X14 fl_LockstepRoom_Descent_1_22_X14 hk fun x1 hk =>
g_iconst F dX14_next_2_4 ic_m1 <|
g_icmp_ne F dX14_next_2_5 (tgt := 16) rfl (fun hc => have hk := hk.2 hc
g_aload_n F dX14_next_2_16 rfl 0 rfl <|
g_getI F dX14_next_2_17 fo_X14_1_LockstepRoom_Descent_1 in_X14 fl_LockstepRoom_Descent_1_22_X14 hk fun x2 hk =>
g_istore_n F dX14_next_2_20 rfl (Nat.le_of_ble_eq_true rfl) rfl <|
g_aload_n F dX14_next_2_21 rfl 1 rfl <|
g_callv0 (g_V F dX14_next_2_22 q2234 mi_X14_goOn ct_X14 (rm' := rmX14_goOn) ⟨Nat.le_of_ble_eq_true rfl, Nat.le_of_ble_eq_true rfl⟩ ⟨Nat.le_refl 0, Nat.le_refl 0⟩ (As := []) (rest := []) rfl rfl (Nat.le_of_ble_eq_true rfl) hk (fun a4 hk => m_X14_goOn F.ok a4 h _ hk)) ⟨rfl, rfl⟩ fun h3 hk =>
g_iload_n F dX14_next_2_25 rfl 0 rfl <|
g_callr0 (g_S F dX14_next_2_26 q2252 ms_J20_valueOf (rm' := rmJ20_valueOfS) ⟨Nat.le_of_ble_eq_true rfl, Nat.le_of_ble_eq_true rfl⟩ ⟨Nat.le_refl 0, Nat.le_refl 0⟩ (As := [aI x2]) (rest := []) rfl rfl (Nat.le_of_ble_eq_true rfl) (m_J20_valueOfS F.ok x2 h3 _ hk)) ⟨rfl, rfl⟩ fun x6 h5 hk =>
g_aret F (Or.inl ⟨_, rfl⟩) dX14_next_2_29 (Nat.le_refl 0) (Nat.le_refl 0) hk) (fun hc => have hk := hk.1 hc
False.elim hk)
abbrev rmX14_next : Room := { frames := 8, cells := 0, slots := 0, locals := 167 }
theorem m_X14_next {S : Sx} (hS0 : Sok S) (v0 : Nat) (h : hH) (Q : Option Nat → hH → Prop) (hk : f_X14_next S.E v0 h Q) : Ct S yX14_next (ws_ yX14_next cX14_next 1 (some (.object "java/lang/Object"))) rmX14_next ([aR (some v0)].map vv) h (qR Q) := by
  refine Ct.of hS0 (by decide +kernel) rfl (Nat.le_of_ble_eq_true rfl) fun x hxS F hnm => ?_
  subst hxS
  unfold f_X14_next at hk
  exact g_aload_n F dX14_next_0 rfl 0 rfl <|
g_callr0 (g_V F dX14_next_1 q2207 mi_X14_next_2 ct_X14 (rm' := rmX14_next_2) ⟨Nat.le_of_ble_eq_true rfl, Nat.le_of_ble_eq_true rfl⟩ ⟨Nat.le_refl 0, Nat.le_refl 0⟩ (As := []) (rest := []) rfl rfl (Nat.le_of_ble_eq_true rfl) hk (fun a3 hk => m_X14_next_2 F.ok a3 h _ hk)) ⟨rfl, rfl⟩ fun x2 h1 hk =>
g_aret F (Or.inl ⟨_, rfl⟩) dX14_next_4 (Nat.le_refl 0) (Nat.le_refl 0) hk
abbrev rmX14_hasNext : Room := { frames := 2, cells := 0, slots := 0, locals := 40 }
theorem m_X14_hasNext {S : Sx} (hS0 : Sok S) (v0 : Nat) (h : hH) (Q : Int32 → hH → Prop) (hk : f_X14_hasNext S.E v0 h Q) : Ct S yX14_hasNext (ws_ yX14_hasNext cX14_hasNext 1 (some .boolean)) rmX14_hasNext ([aR (some v0)].map vv) h (qI Q) := by
  refine Ct.of hS0 (by decide +kernel) rfl (Nat.le_of_ble_eq_true rfl) fun x hxS F hnm => ?_
  subst hxS
  unfold f_X14_hasNext at hk
  exact g_aload_n F dX14_hasNext_0 rfl 0 rfl <|
g_getI F dX14_hasNext_1 fo_X14_1_LockstepRoom_Descent_1 in_X14 fl_LockstepRoom_Descent_1_22_X14 hk fun x1 hk =>
g_iconst F dX14_hasNext_4 ic_m1 <|
g_icmp_eq F dX14_hasNext_5 (tgt := 12) rfl (fun hc => have hk := hk.1 hc
g_iconst F dX14_hasNext_12 ic_0 <|
g_zret F dX14_hasNext_13 (Nat.le_refl 0) (Nat.le_refl 0) rfl hk) (fun hc => have hk := hk.2 hc
g_iconst F dX14_hasNext_8 ic_1 <|
g_goto F dX14_hasNext_9 (tgt := 13) rfl <|
g_zret F dX14_hasNext_13 (Nat.le_refl 0) (Nat.le_refl 0) rfl hk)
abbrev rmJ16_init_2 : Room := { frames := 2, cells := 0, slots := 0, locals := 40 }
theorem s_J16_init_2_j41 {x : Cx} (F : Fx x cJ16_init_2 "java/lang/Throwable" 5 none rmJ16_init_2) {v0 : Nat} (hnm : x.meth.name = "<init>") {Q : hH → Prop} (l1 : Option Nat) (l2 : Option Nat) (l3 : Int32) (h : hH) (hk : f_J16_init_2_j41 x.S.E v0 Q l1 l2 l3 h) : G x (xQ x rmJ16_init_2 (qV Q)) 41 [(0, aR (some v0)), (1, aR l1), (2, aR l2), (3, aI l3)] [] h 0 0 := by
  unfold f_J16_init_2_j41 at hk
  exact g_aload_n F dJ16_init_2_41 rfl 0 rfl <|
g_aload_n F dJ16_init_2_42 rfl 1 rfl <|
g_putV F dJ16_init_2_43 fo_X7_3_java_lang_Throwable ck_X7 fl_java_lang_Throwable_31_X7 rfl (v := aR l1) (fit_rf "java/lang/String" l1) hk fun h1 hk =>
g_aload_n F dJ16_init_2_46 rfl 0 rfl <|
g_aload_n F dJ16_init_2_47 rfl 2 rfl <|
g_putV F dJ16_init_2_48 fo_X7_0_java_lang_Throwable ck_X7 fl_java_lang_Throwable_7_X7 rfl (v := aR l2) (fit_rf "java/lang/Throwable" l2) hk fun h2 hk =>
g_iload_n F dJ16_init_2_51 rfl 3 rfl <|
g_if_ne F dJ16_init_2_52 (tgt := 60) rfl (fun hc => have hk := hk.2 hc
g_vret F dJ16_init_2_60 (Nat.le_refl 0) (Nat.le_refl 0) hk) (fun hc => have hk := hk.1 hc
g_aload_n F dJ16_init_2_55 rfl 0 rfl <|
g_null F dJ16_init_2_56 <|
g_putV F dJ16_init_2_57 fo_X7_2_java_lang_Throwable ck_X7 fl_java_lang_Throwable_24_X7 rfl (v := aR none) (fit_rf "java/util/List" none) hk fun h3 hk =>
g_vret F dJ16_init_2_60 (Nat.le_refl 0) (Nat.le_refl 0) hk)
theorem m_J16_init_2 {S : Sx} (hS0 : Sok S) (v0 : Nat) (v1 : Option Nat) (v2 : Option Nat) (v3 : Int32) (v4 : Int32) (h : hH) (Q : hH → Prop) (hk : f_J16_init_2 S.E v0 v1 v2 v3 v4 h Q) : Ct S yJ16_init_2 (ws_ yJ16_init_2 cJ16_init_2 5 none) rmJ16_init_2 ([aR (some v0), aR v1, aR v2, aI v3, aI v4].map vv) h (qV Q) := by
  refine Ct.of hS0 (by decide +kernel) rfl (Nat.le_of_ble_eq_true rfl) fun x hxS F hnm => ?_
  subst hxS
  unfold f_J16_init_2 at hk
  exact g_aload_n F dJ16_init_2_0 rfl 0 rfl <|
g_objInit (rest := []) F dJ16_init_2_1 q785 q182 q_objcode (Nat.le_of_ble_eq_true rfl) (Nat.le_of_ble_eq_true rfl) <|
g_aload_n F dJ16_init_2_4 rfl 0 rfl <|
g_aload_n F dJ16_init_2_5 rfl 0 rfl <|
g_putV F dJ16_init_2_6 fo_X7_0_java_lang_Throwable ck_X7 fl_java_lang_Throwable_7_X7 rfl (v := aR (some v0)) (fit_rf "java/lang/Throwable" (some v0)) hk fun h4 hk =>
g_aload_n F dJ16_init_2_9 rfl 0 rfl <|
g_getsT F dJ16_init_2_10 F.ok.2.2.2.2.2.2.2.1 q786 hk fun x5 hk =>
g_putV F dJ16_init_2_13 fo_X7_1_java_lang_Throwable ck_X7 fl_java_lang_Throwable_17_X7 rfl (v := aR x5) (fit_ra (.object "java/lang/StackTraceElement") x5) hk fun h6 hk =>
g_aload_n F dJ16_init_2_16 rfl 0 rfl <|
g_getsT F dJ16_init_2_17 F.ok.2.2.2.2.2.2.2.2.1 q788 hk fun x7 hk =>
g_putV F dJ16_init_2_20 fo_X7_2_java_lang_Throwable ck_X7 fl_java_lang_Throwable_24_X7 rfl (v := aR x7) (fit_rf "java/util/List" x7) hk fun h8 hk =>
g_iload F dJ16_init_2_23 4 rfl <|
g_if_eq F dJ16_init_2_25 (tgt := 36) rfl (fun hc => have hk := hk.1 hc
g_aload_n F dJ16_init_2_36 rfl 0 rfl <|
g_null F dJ16_init_2_37 <|
g_putV F dJ16_init_2_38 fo_X7_1_java_lang_Throwable ck_X7 fl_java_lang_Throwable_17_X7 rfl (v := aR none) (fit_ra (.object "java/lang/StackTraceElement") none) hk fun h9 hk =>
G.fewer [0, 1, 2, 3] rfl <| s_J16_init_2_j41 F hnm v1 v2 v3 h9 hk ) (fun hc => have hk := hk.2 hc
g_aload_n F dJ16_init_2_28 rfl 0 rfl <|
False.elim hk)
abbrev rmJ17_init : Room := { frames := 3, cells := 0, slots := 0, locals := 64 }
theorem m_J17_init {S : Sx} (hS0 : Sok S) (v0 : Nat) (v1 : Option Nat) (v2 : Option Nat) (v3 : Int32) (v4 : Int32) (h : hH) (Q : hH → Prop) (hk : f_J17_init S.E v0 v1 v2 v3 v4 h Q) : Ct S yJ17_init (ws_ yJ17_init cJ17_init 5 none) rmJ17_init ([aR (some v0), aR v1, aR v2, aI v3, aI v4].map vv) h (qV Q) := by
  refine Ct.of hS0 (by decide +kernel) rfl (Nat.le_of_ble_eq_true rfl) fun x hxS F hnm => ?_
  subst hxS
  unfold f_J17_init at hk
  exact g_aload_n F dJ17_init_0 rfl 0 rfl <|
g_aload_n F dJ17_init_1 rfl 1 rfl <|
g_aload_n F dJ17_init_2 rfl 2 rfl <|
g_iload_n F dJ17_init_3 rfl 3 rfl <|
g_iload F dJ17_init_4 4 rfl <|
g_callv0 (g_I F dJ17_init_6 q809 mc_J16_init_2 (rm' := rmJ16_init_2) ⟨Nat.le_of_ble_eq_true rfl, Nat.le_of_ble_eq_true rfl⟩ ⟨Nat.le_refl 0, Nat.le_refl 0⟩ (As := [aR v1, aR v2, aI v3, aI v4]) (rest := []) rfl rfl (Nat.le_of_ble_eq_true rfl) (m_J16_init_2 F.ok v0 v1 v2 v3 v4 h _ hk)) ⟨rfl, rfl⟩ fun h1 hk =>
g_vret F dJ17_init_9 (Nat.le_refl 0) (Nat.le_refl 0) hk
abbrev rmX7_init : Room := { frames := 4, cells := 0, slots := 0, locals := 88 }
theorem m_X7_init {S : Sx} (hS0 : Sok S) (v0 : Nat) (v1 : Int32) (h : hH) (Q : hH → Prop) (hk : f_X7_init S.E v0 v1 h Q) : Ct S yX7_init (ws_ yX7_init cX7_init 2 none) rmX7_init ([aR (some v0), aI v1].map vv) h (qV Q) := by
  refine Ct.of hS0 (by decide +kernel) rfl (Nat.le_of_ble_eq_true rfl) fun x hxS F hnm => ?_
  subst hxS
  unfold f_X7_init at hk
  exact g_aload_n F dX7_init_0 rfl 0 rfl <|
g_null F dX7_init_1 <|
g_null F dX7_init_2 <|
g_iconst F dX7_init_3 ic_0 <|
g_iconst F dX7_init_4 ic_0 <|
g_callv0 (g_I F dX7_init_5 q806 mc_J17_init (rm' := rmJ17_init) ⟨Nat.le_of_ble_eq_true rfl, Nat.le_of_ble_eq_true rfl⟩ ⟨Nat.le_refl 0, Nat.le_refl 0⟩ (As := [aR none, aR none, aI (0:Int32), aI (0:Int32)]) (rest := []) rfl rfl (Nat.le_of_ble_eq_true rfl) (m_J17_init F.ok v0 none none (0:Int32) (0:Int32) h _ hk)) ⟨rfl, rfl⟩ fun h1 hk =>
g_aload_n F dX7_init_8 rfl 0 rfl <|
g_iload_n F dX7_init_9 rfl 1 rfl <|
g_putF F dX7_init_10 fo_X7_6_LockstepRoom_LoadError ck_X7 q812 rfl hnm rfl (v := aI v1) (fit_i v1) hk fun h2 hk =>
g_vret F dX7_init_13 (Nat.le_refl 0) (Nat.le_refl 0) hk
