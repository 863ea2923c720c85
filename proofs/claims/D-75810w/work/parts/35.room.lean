set_option maxRecDepth 100000
set_option maxHeartbeats 10000000
theorem df_X3 : ∀ j, j < 2 → defaultValue (tyX3 j) = vp_V [.int 0, va_rf none] j := fun j hj => by rcases (show j = 0 ∨ j = 1 by omega) with rfl | rfl <;> rfl
theorem mo_X3_init : MOk yX3_init 0 := by decide +kernel
theorem mc_X3_init : MC yX3_init cX3_init 1 0 := ⟨q193, q113, q194, rfl, mo_X3_init⟩
theorem ct_X2 : CL[1]? = some (RX2, TX2, 8) := rfl
theorem ck_X2 : ClsOk RX2 TX2 8 tyX2 := ⟨in_X2, tyX2_ok, nmX2⟩
theorem fo_X2_0_LockstepRoom_Room : FieldOk "LockstepRoom$Room" 1 0 RX2 TX2 8 := ⟨ct_X2, Nat.le_of_ble_eq_true rfl, Or.inl rfl⟩
theorem fl_LockstepRoom_Room_12_X2 : Cond.fieldLink "LockstepRoom$Room" 12 "LockstepRoom$Room" (TX2 0).2.1 (TX2 0).2.2.1 ∈ lw_all ∨ ∃ host, Cond.fieldLinkNest "LockstepRoom$Room" 12 "LockstepRoom$Room" (TX2 0).2.1 (TX2 0).2.2.1 host ∈ lw_tbl := Or.inl q291
theorem fo_X2_1_LockstepRoom_Room : FieldOk "LockstepRoom$Room" 1 1 RX2 TX2 8 := ⟨ct_X2, Nat.le_of_ble_eq_true rfl, Or.inl rfl⟩
theorem fl_LockstepRoom_Room_18_X2 : Cond.fieldLink "LockstepRoom$Room" 18 "LockstepRoom$Room" (TX2 1).2.1 (TX2 1).2.2.1 ∈ lw_all ∨ ∃ host, Cond.fieldLinkNest "LockstepRoom$Room" 18 "LockstepRoom$Room" (TX2 1).2.1 (TX2 1).2.2.1 host ∈ lw_tbl := Or.inl q292
theorem zl_LockstepRoom_Room_22 : Cond.fieldLink "LockstepRoom$Room" 22 "LockstepRoom" "SETTING_FIRST" "[I" ∈ lw_all ∨ ∃ host, Cond.fieldLinkNest "LockstepRoom$Room" 22 "LockstepRoom" "SETTING_FIRST" "[I" host ∈ lw_tbl := Or.inr ⟨_, q221⟩
theorem sz_0 (E : Nat → Nat) : ("LockstepRoom", "SETTING_FIRST", "[I", vv (aR (some (E 0)))) ∈ SZ E := List.mem_of_getElem? (i := 0) rfl
theorem fo_X2_2_LockstepRoom_Room : FieldOk "LockstepRoom$Room" 1 2 RX2 TX2 8 := ⟨ct_X2, Nat.le_of_ble_eq_true rfl, Or.inl rfl⟩
theorem fl_LockstepRoom_Room_30_X2 : Cond.fieldLink "LockstepRoom$Room" 30 "LockstepRoom$Room" (TX2 2).2.1 (TX2 2).2.2.1 ∈ lw_all ∨ ∃ host, Cond.fieldLinkNest "LockstepRoom$Room" 30 "LockstepRoom$Room" (TX2 2).2.1 (TX2 2).2.2.1 host ∈ lw_tbl := Or.inl q294
theorem df_J2 : ∀ j, j < 3 → defaultValue (tyJ2 j) = vp_V [.int 0, va_rf none, .int 0] j := fun j hj => by rcases (show j = 0 ∨ j = 1 ∨ j = 2 by omega) with rfl | rfl | rfl <;> rfl
theorem mo_J2_init : MOk yJ2_init 0 := by decide +kernel
theorem mc_J2_init : MC yJ2_init cJ2_init 1 0 := ⟨q233, q116, q234, rfl, mo_J2_init⟩
theorem fo_X2_3_LockstepRoom_Room : FieldOk "LockstepRoom$Room" 1 3 RX2 TX2 8 := ⟨ct_X2, Nat.le_of_ble_eq_true rfl, Or.inl rfl⟩
theorem fl_LockstepRoom_Room_36_X2 : Cond.fieldLink "LockstepRoom$Room" 36 "LockstepRoom$Room" (TX2 3).2.1 (TX2 3).2.2.1 ∈ lw_all ∨ ∃ host, Cond.fieldLinkNest "LockstepRoom$Room" 36 "LockstepRoom$Room" (TX2 3).2.1 (TX2 3).2.2.1 host ∈ lw_tbl := Or.inl q297
theorem fo_X2_4_LockstepRoom_Room : FieldOk "LockstepRoom$Room" 1 4 RX2 TX2 8 := ⟨ct_X2, Nat.le_of_ble_eq_true rfl, Or.inl rfl⟩
theorem fl_LockstepRoom_Room_40_X2 : Cond.fieldLink "LockstepRoom$Room" 40 "LockstepRoom$Room" (TX2 4).2.1 (TX2 4).2.2.1 ∈ lw_all ∨ ∃ host, Cond.fieldLinkNest "LockstepRoom$Room" 40 "LockstepRoom$Room" (TX2 4).2.1 (TX2 4).2.2.1 host ∈ lw_tbl := Or.inl q299
theorem df_J4 : ∀ j, j < 4 → defaultValue (tyJ4 j) = vp_V [va_rf none, .int 0, va_rf none, .int 0] j := fun j hj => by rcases (show j = 0 ∨ j = 1 ∨ j = 2 ∨ j = 3 by omega) with rfl | rfl | rfl | rfl <;> rfl
theorem df_X4 : ∀ j, j < 0 → defaultValue (tyX4 j) = vp_V [] j := fun j hj => by exact absurd hj (Nat.not_lt_zero j)
theorem mo_X4_init : MOk yX4_init 0 := by decide +kernel
theorem mc_X4_init : MC yX4_init cX4_init 1 0 := ⟨q262, q119, q263, rfl, mo_X4_init⟩
theorem mo_J4_init : MOk yJ4_init 2 := by decide +kernel
theorem mc_J4_init : MC yJ4_init cJ4_init 3 2 := ⟨q267, q118, q268, rfl, mo_J4_init⟩
theorem fo_X2_5_LockstepRoom_Room : FieldOk "LockstepRoom$Room" 1 5 RX2 TX2 8 := ⟨ct_X2, Nat.le_of_ble_eq_true rfl, Or.inl rfl⟩
theorem fl_LockstepRoom_Room_51_X2 : Cond.fieldLink "LockstepRoom$Room" 51 "LockstepRoom$Room" (TX2 5).2.1 (TX2 5).2.2.1 ∈ lw_all ∨ ∃ host, Cond.fieldLinkNest "LockstepRoom$Room" 51 "LockstepRoom$Room" (TX2 5).2.1 (TX2 5).2.2.1 host ∈ lw_tbl := Or.inl q302
theorem fo_X2_6_LockstepRoom_Room : FieldOk "LockstepRoom$Room" 1 6 RX2 TX2 8 := ⟨ct_X2, Nat.le_of_ble_eq_true rfl, Or.inl rfl⟩
theorem fl_LockstepRoom_Room_55_X2 : Cond.fieldLink "LockstepRoom$Room" 55 "LockstepRoom$Room" (TX2 6).2.1 (TX2 6).2.2.1 ∈ lw_all ∨ ∃ host, Cond.fieldLinkNest "LockstepRoom$Room" 55 "LockstepRoom$Room" (TX2 6).2.1 (TX2 6).2.2.1 host ∈ lw_tbl := Or.inl q305
theorem df_X8 : ∀ j, j < 5 → defaultValue (tyX8 j) = vp_V [.int 0, .int 0, .int 0, .int 0, .int 0] j := fun j hj => by rcases (show j = 0 ∨ j = 1 ∨ j = 2 ∨ j = 3 ∨ j = 4 by omega) with rfl | rfl | rfl | rfl | rfl <;> rfl
theorem fo_X2_7_LockstepRoom_Room : FieldOk "LockstepRoom$Room" 1 7 RX2 TX2 8 := ⟨ct_X2, Nat.le_of_ble_eq_true rfl, Or.inl rfl⟩
theorem fl_LockstepRoom_Room_97_X2 : Cond.fieldLink "LockstepRoom$Room" 97 "LockstepRoom$Room" (TX2 7).2.1 (TX2 7).2.2.1 ∈ lw_all ∨ ∃ host, Cond.fieldLinkNest "LockstepRoom$Room" 97 "LockstepRoom$Room" (TX2 7).2.1 (TX2 7).2.2.1 host ∈ lw_tbl := Or.inl q308
theorem mo_X8_init : MOk yX8_init 5 := by decide +kernel
theorem mc_X8_init : MC yX8_init cX8_init 6 5 := ⟨q1002, q142, q1003, rfl, mo_X8_init⟩
theorem mo_J4_add : MOk yJ4_add 1 := by decide +kernel
theorem mi_J4_add : MI yJ4_add "java/util/PriorityQueue" cJ4_add 2 (some .boolean) 1 := ⟨q1031, q1032, q118, q1033, rfl, mo_J4_add⟩
theorem mo_J4_size : MOk yJ4_size 0 := by decide +kernel
theorem mi_J4_size : MI yJ4_size "java/util/PriorityQueue" cJ4_size 1 (some .int) 0 := ⟨q978, q979, q118, q980, rfl, mo_J4_size⟩
theorem mo_J4_poll : MOk yJ4_poll 0 := by decide +kernel
theorem mi_J4_poll : MI yJ4_poll "java/util/PriorityQueue" cJ4_poll 6 (some (.object "java/lang/Object")) 0 := ⟨q1306, q1307, q118, q1308, rfl, mo_J4_poll⟩
theorem mo_J2_add : MOk yJ2_add 1 := by decide +kernel
theorem mi_J2_add : MI yJ2_add "java/util/ArrayList" cJ2_add 2 (some .boolean) 1 := ⟨q907, q908, q116, q909, rfl, mo_J2_add⟩
theorem mo_J2_size : MOk yJ2_size 0 := by decide +kernel
theorem mi_J2_size : MI yJ2_size "java/util/ArrayList" cJ2_size 1 (some .int) 0 := ⟨q839, q840, q116, q841, rfl, mo_J2_size⟩
theorem mo_X10_note : MOk yX10_note 0 := by decide +kernel
theorem mi_X10_note : MI yX10_note "LockstepRoom$Member" cX10_note 2 none 0 := ⟨q1450, q1451, q147, q1452, rfl, mo_X10_note⟩
theorem mo_J2_get : MOk yJ2_get 1 := by decide +kernel
theorem mi_J2_get : MI yJ2_get "java/util/ArrayList" cJ2_get 2 (some (.object "java/lang/Object")) 1 := ⟨q870, q871, q116, q872, rfl, mo_J2_get⟩
theorem fo_X16_1_LockstepRoom_Group : FieldOk "LockstepRoom$Group" 13 1 RX16 TX16 2 := ⟨ct_X16, Nat.le_of_ble_eq_true rfl, Or.inl rfl⟩
theorem fl_LockstepRoom_Room_184_X16 : Cond.fieldLink "LockstepRoom$Room" 184 "LockstepRoom$Group" (TX16 1).2.1 (TX16 1).2.2.1 ∈ lw_all ∨ ∃ host, Cond.fieldLinkNest "LockstepRoom$Room" 184 "LockstepRoom$Group" (TX16 1).2.1 (TX16 1).2.2.1 host ∈ lw_tbl := Or.inr ⟨_, q1805⟩
theorem mo_X2_member : MOk yX2_member 1 := by decide +kernel
theorem mi_X2_member : MI yX2_member "LockstepRoom$Room" cX2_member 2 (some (.object "LockstepRoom$Member")) 1 := ⟨q1586, q1587, q112, q1588, rfl, mo_X2_member⟩
theorem mo_X10_rootAt : MOk yX10_rootAt 1 := by decide +kernel
theorem mi_X10_rootAt : MI yX10_rootAt "LockstepRoom$Member" cX10_rootAt 3 (some .int) 1 := ⟨q1653, q1654, q147, q1655, rfl, mo_X10_rootAt⟩
theorem fl_LockstepRoom_Room_118_X10 : Cond.fieldLink "LockstepRoom$Room" 118 "LockstepRoom$Member" (TX10 5).2.1 (TX10 5).2.2.1 ∈ lw_all ∨ ∃ host, Cond.fieldLinkNest "LockstepRoom$Room" 118 "LockstepRoom$Member" (TX10 5).2.1 (TX10 5).2.2.1 host ∈ lw_tbl := Or.inr ⟨_, q1415⟩
theorem df_X15 : ∀ j, j < 1 → defaultValue (tyX15 j) = vp_V [.int 0] j := fun j hj => by rcases (show j = 0 by omega) with rfl <;> rfl
theorem mo_X15_init : MOk yX15_init 1 := by decide +kernel
theorem mc_X15_init : MC yX15_init cX15_init 2 1 := ⟨q1672, q161, q1673, rfl, mo_X15_init⟩
theorem mo_J30_get : MOk yJ30_get 1 := by decide +kernel
theorem mi_J30_get : MI yJ30_get "java/util/HashMap" cJ30_get 3 (some (.object "java/lang/Object")) 1 := ⟨q1680, q1681, q159, q1682, rfl, mo_J30_get⟩
theorem df_X16 : ∀ j, j < 2 → defaultValue (tyX16 j) = vp_V [.int 0, .int 0] j := fun j hj => by rcases (show j = 0 ∨ j = 1 by omega) with rfl | rfl <;> rfl
theorem mo_X16_init : MOk yX16_init 1 := by decide +kernel
theorem mc_X16_init : MC yX16_init cX16_init 2 1 := ⟨q1800, q162, q1801, rfl, mo_X16_init⟩
theorem mo_J30_put : MOk yJ30_put 2 := by decide +kernel
theorem mi_J30_put : MI yJ30_put "java/util/HashMap" cJ30_put 3 (some (.object "java/lang/Object")) 2 := ⟨q1812, q1813, q159, q1814, rfl, mo_J30_put⟩
theorem df_J30 : ∀ j, j < 8 → defaultValue (tyJ30 j) = vp_V [va_rf none, va_rf none, va_rf none, va_rf none, .int 0, .int 0, .int 0, .float 0] j := fun j hj => by rcases (show j = 0 ∨ j = 1 ∨ j = 2 ∨ j = 3 ∨ j = 4 ∨ j = 5 ∨ j = 6 ∨ j = 7 by omega) with rfl | rfl | rfl | rfl | rfl | rfl | rfl | rfl <;> rfl
theorem bp_64 : (Int8.ofInt (64)).toInt32 = (64 : Int32) := by decide
theorem mo_J30_init : MOk yJ30_init 1 := by decide +kernel
theorem mc_J30_init : MC yJ30_init cJ30_init 2 1 := ⟨q1612, q159, q1613, rfl, mo_J30_init⟩
theorem mo_X2_winning : MOk yX2_winning 1 := by decide +kernel
theorem mi_X2_winning : MI yX2_winning "LockstepRoom$Room" cX2_winning 10 (some (.object "LockstepRoom$Group")) 1 := ⟨q1607, qs29, q112, q1608, rfl, mo_X2_winning⟩
theorem fl_LockstepRoom_Room_190_X16 : Cond.fieldLink "LockstepRoom$Room" 190 "LockstepRoom$Group" (TX16 0).2.1 (TX16 0).2.2.1 ∈ lw_all ∨ ∃ host, Cond.fieldLinkNest "LockstepRoom$Room" 190 "LockstepRoom$Group" (TX16 0).2.1 (TX16 0).2.2.1 host ∈ lw_tbl := Or.inr ⟨_, q1804⟩
theorem fl_LockstepRoom_Room_122_X10 : Cond.fieldLink "LockstepRoom$Room" 122 "LockstepRoom$Member" (TX10 4).2.1 (TX10 4).2.2.1 ∈ lw_all ∨ ∃ host, Cond.fieldLinkNest "LockstepRoom$Room" 122 "LockstepRoom$Member" (TX10 4).2.1 (TX10 4).2.2.1 host ∈ lw_tbl := Or.inr ⟨_, q1412⟩
theorem mo_X2_winner : MOk yX2_winner 1 := by decide +kernel
theorem mi_X2_winner : MI yX2_winner "LockstepRoom$Room" cX2_winner 3 (some .int) 1 := ⟨q1602, q1603, q112, q1604, rfl, mo_X2_winner⟩
theorem mo_X3_execute : MOk yX3_execute 2 := by decide +kernel
theorem mi_X3_execute : MI yX3_execute "LockstepRoom$Machine" cX3_execute 7 none 2 := ⟨q1991, q1992, q113, q1993, rfl, mo_X3_execute⟩
theorem mo_J42_next : MOk yJ42_next 0 := by decide +kernel
theorem mo_J42_hasNext : MOk yJ42_hasNext 0 := by decide +kernel
theorem moi_java_util_Iterator_hasNext___Z : MOk ({ cls := "java/util/Iterator", name := "hasNext", desc := "()Z" } : MethodName) 0 := by decide +kernel
theorem mo_X10_copy : MOk yX10_copy 0 := by decide +kernel
theorem mi_X10_copy : MI yX10_copy "LockstepRoom$Member" cX10_copy 2 (some (.object "LockstepRoom$Member")) 0 := ⟨q2039, q2040, q147, q2041, rfl, mo_X10_copy⟩
theorem df_X2 : ∀ j, j < 8 → defaultValue (tyX2 j) = vp_V [va_rf none, va_rf none, va_rf none, va_rf none, va_rf none, va_rf none, va_rf none, .int 0] j := fun j hj => by rcases (show j = 0 ∨ j = 1 ∨ j = 2 ∨ j = 3 ∨ j = 4 ∨ j = 5 ∨ j = 6 ∨ j = 7 by omega) with rfl | rfl | rfl | rfl | rfl | rfl | rfl | rfl <;> rfl
theorem mo_X2_init : MOk yX2_init 0 := by decide +kernel
theorem mc_X2_init : MC yX2_init cX2_init 1 0 := ⟨q187, q112, q188, rfl, mo_X2_init⟩
theorem mo_J4_iterator : MOk yJ4_iterator 0 := by decide +kernel
theorem mi_J4_iterator : MI yJ4_iterator "java/util/PriorityQueue" cJ4_iterator 1 (some (.object "java/util/Iterator")) 0 := ⟨q2400, q2401, q118, q2402, rfl, mo_J4_iterator⟩
theorem fl_LockstepRoom_Room_141_X9 : Cond.fieldLink "LockstepRoom$Room" 141 "LockstepRoom$Fault" (TX9 0).2.1 (TX9 0).2.2.1 ∈ lw_all ∨ ∃ host, Cond.fieldLinkNest "LockstepRoom$Room" 141 "LockstepRoom$Fault" (TX9 0).2.1 (TX9 0).2.2.1 host ∈ lw_tbl := Or.inr ⟨_, q1328⟩
theorem fl_LockstepRoom_Room_143_X10 : Cond.fieldLink "LockstepRoom$Room" 143 "LockstepRoom$Member" (TX10 0).2.1 (TX10 0).2.2.1 ∈ lw_all ∨ ∃ host, Cond.fieldLinkNest "LockstepRoom$Room" 143 "LockstepRoom$Member" (TX10 0).2.1 (TX10 0).2.2.1 host ∈ lw_tbl := Or.inr ⟨_, q1402⟩
theorem fl_LockstepRoom_Room_146_X9 : Cond.fieldLink "LockstepRoom$Room" 146 "LockstepRoom$Fault" (TX9 1).2.1 (TX9 1).2.2.1 ∈ lw_all ∨ ∃ host, Cond.fieldLinkNest "LockstepRoom$Room" 146 "LockstepRoom$Fault" (TX9 1).2.1 (TX9 1).2.2.1 host ∈ lw_tbl := Or.inr ⟨_, q1331⟩
theorem fl_LockstepRoom_Room_134_X10 : Cond.fieldLink "LockstepRoom$Room" 134 "LockstepRoom$Member" (TX10 3).2.1 (TX10 3).2.2.1 ∈ lw_all ∨ ∃ host, Cond.fieldLinkNest "LockstepRoom$Room" 134 "LockstepRoom$Member" (TX10 3).2.1 (TX10 3).2.2.1 host ∈ lw_tbl := Or.inr ⟨_, q1408⟩
theorem fl_LockstepRoom_Room_149_X9 : Cond.fieldLink "LockstepRoom$Room" 149 "LockstepRoom$Fault" (TX9 2).2.1 (TX9 2).2.2.1 ∈ lw_all ∨ ∃ host, Cond.fieldLinkNest "LockstepRoom$Room" 149 "LockstepRoom$Fault" (TX9 2).2.1 (TX9 2).2.2.1 host ∈ lw_tbl := Or.inr ⟨_, q1334⟩
theorem fl_LockstepRoom_Room_152_X9 : Cond.fieldLink "LockstepRoom$Room" 152 "LockstepRoom$Fault" (TX9 3).2.1 (TX9 3).2.2.1 ∈ lw_all ∨ ∃ host, Cond.fieldLinkNest "LockstepRoom$Room" 152 "LockstepRoom$Fault" (TX9 3).2.1 (TX9 3).2.2.1 host ∈ lw_tbl := Or.inr ⟨_, q1337⟩
theorem mo_J2_remove : MOk yJ2_remove 1 := by decide +kernel
theorem mi_J2_remove : MI yJ2_remove "java/util/ArrayList" cJ2_remove 4 (some (.object "java/lang/Object")) 1 := ⟨q2463, q2464, q116, q2465, rfl, mo_J2_remove⟩
theorem mo_X2_step : MOk yX2_step 1 := by decide +kernel
theorem mi_X2_step : MI yX2_step "LockstepRoom$Room" cX2_step 6 none 1 := ⟨q2460, qs38, q112, q2461, rfl, mo_X2_step⟩
theorem df_X17 : ∀ j, j < 0 → defaultValue (tyX17 j) = vp_V [] j := fun j hj => by exact absurd hj (Nat.not_lt_zero j)
theorem mo_X17_init : MOk yX17_init 0 := by decide +kernel
theorem mc_X17_init : MC yX17_init cX17_init 1 0 := ⟨q2500, q166, q2501, rfl, mo_X17_init⟩
theorem mo_X2_isWrong : MOk yX2_isWrong 1 := by decide +kernel
theorem mi_X2_isWrong : MI yX2_isWrong "LockstepRoom$Room" cX2_isWrong 3 (some .boolean) 1 := ⟨q1956, q1957, q112, q1958, rfl, mo_X2_isWrong⟩
theorem mo_X2_donorAt : MOk yX2_donorAt 2 := by decide +kernel
theorem mi_X2_donorAt : MI yX2_donorAt "LockstepRoom$Room" cX2_donorAt 7 (some .int) 2 := ⟨q2494, q2495, q112, q2496, rfl, mo_X2_donorAt⟩
theorem mo_X14_next : MOk yX14_next 0 := by decide +kernel
theorem mo_X14_hasNext : MOk yX14_hasNext 0 := by decide +kernel
theorem df_X13 : ∀ j, j < 3 → defaultValue (tyX13 j) = vp_V [va_rf none, va_rf none, .int 0] j := fun j hj => by rcases (show j = 0 ∨ j = 1 ∨ j = 2 by omega) with rfl | rfl | rfl <;> rfl
theorem mo_X13_init : MOk yX13_init 2 := by decide +kernel
theorem mc_X13_init : MC yX13_init cX13_init 3 2 := ⟨q2511, q156, q2512, rfl, mo_X13_init⟩
theorem mo_X13_iterator : MOk yX13_iterator 0 := by decide +kernel
theorem mi_X13_iterator : MI yX13_iterator "LockstepRoom$Descent" cX13_iterator 1 (some (.object "java/util/Iterator")) 0 := ⟨q2526, q2527, q156, q2528, rfl, mo_X13_iterator⟩
theorem fl_LockstepRoom_Room_221_X10 : Cond.fieldLink "LockstepRoom$Room" 221 "LockstepRoom$Member" (TX10 6).2.1 (TX10 6).2.2.1 ∈ lw_all ∨ ∃ host, Cond.fieldLinkNest "LockstepRoom$Room" 221 "LockstepRoom$Member" (TX10 6).2.1 (TX10 6).2.2.1 host ∈ lw_tbl := Or.inr ⟨_, q1420⟩
theorem fl_LockstepRoom_Room_224_X10 : Cond.fieldLink "LockstepRoom$Room" 224 "LockstepRoom$Member" (TX10 7).2.1 (TX10 7).2.2.1 ∈ lw_all ∨ ∃ host, Cond.fieldLinkNest "LockstepRoom$Room" 224 "LockstepRoom$Member" (TX10 7).2.1 (TX10 7).2.2.1 host ∈ lw_tbl := Or.inr ⟨_, q1423⟩
theorem fl_LockstepRoom_Room_227_X10 : Cond.fieldLink "LockstepRoom$Room" 227 "LockstepRoom$Member" (TX10 8).2.1 (TX10 8).2.2.1 ∈ lw_all ∨ ∃ host, Cond.fieldLinkNest "LockstepRoom$Room" 227 "LockstepRoom$Member" (TX10 8).2.1 (TX10 8).2.2.1 host ∈ lw_tbl := Or.inr ⟨_, q1426⟩
theorem mo_X2_whyNot : MOk yX2_whyNot 1 := by decide +kernel
theorem mi_X2_whyNot : MI yX2_whyNot "LockstepRoom$Room" cX2_whyNot 2 (some .int) 1 := ⟨q2489, q2490, q112, q2491, rfl, mo_X2_whyNot⟩
theorem mo_X2_heal : MOk yX2_heal 1 := by decide +kernel
theorem mi_X2_heal : MI yX2_heal "LockstepRoom$Room" cX2_heal 6 (some .int) 1 := ⟨q2505, q2506, q112, q2507, rfl, mo_X2_heal⟩
abbrev rmX2_init : Room := { frames := 5, cells := 14, slots := 51, locals := 3120 }
theorem m_X2_init {S : Sx} (hS0 : Sok S) (v0 : Nat) (h : hH) (Q : hH → Prop) (hk : f_X2_init S.E v0 h Q) : Ct S yX2_init (ws_ yX2_init cX2_init 1 none) rmX2_init ([aR (some v0)].map vv) h (qV Q) := by
  refine Ct.of hS0 (by decide +kernel) rfl (Nat.le_of_ble_eq_true rfl) fun x hxS F hnm => ?_
  subst hxS
  unfold f_X2_init at hk
  have hM : 0 + 14 ≤ 14 := by omega
  have hS : 0 + 51 ≤ 51 := by omega
  refine G.widen (c' := 0 + 0) (k' := 0 + 0) (Nat.le_refl 0) (Nat.le_refl 0) ?_
  exact g_aload_n F dX2_init_0 rfl 0 rfl <|
g_objInit (rest := []) F dX2_init_1 q189 q182 q_objcode (Nat.le_of_ble_eq_true rfl) (Nat.le_of_ble_eq_true rfl) <|
g_aload_n F dX2_init_4 rfl 0 rfl <|
g_new (fs := [.int 0, va_rf none]) F dX2_init_5 ck_X3 ct_X3 q190 q191 q113 df_X3 (show 0 + 0 + 1 ≤ 14 by omega) (show 0 + 0 + 2 ≤ 51 by omega) hk fun q1 h2 hk =>
g_dup F dX2_init_8 rfl <|
g_callv (g_IN F dX2_init_9 q192 mc_X3_init (rm' := rmX3_init) ⟨Nat.le_of_ble_eq_true rfl, Nat.le_of_ble_eq_true rfl⟩ ⟨show 0 + 0 + 1 + 5 ≤ 14 by omega, show 0 + 0 + 2 + 10 ≤ 51 by omega⟩ (As := []) (rest := [aR (some q1), aR (some v0)]) rfl rfl (Nat.le_of_ble_eq_true rfl) (m_X3_init F.ok q1 h2 _ hk)) fun h3 hk =>
g_putF F dX2_init_12 fo_X2_0_LockstepRoom_Room ck_X2 q291 rfl hnm rfl (v := aR (some q1)) (fit_rf "LockstepRoom$Machine" (some q1)) hk fun h4 hk =>
g_aload_n F dX2_init_15 rfl 0 rfl <|
g_bipush F dX2_init_16 bp_16 <|
g_newI (t := 0) F dX2_init_18 q256 rfl rfl rfl (Nat.le_of_ble_eq_true rfl) (Nat.le_of_ble_eq_true rfl) (show 0 + 0 + 1 + 5 + 1 ≤ 14 by omega) (show 0 + 0 + 2 + 10 + 16 ≤ 51 by omega) hk fun q5 h6 hk =>
g_putV F dX2_init_20 fo_X2_1_LockstepRoom_Room ck_X2 fl_LockstepRoom_Room_18_X2 rfl (v := aR (some q5)) (fit_ra .int (some q5)) hk fun h7 hk =>
g_aload_n F dX2_init_23 rfl 0 rfl <|
g_gets F dX2_init_24 (sz_0 _) zl_LockstepRoom_Room_22 <|
g_clI (rest := [aR (some v0)]) F dX2_init_27 q223 q224 q225 q226 q227 q228 (Nat.le_of_ble_eq_true rfl) (Nat.le_of_ble_eq_true rfl) (show 0 + 0 + 1 + 5 + 1 + 1 ≤ 14 by omega) (show 0 + 0 + 2 + 10 + 16 + 2 ≤ 51 by omega) hk fun q8 h9 hk =>
g_castA (t := 0) F dX2_init_30 q229 F.arr0 hk fun hk =>
g_putV F dX2_init_33 fo_X2_2_LockstepRoom_Room ck_X2 fl_LockstepRoom_Room_30_X2 rfl (v := aR (some q8)) (fit_ra .int (some q8)) hk fun h10 hk =>
g_aload_n F dX2_init_36 rfl 0 rfl <|
g_new (fs := [.int 0, va_rf none, .int 0]) F dX2_init_37 ck_J2 ct_J2 q230 q231 q116 df_J2 (show 0 + 0 + 1 + 5 + 1 + 1 + 1 ≤ 14 by omega) (show 0 + 0 + 2 + 10 + 16 + 2 + 3 ≤ 51 by omega) hk fun q11 h12 hk =>
g_dup F dX2_init_40 rfl <|
g_callv0 (g_I F dX2_init_41 q232 mc_J2_init (rm' := rmJ2_init) ⟨Nat.le_of_ble_eq_true rfl, Nat.le_of_ble_eq_true rfl⟩ ⟨show 0 + 0 + 1 + 5 + 1 + 1 + 1 + 0 ≤ 14 by omega, show 0 + 0 + 2 + 10 + 16 + 2 + 3 + 0 ≤ 51 by omega⟩ (As := []) (rest := [aR (some q11), aR (some v0)]) rfl rfl (Nat.le_of_ble_eq_true rfl) (m_J2_init F.ok q11 h12 _ hk)) ⟨rfl, rfl⟩ fun h13 hk =>
g_putF F dX2_init_44 fo_X2_3_LockstepRoom_Room ck_X2 q297 rfl hnm rfl (v := aR (some q11)) (fit_rf "java/util/ArrayList" (some q11)) hk fun h14 hk =>
g_aload_n F dX2_init_47 rfl 0 rfl <|
g_new (fs := [.int 0, va_rf none, .int 0]) F dX2_init_48 ck_J2 ct_J2 q230 q231 q116 df_J2 (show 0 + 0 + 1 + 5 + 1 + 1 + 1 + 1 ≤ 14 by omega) (show 0 + 0 + 2 + 10 + 16 + 2 + 3 + 3 ≤ 51 by omega) hk fun q15 h16 hk =>
g_dup F dX2_init_51 rfl <|
g_callv0 (g_I F dX2_init_52 q232 mc_J2_init (rm' := rmJ2_init) ⟨Nat.le_of_ble_eq_true rfl, Nat.le_of_ble_eq_true rfl⟩ ⟨show 0 + 0 + 1 + 5 + 1 + 1 + 1 + 1 + 0 ≤ 14 by omega, show 0 + 0 + 2 + 10 + 16 + 2 + 3 + 3 + 0 ≤ 51 by omega⟩ (As := []) (rest := [aR (some q15), aR (some v0)]) rfl rfl (Nat.le_of_ble_eq_true rfl) (m_J2_init F.ok q15 h16 _ hk)) ⟨rfl, rfl⟩ fun h17 hk =>
g_putF F dX2_init_55 fo_X2_4_LockstepRoom_Room ck_X2 q299 rfl hnm rfl (v := aR (some q15)) (fit_rf "java/util/ArrayList" (some q15)) hk fun h18 hk =>
g_aload_n F dX2_init_58 rfl 0 rfl <|
g_new (fs := [va_rf none, .int 0, va_rf none, .int 0]) F dX2_init_59 ck_J4 ct_J4 q257 q258 q118 df_J4 (show 0 + 0 + 1 + 5 + 1 + 1 + 1 + 1 + 1 ≤ 14 by omega) (show 0 + 0 + 2 + 10 + 16 + 2 + 3 + 3 + 4 ≤ 51 by omega) hk fun q19 h20 hk =>
g_dup F dX2_init_62 rfl <|
g_bipush F dX2_init_63 bp_8 <|
g_new (fs := []) F dX2_init_65 ck_X4 ct_X4 q259 q260 q119 df_X4 (show 0 + 0 + 1 + 5 + 1 + 1 + 1 + 1 + 1 + 1 ≤ 14 by omega) (show 0 + 0 + 2 + 10 + 16 + 2 + 3 + 3 + 4 + 0 ≤ 51 by omega) hk fun q21 h22 hk =>
g_dup F dX2_init_68 rfl <|
g_callv0 (g_IN F dX2_init_69 q261 mc_X4_init (rm' := rmX4_init) ⟨Nat.le_of_ble_eq_true rfl, Nat.le_of_ble_eq_true rfl⟩ ⟨show 0 + 0 + 1 + 5 + 1 + 1 + 1 + 1 + 1 + 1 + 0 ≤ 14 by omega, show 0 + 0 + 2 + 10 + 16 + 2 + 3 + 3 + 4 + 0 + 0 ≤ 51 by omega⟩ (As := []) (rest := [aR (some q21), aI (8:Int32), aR (some q19), aR (some q19), aR (some v0)]) rfl rfl (Nat.le_of_ble_eq_true rfl) (m_X4_init F.ok q21 h22 _ hk)) ⟨rfl, rfl⟩ fun h23 hk =>
g_callv (g_I F dX2_init_72 q266 mc_J4_init (rm' := rmJ4_init) ⟨Nat.le_of_ble_eq_true rfl, Nat.le_of_ble_eq_true rfl⟩ ⟨show 0 + 0 + 1 + 5 + 1 + 1 + 1 + 1 + 1 + 1 + 1 ≤ 14 by omega, show 0 + 0 + 2 + 10 + 16 + 2 + 3 + 3 + 4 + 0 + 8 ≤ 51 by omega⟩ (As := [aI (8:Int32), aR (some q21)]) (rest := [aR (some q19), aR (some v0)]) rfl rfl (Nat.le_of_ble_eq_true rfl) (m_J4_init F.ok q19 (8:Int32) (some q21) h23 _ hk)) fun h24 hk =>
g_putF F dX2_init_75 fo_X2_5_LockstepRoom_Room ck_X2 q302 rfl hnm rfl (v := aR (some q19)) (fit_rf "java/util/PriorityQueue" (some q19)) hk fun h25 hk =>
g_aload_n F dX2_init_78 rfl 0 rfl <|
g_new (fs := [.int 0, va_rf none, .int 0]) F dX2_init_79 ck_J2 ct_J2 q230 q231 q116 df_J2 (show 0 + 0 + 1 + 5 + 1 + 1 + 1 + 1 + 1 + 1 + 1 + 1 ≤ 14 by omega) (show 0 + 0 + 2 + 10 + 16 + 2 + 3 + 3 + 4 + 0 + 8 + 3 ≤ 51 by omega) hk fun q26 h27 hk =>
g_dup F dX2_init_82 rfl <|
g_callv0 (g_I F dX2_init_83 q232 mc_J2_init (rm' := rmJ2_init) ⟨Nat.le_of_ble_eq_true rfl, Nat.le_of_ble_eq_true rfl⟩ ⟨show 0 + 0 + 1 + 5 + 1 + 1 + 1 + 1 + 1 + 1 + 1 + 1 + 0 ≤ 14 by omega, show 0 + 0 + 2 + 10 + 16 + 2 + 3 + 3 + 4 + 0 + 8 + 3 + 0 ≤ 51 by omega⟩ (As := []) (rest := [aR (some q26), aR (some v0)]) rfl rfl (Nat.le_of_ble_eq_true rfl) (m_J2_init F.ok q26 h27 _ hk)) ⟨rfl, rfl⟩ fun h28 hk =>
g_putF F dX2_init_86 fo_X2_6_LockstepRoom_Room ck_X2 q305 rfl hnm rfl (v := aR (some q26)) (fit_rf "java/util/ArrayList" (some q26)) hk fun h29 hk =>
g_vret F dX2_init_89 (show 0 + 0 + 1 + 5 + 1 + 1 + 1 + 1 + 1 + 1 + 1 + 1 ≤ 14 by omega) (show 0 + 0 + 2 + 10 + 16 + 2 + 3 + 3 + 4 + 0 + 8 + 3 ≤ 51 by omega) hk
abbrev rmX2_give : Room := { frames := 9, cells := 1, slots := 5, locals := 195 }
theorem m_X2_give {S : Sx} (hS0 : Sok S) (v0 : Nat) (v1 : Int32) (v2 : Int32) (v3 : Int32) (v4 : Int32) (h : hH) (Q : Int32 → hH → Prop) (hk : f_X2_give S.E v0 v1 v2 v3 v4 h Q) : Ct S yX2_give (ws_ yX2_give cX2_give 5 (some .int)) rmX2_give ([aR (some v0), aI v1, aI v2, aI v3, aI v4].map vv) h (qI Q) := by
  refine Ct.of hS0 (by decide +kernel) rfl (Nat.le_of_ble_eq_true rfl) fun x hxS F hnm => ?_
  subst hxS
  unfold f_X2_give at hk
  have hM : 0 + 1 ≤ 1 := by omega
  have hS : 0 + 5 ≤ 5 := by omega
  refine G.widen (c' := 0 + 0) (k' := 0 + 0) (Nat.le_refl 0) (Nat.le_refl 0) ?_
  exact g_aload_n F dX2_give_0 rfl 0 rfl <|
g_getR F dX2_give_1 fo_X2_5_LockstepRoom_Room in_X2 fl_LockstepRoom_Room_51_X2 hk fun x1 hk =>
g_new (fs := [.int 0, .int 0, .int 0, .int 0, .int 0]) F dX2_give_4 ck_X8 ct_X8 q999 q1000 q142 df_X8 (show 0 + 0 + 1 ≤ 1 by omega) (show 0 + 0 + 5 ≤ 5 by omega) hk fun q2 h3 hk =>
g_dup F dX2_give_7 rfl <|
g_iload_n F dX2_give_8 rfl 1 rfl <|
g_aload_n F dX2_give_9 rfl 0 rfl <|
g_getI F dX2_give_10 fo_X2_7_LockstepRoom_Room in_X2 fl_LockstepRoom_Room_97_X2 hk fun x4 hk =>
g_iload_n F dX2_give_13 rfl 2 rfl <|
g_iload_n F dX2_give_14 rfl 3 rfl <|
g_iload F dX2_give_15 4 rfl <|
g_callv0 (g_I F dX2_give_17 q1001 mc_X8_init (rm' := rmX8_init) ⟨Nat.le_of_ble_eq_true rfl, Nat.le_of_ble_eq_true rfl⟩ ⟨show 0 + 0 + 1 + 0 ≤ 1 by omega, show 0 + 0 + 5 + 0 ≤ 5 by omega⟩ (As := [aI v1, aI x4, aI v2, aI v3, aI v4]) (rest := [aR (some q2), aR x1]) rfl rfl (Nat.le_of_ble_eq_true rfl) (m_X8_init F.ok q2 v1 x4 v2 v3 v4 h3 _ hk)) ⟨rfl, rfl⟩ fun h5 hk =>
g_calli0 (g_V F dX2_give_20 q1030 mi_J4_add ct_J4 (rm' := rmJ4_add) ⟨Nat.le_of_ble_eq_true rfl, Nat.le_of_ble_eq_true rfl⟩ ⟨show 0 + 0 + 1 + 0 ≤ 1 by omega, show 0 + 0 + 5 + 0 ≤ 5 by omega⟩ (As := [aR (some q2)]) (rest := []) rfl rfl (Nat.le_of_ble_eq_true rfl) hk (fun a8 hk => m_J4_add F.ok a8 (some q2) h5 _ hk)) ⟨rfl, rfl⟩ fun x7 h6 hk =>
g_pop F dX2_give_23 rfl <|
g_aload_n F dX2_give_24 rfl 0 rfl <|
g_dup F dX2_give_25 rfl <|
g_getI F dX2_give_26 fo_X2_7_LockstepRoom_Room in_X2 fl_LockstepRoom_Room_97_X2 hk fun x9 hk =>
g_iconst F dX2_give_29 ic_1 <|
g_iadd F dX2_give_30 <|
g_putV F dX2_give_31 fo_X2_7_LockstepRoom_Room ck_X2 fl_LockstepRoom_Room_97_X2 rfl (v := aI (x9 + (1:Int32))) (fit_i (x9 + (1:Int32))) hk fun h10 hk =>
g_aload_n F dX2_give_34 rfl 0 rfl <|
g_getR F dX2_give_35 fo_X2_5_LockstepRoom_Room in_X2 fl_LockstepRoom_Room_51_X2 hk fun x11 hk =>
g_calli0 (g_V F dX2_give_38 q1299 mi_J4_size ct_J4 (rm' := rmJ4_size) ⟨Nat.le_of_ble_eq_true rfl, Nat.le_of_ble_eq_true rfl⟩ ⟨show 0 + 0 + 1 + 0 ≤ 1 by omega, show 0 + 0 + 5 + 0 ≤ 5 by omega⟩ (As := []) (rest := []) rfl rfl (Nat.le_of_ble_eq_true rfl) hk (fun a14 hk => m_J4_size F.ok a14 h10 _ hk)) ⟨rfl, rfl⟩ fun x13 h12 hk =>
g_iret F dX2_give_41 (show 0 + 0 + 1 ≤ 1 by omega) (show 0 + 0 + 5 ≤ 5 by omega) hk
abbrev rmX2_seal : Room := { frames := 8, cells := 2, slots := 72, locals := 171 }
theorem s_X2_seal_l13 {x : Cx} (F : Fx x cX2_seal "LockstepRoom$Room" 3 (some .int) rmX2_seal) {v0 : Nat} {Q : Int32 → hH → Prop} {K38 : Option Nat → hH → Prop} {ce ke : Nat} (hM2 : ce ≤ 2) (hS2 : ke ≤ 72) (n : Nat) (l1 : Option Nat) (l2 : Int32) (h : hH) (cb kb : Nat) (hM0 : cb + n * 0 ≤ ce) (hS0 : kb + n * 0 ≤ ke) (hk : f_X2_seal_l13 x.S.E v0 Q K38 n l1 l2 h) (hK38 : ∀ (l1 : Option Nat) (h : hH), K38 l1 h → G x (xQ x rmX2_seal (qI Q)) 38 [(0, aR (some v0)), (1, aR l1)] [] h ce ke) : G x (xQ x rmX2_seal (qI Q)) 13 [(0, aR (some v0)), (1, aR l1), (2, aI l2)] [] h cb kb := by
  induction n generalizing l1 l2 h cb kb with
  | zero => exact False.elim hk
  | succ n ih =>
    have hM : cb + 0 ≤ ce := by omega
    have hS : kb + 0 ≤ ke := by omega
    unfold f_X2_seal_l13 at hk
    exact G.widen (c' := cb + 0) (k' := kb + 0) (Nat.le_refl _) (Nat.le_refl _) <| g_iload_n F dX2_seal_13 rfl 2 rfl <|
g_aload_n F dX2_seal_14 rfl 1 rfl <|
g_alen (t := 5) F dX2_seal_15 rfl hk fun x1 hk =>
g_icmp_ge F dX2_seal_16 (tgt := 38) rfl (fun hc => have hk := hk.1 hc
G.fewer [0, 1] rfl <| G.widen (show cb + 0 ≤ ce by omega) (show kb + 0 ≤ ke by omega) <| hK38 l1 h hk) (fun hc => have hk := hk.2 hc
g_aload_n F dX2_seal_19 rfl 1 rfl <|
g_iload_n F dX2_seal_20 rfl 2 rfl <|
g_aload_n F dX2_seal_21 rfl 0 rfl <|
g_getR F dX2_seal_22 fo_X2_5_LockstepRoom_Room in_X2 fl_LockstepRoom_Room_51_X2 hk fun x2 hk =>
g_callr0 (g_V F dX2_seal_25 q1305 mi_J4_poll ct_J4 (rm' := rmJ4_poll) ⟨Nat.le_of_ble_eq_true rfl, Nat.le_of_ble_eq_true rfl⟩ ⟨show cb + 0 + 0 ≤ 2 by omega, show kb + 0 + 0 ≤ 72 by omega⟩ (As := []) (rest := [aI l2, aR l1]) rfl rfl (Nat.le_of_ble_eq_true rfl) hk (fun a5 hk => m_J4_poll F.ok a5 h _ hk)) ⟨rfl, rfl⟩ fun x4 h3 hk =>
g_castS F dX2_seal_28 q999 ct_X8 hk fun hk =>
g_aast5 F dX2_seal_31 hk fun h6 hk =>
g_iinc (v := (l2 + (1:Int32))) F dX2_seal_32 (j := 2) rfl (iinc_1 l2) (Nat.le_of_ble_eq_true rfl) rfl <|
g_goto F dX2_seal_35 (tgt := 13) rfl <|
G.fewer [1, 2, 0] rfl <| (fun l1 l2 h hk => ih l1 l2 h (cb + 0) (kb + 0) (by omega) (by omega) hk) l1 (l2 + (1:Int32)) h6 hk)
theorem m_X2_seal {S : Sx} (hS0 : Sok S) (v0 : Nat) (h : hH) (Q : Int32 → hH → Prop) (hk : f_X2_seal S.E v0 h Q) : Ct S yX2_seal (ws_ yX2_seal cX2_seal 3 (some .int)) rmX2_seal ([aR (some v0)].map vv) h (qI Q) := by
  refine Ct.of hS0 (by decide +kernel) rfl (Nat.le_of_ble_eq_true rfl) fun x hxS F hnm => ?_
  subst hxS
  unfold f_X2_seal at hk
  have hM : 0 + 2 ≤ 2 := by omega
  have hS : 0 + 72 ≤ 72 := by omega
  refine G.widen (c' := 0 + 0) (k' := 0 + 0) (Nat.le_refl 0) (Nat.le_refl 0) ?_
  exact g_aload_n F dX2_seal_0 rfl 0 rfl <|
g_getR F dX2_seal_1 fo_X2_5_LockstepRoom_Room in_X2 fl_LockstepRoom_Room_51_X2 hk fun x7 hk =>
g_calli0 (g_V F dX2_seal_4 q1299 mi_J4_size ct_J4 (rm' := rmJ4_size) ⟨Nat.le_of_ble_eq_true rfl, Nat.le_of_ble_eq_true rfl⟩ ⟨show 0 + 0 + 0 ≤ 2 by omega, show 0 + 0 + 0 ≤ 72 by omega⟩ (As := []) (rest := []) rfl rfl (Nat.le_of_ble_eq_true rfl) hk (fun a10 hk => m_J4_size F.ok a10 h _ hk)) ⟨rfl, rfl⟩ fun x9 h8 hk =>
g_newQ (t := 5) F dX2_seal_7 q999 q1304 rfl rfl (Nat.le_of_ble_eq_true rfl) (Nat.le_of_ble_eq_true rfl) (show 0 + 0 + 1 ≤ 2 by omega) (show 0 + 0 + 8 ≤ 72 by omega) hk fun q11 h12 hk =>
g_astore_n F dX2_seal_10 rfl (Nat.le_of_ble_eq_true rfl) rfl <|
g_iconst F dX2_seal_11 ic_0 <|
g_istore_n F dX2_seal_12 rfl (Nat.le_of_ble_eq_true rfl) rfl <|
G.fewer [2, 1, 0] rfl <| G.widen (show 0 + 0 + 1 ≤ 0 + 1 by omega) (show 0 + 0 + 8 ≤ 0 + 8 by omega) <| s_X2_seal_l13 F (ce := 0 + 1) (ke := 0 + 8) (show 0 + 1 ≤ 2 by omega) (show 0 + 8 ≤ 72 by omega) 1000000 (some q11) (0:Int32) h12 (0 + 1) (0 + 8) (show 0 + 1 + 1000000 * 0 ≤ 0 + 1 by omega) (show 0 + 8 + 1000000 * 0 ≤ 0 + 8 by omega) hk ((fun l1 h hk => g_aload_n F dX2_seal_38 rfl 0 rfl <|
g_getR F dX2_seal_39 fo_X2_4_LockstepRoom_Room in_X2 fl_LockstepRoom_Room_40_X2 hk fun x13 hk =>
g_aload_n F dX2_seal_42 rfl 1 rfl <|
g_calli (g_V F dX2_seal_43 q1315 mi_J2_add ct_J2 (rm' := rmJ2_add) ⟨Nat.le_of_ble_eq_true rfl, Nat.le_of_ble_eq_true rfl⟩ ⟨show 0 + 1 + 1 ≤ 2 by omega, show 0 + 8 + 64 ≤ 72 by omega⟩ (As := [aR l1]) (rest := []) rfl rfl (Nat.le_of_ble_eq_true rfl) hk (fun a16 hk => m_J2_add F.ok a16 l1 h _ hk)) fun x15 h14 hk =>
g_pop F dX2_seal_46 rfl <|
g_aload_n F dX2_seal_47 rfl 0 rfl <|
g_getR F dX2_seal_48 fo_X2_4_LockstepRoom_Room in_X2 fl_LockstepRoom_Room_40_X2 hk fun x17 hk =>
g_calli0 (g_V F dX2_seal_51 q1316 mi_J2_size ct_J2 (rm' := rmJ2_size) ⟨Nat.le_of_ble_eq_true rfl, Nat.le_of_ble_eq_true rfl⟩ ⟨show 0 + 1 + 1 + 0 ≤ 2 by omega, show 0 + 8 + 64 + 0 ≤ 72 by omega⟩ (As := []) (rest := []) rfl rfl (Nat.le_of_ble_eq_true rfl) hk (fun a20 hk => m_J2_size F.ok a20 h14 _ hk)) ⟨rfl, rfl⟩ fun x19 h18 hk =>
g_iret F dX2_seal_54 (show 0 + 1 + 1 ≤ 2 by omega) (show 0 + 8 + 64 ≤ 72 by omega) hk))
abbrev rmX2_enter : Room := { frames := 10, cells := 8, slots := 139, locals := 219 }
theorem m_X2_enter {S : Sx} (hS0 : Sok S) (v0 : Nat) (v1 : Int32) (v2 : Int32) (h : hH) (Q : hH → Prop) (hk : f_X2_enter S.E v0 v1 v2 h Q) : Ct S yX2_enter (ws_ yX2_enter cX2_enter 4 none) rmX2_enter ([aR (some v0), aI v1, aI v2].map vv) h (qV Q) := by
  refine Ct.of hS0 (by decide +kernel) rfl (Nat.le_of_ble_eq_true rfl) fun x hxS F hnm => ?_
  subst hxS
  unfold f_X2_enter at hk
  have hM : 0 + 8 ≤ 8 := by omega
  have hS : 0 + 139 ≤ 139 := by omega
  refine G.widen (c' := 0 + 0) (k' := 0 + 0) (Nat.le_refl 0) (Nat.le_refl 0) ?_
  exact g_new (fs := [.int 0, .int 0, .int 0, va_rf none, .int 0, .int 0, .int 0, .int 0, .int 0, va_rf none]) F dX2_enter_0 ck_X10 ct_X10 q1360 q1361 q147 df_X10 (show 0 + 0 + 1 ≤ 8 by omega) (show 0 + 0 + 10 ≤ 139 by omega) hk fun q1 h2 hk =>
g_dup F dX2_enter_3 rfl <|
g_aload_n F dX2_enter_4 rfl 0 rfl <|
g_getR F dX2_enter_5 fo_X2_3_LockstepRoom_Room in_X2 fl_LockstepRoom_Room_36_X2 hk fun x3 hk =>
g_calli0 (g_V F dX2_enter_8 q1316 mi_J2_size ct_J2 (rm' := rmJ2_size) ⟨Nat.le_of_ble_eq_true rfl, Nat.le_of_ble_eq_true rfl⟩ ⟨show 0 + 0 + 1 + 0 ≤ 8 by omega, show 0 + 0 + 10 + 0 ≤ 139 by omega⟩ (As := []) (rest := [aR (some q1), aR (some q1)]) rfl rfl (Nat.le_of_ble_eq_true rfl) hk (fun a6 hk => m_J2_size F.ok a6 h2 _ hk)) ⟨rfl, rfl⟩ fun x5 h4 hk =>
g_iload_n F dX2_enter_11 rfl 1 rfl <|
g_iload_n F dX2_enter_12 rfl 2 rfl <|
g_aload_n F dX2_enter_13 rfl 0 rfl <|
g_getR F dX2_enter_14 fo_X2_1_LockstepRoom_Room in_X2 fl_LockstepRoom_Room_18_X2 hk fun x7 hk =>
g_clI (rest := [aI v2, aI v1, aI x5, aR (some q1), aR (some q1)]) F dX2_enter_17 q223 q224 q225 q226 q227 q228 (Nat.le_of_ble_eq_true rfl) (Nat.le_of_ble_eq_true rfl) (show 0 + 0 + 1 + 1 ≤ 8 by omega) (show 0 + 0 + 10 + 16 ≤ 139 by omega) hk fun q8 h9 hk =>
g_castA (t := 0) F dX2_enter_20 q229 F.arr0 hk fun hk =>
g_iconst F dX2_enter_23 ic_0 <|
g_callv (g_I F dX2_enter_24 q1362 mc_X10_init (rm' := rmX10_init) ⟨Nat.le_of_ble_eq_true rfl, Nat.le_of_ble_eq_true rfl⟩ ⟨show 0 + 0 + 1 + 1 + 1 ≤ 8 by omega, show 0 + 0 + 10 + 16 + 9 ≤ 139 by omega⟩ (As := [aI x5, aI v1, aI v2, aR (some q8), aI (0:Int32)]) (rest := [aR (some q1)]) rfl rfl (Nat.le_of_ble_eq_true rfl) (m_X10_init F.ok q1 x5 v1 v2 (some q8) (0:Int32) h9 _ hk)) fun h10 hk =>
g_astore_n F dX2_enter_27 rfl (Nat.le_of_ble_eq_true rfl) rfl <|
g_aload_n F dX2_enter_28 rfl 0 rfl <|
g_callv (g_V F dX2_enter_29 q1449 mi_X10_note ct_X10 (rm' := rmX10_note) ⟨Nat.le_of_ble_eq_true rfl, Nat.le_of_ble_eq_true rfl⟩ ⟨show 0 + 0 + 1 + 1 + 1 + 4 ≤ 8 by omega, show 0 + 0 + 10 + 16 + 9 + 40 ≤ 139 by omega⟩ (As := []) (rest := []) rfl rfl (Nat.le_of_ble_eq_true rfl) hk (fun a12 hk => m_X10_note F.ok a12 h10 _ hk)) fun h11 hk =>
g_aload_n F dX2_enter_32 rfl 1 rfl <|
g_getR F dX2_enter_33 fo_X2_3_LockstepRoom_Room in_X2 fl_LockstepRoom_Room_36_X2 hk fun x13 hk =>
g_aload_n F dX2_enter_36 rfl 0 rfl <|
g_calli (g_V F dX2_enter_37 q1315 mi_J2_add ct_J2 (rm' := rmJ2_add) ⟨Nat.le_of_ble_eq_true rfl, Nat.le_of_ble_eq_true rfl⟩ ⟨show 0 + 0 + 1 + 1 + 1 + 4 + 1 ≤ 8 by omega, show 0 + 0 + 10 + 16 + 9 + 40 + 64 ≤ 139 by omega⟩ (As := [aR (some q1)]) (rest := []) rfl rfl (Nat.le_of_ble_eq_true rfl) hk (fun a16 hk => m_J2_add F.ok a16 (some q1) h11 _ hk)) fun x15 h14 hk =>
g_pop F dX2_enter_40 rfl <|
g_vret F dX2_enter_41 (show 0 + 0 + 1 + 1 + 1 + 4 + 1 ≤ 8 by omega) (show 0 + 0 + 10 + 16 + 9 + 40 + 64 ≤ 139 by omega) hk
abbrev rmX2_member : Room := { frames := 5, cells := 0, slots := 0, locals := 104 }
theorem m_X2_member {S : Sx} (hS0 : Sok S) (v0 : Nat) (v1 : Int32) (h : hH) (Q : Option Nat → hH → Prop) (hk : f_X2_member S.E v0 v1 h Q) : Ct S yX2_member (ws_ yX2_member cX2_member 2 (some (.object "LockstepRoom$Member"))) rmX2_member ([aR (some v0), aI v1].map vv) h (qR Q) := by
  refine Ct.of hS0 (by decide +kernel) rfl (Nat.le_of_ble_eq_true rfl) fun x hxS F hnm => ?_
  subst hxS
  unfold f_X2_member at hk
  exact g_aload_n F dX2_member_0 rfl 0 rfl <|
g_getR F dX2_member_1 fo_X2_3_LockstepRoom_Room in_X2 fl_LockstepRoom_Room_36_X2 hk fun x1 hk =>
g_iload_n F dX2_member_4 rfl 1 rfl <|
g_callr0 (g_V F dX2_member_5 q1589 mi_J2_get ct_J2 (rm' := rmJ2_get) ⟨Nat.le_of_ble_eq_true rfl, Nat.le_of_ble_eq_true rfl⟩ ⟨Nat.le_refl 0, Nat.le_refl 0⟩ (As := [aI v1]) (rest := []) rfl rfl (Nat.le_of_ble_eq_true rfl) hk (fun a4 hk => m_J2_get F.ok a4 v1 h _ hk)) ⟨rfl, rfl⟩ fun x3 h2 hk =>
g_castS F dX2_member_8 q1360 ct_X10 hk fun hk =>
g_aret F (Or.inl ⟨_, rfl⟩) dX2_member_11 (Nat.le_refl 0) (Nat.le_refl 0) hk
abbrev rmX2_winning : Room := { frames := 8, cells := 51, slots := 1411, locals := 171 }
theorem s_X2_winning_j182 {x : Cx} (F : Fx x cX2_winning "LockstepRoom$Room" 10 (some (.object "LockstepRoom$Group")) rmX2_winning) {v0 : Nat} {Q : Option Nat → hH → Prop} {K148 : Option Nat → Option Nat → Int32 → hH → Prop} {cb kb ce ke : Nat} (hM : cb + 0 ≤ ce) (hM2 : ce ≤ 51) (hS : kb + 0 ≤ ke) (hS2 : ke ≤ 1411) (l4 : Option Nat) (l5 : Int32) (h : hH) (hk : f_X2_winning_j182 x.S.E v0 Q K148 l4 l5 h) (hK148 : ∀ (l3 : Option Nat) (l4 : Option Nat) (l5 : Int32) (h : hH), K148 l3 l4 l5 h → G x (xQ x rmX2_winning (qR Q)) 148 [(0, aR (some v0)), (3, aR l3), (4, aR l4), (5, aI l5)] [] h (cb + 0) (kb + 0)) : G x (xQ x rmX2_winning (qR Q)) 182 [(0, aR (some v0)), (4, aR l4), (5, aI l5)] [] h (cb + 0) (kb + 0) := by
  unfold f_X2_winning_j182 at hk
  exact g_aload F dX2_winning_182 1 rfl <|
g_iload F dX2_winning_184 2 rfl <|
g_callr0 (g_V F dX2_winning_186 q1589 mi_J2_get ct_J2 (rm' := rmJ2_get) ⟨Nat.le_of_ble_eq_true rfl, Nat.le_of_ble_eq_true rfl⟩ ⟨show cb + 0 + 0 ≤ 51 by omega, show kb + 0 + 0 ≤ 1411 by omega⟩ (As := [aI l5]) (rest := []) rfl rfl (Nat.le_of_ble_eq_true rfl) hk (fun a3 hk => m_J2_get F.ok a3 l5 h _ hk)) ⟨rfl, rfl⟩ fun x2 h1 hk =>
g_castS F dX2_winning_189 q1797 ct_X16 hk fun hk =>
g_goto F dX2_winning_192 (tgt := 196) rfl <|
g_astore_n F dX2_winning_196 rfl (Nat.le_of_ble_eq_true rfl) rfl <|
g_iinc (v := (l5 + (1:Int32))) F dX2_winning_197 (j := 3) rfl (iinc_1 l5) (Nat.le_of_ble_eq_true rfl) rfl <|
g_goto F dX2_winning_200 (tgt := 148) rfl <|
G.fewer [2, 1, 3, 0] rfl <| hK148 x2 l4 (l5 + (1:Int32)) h1 hk
theorem s_X2_winning_l148 {x : Cx} (F : Fx x cX2_winning "LockstepRoom$Room" 10 (some (.object "LockstepRoom$Group")) rmX2_winning) {v0 : Nat} {Q : Option Nat → hH → Prop} {K203 : Option Nat → hH → Prop} {ce ke : Nat} (hM2 : ce ≤ 51) (hS2 : ke ≤ 1411) (n : Nat) (l3 : Option Nat) (l4 : Option Nat) (l5 : Int32) (h : hH) (cb kb : Nat) (hM0 : cb + n * 0 ≤ ce) (hS0 : kb + n * 0 ≤ ke) (hk : f_X2_winning_l148 x.S.E v0 Q K203 n l3 l4 l5 h) (hK203 : ∀ (l3 : Option Nat) (h : hH), K203 l3 h → G x (xQ x rmX2_winning (qR Q)) 203 [(0, aR (some v0)), (3, aR l3)] [] h ce ke) : G x (xQ x rmX2_winning (qR Q)) 148 [(0, aR (some v0)), (3, aR l3), (4, aR l4), (5, aI l5)] [] h cb kb := by
  induction n generalizing l3 l4 l5 h cb kb with
  | zero => exact False.elim hk
  | succ n ih =>
    have hM : cb + 0 ≤ ce := by omega
    have hS : kb + 0 ≤ ke := by omega
    unfold f_X2_winning_l148 at hk
    exact G.widen (c' := cb + 0) (k' := kb + 0) (Nat.le_refl _) (Nat.le_refl _) <| g_iload F dX2_winning_148 3 rfl <|
g_aload F dX2_winning_150 2 rfl <|
g_calli0 (g_V F dX2_winning_152 q1316 mi_J2_size ct_J2 (rm' := rmJ2_size) ⟨Nat.le_of_ble_eq_true rfl, Nat.le_of_ble_eq_true rfl⟩ ⟨show cb + 0 + 0 ≤ 51 by omega, show kb + 0 + 0 ≤ 1411 by omega⟩ (As := []) (rest := [aI l5]) rfl rfl (Nat.le_of_ble_eq_true rfl) hk (fun a6 hk => m_J2_size F.ok a6 h _ hk)) ⟨rfl, rfl⟩ fun x5 h4 hk =>
g_icmp_ge F dX2_winning_155 (tgt := 203) rfl (fun hc => have hk := hk.1 hc
G.fewer [0, 1] rfl <| G.widen (show cb + 0 ≤ ce by omega) (show kb + 0 ≤ ke by omega) <| hK203 l3 h4 hk) (fun hc => have hk := hk.2 hc
g_aload_n F dX2_winning_158 rfl 1 rfl <|
g_ifnull F dX2_winning_159 (tgt := 182) rfl (fun hc => have hk := hk.1 hc
G.fewer [0, 2, 3] rfl <| s_X2_winning_j182 F hM hM2 hS hS2 l4 l5 h4 hk (fun l3 l4 l5 h hk => ih l3 l4 l5 h (cb + 0) (kb + 0) (by omega) (by omega) hk)) (fun hc => have hk := hk.2 hc
g_aload F dX2_winning_162 2 rfl <|
g_iload F dX2_winning_164 3 rfl <|
g_callr0 (g_V F dX2_winning_166 q1589 mi_J2_get ct_J2 (rm' := rmJ2_get) ⟨Nat.le_of_ble_eq_true rfl, Nat.le_of_ble_eq_true rfl⟩ ⟨show cb + 0 + 0 ≤ 51 by omega, show kb + 0 + 0 ≤ 1411 by omega⟩ (As := [aI l5]) (rest := []) rfl rfl (Nat.le_of_ble_eq_true rfl) hk (fun a9 hk => m_J2_get F.ok a9 l5 h4 _ hk)) ⟨rfl, rfl⟩ fun x8 h7 hk =>
g_castS F dX2_winning_169 q1797 ct_X16 hk fun hk =>
g_getI F dX2_winning_172 fo_X16_1_LockstepRoom_Group in_X16 fl_LockstepRoom_Room_184_X16 hk fun x10 hk =>
g_aload_n F dX2_winning_175 rfl 1 rfl <|
g_getI F dX2_winning_176 fo_X16_1_LockstepRoom_Group in_X16 fl_LockstepRoom_Room_184_X16 hk fun x11 hk =>
g_icmp_le F dX2_winning_179 (tgt := 195) rfl (fun hc => have hk := hk.1 hc
g_aload_n F dX2_winning_195 rfl 1 rfl <|
g_astore_n F dX2_winning_196 rfl (Nat.le_of_ble_eq_true rfl) rfl <|
g_iinc (v := (l5 + (1:Int32))) F dX2_winning_197 (j := 3) rfl (iinc_1 l5) (Nat.le_of_ble_eq_true rfl) rfl <|
g_goto F dX2_winning_200 (tgt := 148) rfl <|
G.fewer [2, 1, 3, 0] rfl <| (fun l3 l4 l5 h hk => ih l3 l4 l5 h (cb + 0) (kb + 0) (by omega) (by omega) hk) l3 l4 (l5 + (1:Int32)) h7 hk) (fun hc => have hk := hk.2 hc
G.fewer [0, 2, 3] rfl <| s_X2_winning_j182 F hM hM2 hS hS2 l4 l5 h7 hk (fun l3 l4 l5 h hk => ih l3 l4 l5 h (cb + 0) (kb + 0) (by omega) (by omega) hk))))
theorem s_X2_winning_j128 {x : Cx} (F : Fx x cX2_winning "LockstepRoom$Room" 10 (some (.object "LockstepRoom$Group")) rmX2_winning) {v0 : Nat} {Q : Option Nat → hH → Prop} {K24 : Int32 → Option Nat → Option Nat → Option Nat → Int32 → hH → Prop} {cb kb ce ke : Nat} (hM : cb + 7 ≤ ce) (hM2 : ce ≤ 51) (hS : kb + 200 ≤ ke) (hS2 : ke ≤ 1411) (l1 : Int32) (l2 : Option Nat) (l3 : Option Nat) (l4 : Option Nat) (l5 : Int32) (l8 : Option Nat) (h : hH) (hk : f_X2_winning_j128 x.S.E v0 Q K24 l1 l2 l3 l4 l5 l8 h) (hK24 : ∀ (l1 : Int32) (l2 : Option Nat) (l3 : Option Nat) (l4 : Option Nat) (l5 : Int32) (h : hH), K24 l1 l2 l3 l4 l5 h → G x (xQ x rmX2_winning (qR Q)) 24 [(0, aR (some v0)), (1, aI l1), (2, aR l2), (3, aR l3), (4, aR l4), (5, aI l5)] [] h (cb + 7) (kb + 200)) : G x (xQ x rmX2_winning (qR Q)) 128 [(0, aR (some v0)), (1, aI l1), (2, aR l2), (3, aR l3), (4, aR l4), (5, aI l5), (8, aR l8)] [] h (cb + 7) (kb + 200) := by
  unfold f_X2_winning_j128 at hk
  exact g_aload F dX2_winning_128 6 rfl <|
g_dup F dX2_winning_130 rfl <|
g_getI F dX2_winning_131 fo_X16_1_LockstepRoom_Group in_X16 fl_LockstepRoom_Room_184_X16 hk fun x12 hk =>
g_iconst F dX2_winning_134 ic_1 <|
g_iadd F dX2_winning_135 <|
g_putV F dX2_winning_136 fo_X16_1_LockstepRoom_Group ck_X16 fl_LockstepRoom_Room_184_X16 rfl (v := aI (x12 + (1:Int32))) (fit_i (x12 + (1:Int32))) hk fun h13 hk =>
g_iinc (v := (l5 + (1:Int32))) F dX2_winning_139 (j := 5) rfl (iinc_1 l5) (Nat.le_of_ble_eq_true rfl) rfl <|
g_goto F dX2_winning_142 (tgt := 24) rfl <|
G.fewer [1, 2, 3, 4, 5, 0] rfl <| hK24 l1 l2 l3 l4 (l5 + (1:Int32)) h13 hk
theorem s_X2_winning_l24 {x : Cx} (F : Fx x cX2_winning "LockstepRoom$Room" 10 (some (.object "LockstepRoom$Group")) rmX2_winning) {v0 : Nat} {Q : Option Nat → hH → Prop} {K145 : Option Nat → Option Nat → hH → Prop} {ce ke : Nat} (hM2 : ce ≤ 51) (hS2 : ke ≤ 1411) (n : Nat) (l1 : Int32) (l2 : Option Nat) (l3 : Option Nat) (l4 : Option Nat) (l5 : Int32) (h : hH) (cb kb : Nat) (hM0 : cb + n * 7 ≤ ce) (hS0 : kb + n * 200 ≤ ke) (hk : f_X2_winning_l24 x.S.E v0 Q K145 n l1 l2 l3 l4 l5 h) (hK145 : ∀ (l3 : Option Nat) (l4 : Option Nat) (h : hH), K145 l3 l4 h → G x (xQ x rmX2_winning (qR Q)) 145 [(0, aR (some v0)), (3, aR l3), (4, aR l4)] [] h ce ke) : G x (xQ x rmX2_winning (qR Q)) 24 [(0, aR (some v0)), (1, aI l1), (2, aR l2), (3, aR l3), (4, aR l4), (5, aI l5)] [] h cb kb := by
  induction n generalizing l1 l2 l3 l4 l5 h cb kb with
  | zero => exact False.elim hk
  | succ n ih =>
    have hM : cb + 7 ≤ ce := by omega
    have hS : kb + 200 ≤ ke := by omega
    unfold f_X2_winning_l24 at hk
    exact G.widen (c' := cb + 0) (k' := kb + 0) (Nat.le_refl _) (Nat.le_refl _) <| g_iload F dX2_winning_24 5 rfl <|
g_aload_n F dX2_winning_26 rfl 0 rfl <|
g_getR F dX2_winning_27 fo_X2_3_LockstepRoom_Room in_X2 fl_LockstepRoom_Room_36_X2 hk fun x14 hk =>
g_calli0 (g_V F dX2_winning_30 q1316 mi_J2_size ct_J2 (rm' := rmJ2_size) ⟨Nat.le_of_ble_eq_true rfl, Nat.le_of_ble_eq_true rfl⟩ ⟨show cb + 0 + 0 ≤ 51 by omega, show kb + 0 + 0 ≤ 1411 by omega⟩ (As := []) (rest := [aI l5]) rfl rfl (Nat.le_of_ble_eq_true rfl) hk (fun a17 hk => m_J2_size F.ok a17 h _ hk)) ⟨rfl, rfl⟩ fun x16 h15 hk =>
g_icmp_ge F dX2_winning_33 (tgt := 145) rfl (fun hc => have hk := hk.1 hc
G.fewer [0, 3, 4] rfl <| G.widen (show cb + 0 ≤ ce by omega) (show kb + 0 ≤ ke by omega) <| hK145 l3 l4 h15 hk) (fun hc => have hk := hk.2 hc
g_aload_n F dX2_winning_36 rfl 0 rfl <|
g_iload F dX2_winning_37 5 rfl <|
g_callr0 (g_V F dX2_winning_39 q1651 mi_X2_member ct_X2 (rm' := rmX2_member) ⟨Nat.le_of_ble_eq_true rfl, Nat.le_of_ble_eq_true rfl⟩ ⟨show cb + 0 + 0 ≤ 51 by omega, show kb + 0 + 0 ≤ 1411 by omega⟩ (As := [aI l5]) (rest := []) rfl rfl (Nat.le_of_ble_eq_true rfl) hk (fun a20 hk => m_X2_member F.ok a20 l5 h15 _ hk)) ⟨rfl, rfl⟩ fun x19 h18 hk =>
g_iload_n F dX2_winning_42 rfl 1 rfl <|
g_calli (g_V F dX2_winning_43 q1652 mi_X10_rootAt ct_X10 (rm' := rmX10_rootAt) ⟨Nat.le_of_ble_eq_true rfl, Nat.le_of_ble_eq_true rfl⟩ ⟨show cb + 0 + 1 ≤ 51 by omega, show kb + 0 + 1 ≤ 1411 by omega⟩ (As := [aI l1]) (rest := []) rfl rfl (Nat.le_of_ble_eq_true rfl) hk (fun a23 hk => m_X10_rootAt F.ok a23 l1 h18 _ hk)) fun x22 h21 hk =>
g_istore F dX2_winning_46 (Nat.le_of_ble_eq_true rfl) rfl <|
g_aload_n F dX2_winning_48 rfl 1 rfl <|
g_iload F dX2_winning_49 6 rfl <|
g_callr0 (g_V F dX2_winning_51 q1651 mi_X2_member ct_X2 (rm' := rmX2_member) ⟨Nat.le_of_ble_eq_true rfl, Nat.le_of_ble_eq_true rfl⟩ ⟨show cb + 0 + 1 + 0 ≤ 51 by omega, show kb + 0 + 1 + 0 ≤ 1411 by omega⟩ (As := [aI l5]) (rest := []) rfl rfl (Nat.le_of_ble_eq_true rfl) hk (fun a26 hk => m_X2_member F.ok a26 l5 h21 _ hk)) ⟨rfl, rfl⟩ fun x25 h24 hk =>
g_getI F dX2_winning_54 fo_X10_5_LockstepRoom_Member in_X10 fl_LockstepRoom_Room_118_X10 hk fun x27 hk =>
g_if_eq F dX2_winning_57 (tgt := 139) rfl (fun hc => have hk := hk.1 hc
g_iinc (v := (l5 + (1:Int32))) F dX2_winning_139 (j := 6) rfl (iinc_1 l5) (Nat.le_of_ble_eq_true rfl) rfl <|
g_goto F dX2_winning_142 (tgt := 24) rfl <|
G.fewer [2, 3, 4, 5, 6, 0] rfl <| G.widen (show cb + 0 + 1 ≤ cb + 7 by omega) (show kb + 0 + 1 ≤ kb + 200 by omega) <| (fun l1 l2 l3 l4 l5 h hk => ih l1 l2 l3 l4 l5 h (cb + 7) (kb + 200) (by omega) (by omega) hk) l1 l2 l3 l4 (l5 + (1:Int32)) h24 hk) (fun hc => have hk := hk.2 hc
g_iload F dX2_winning_60 0 rfl <|
g_iconst F dX2_winning_62 ic_m1 <|
g_icmp_ne F dX2_winning_63 (tgt := 69) rfl (fun hc => have hk := hk.2 hc
g_new (fs := [.int 0]) F dX2_winning_69 ck_X15 ct_X15 q1669 q1670 q161 df_X15 (show cb + 0 + 1 + 1 ≤ 51 by omega) (show kb + 0 + 1 + 1 ≤ 1411 by omega) hk fun q28 h29 hk =>
g_dup F dX2_winning_72 rfl <|
g_iload F dX2_winning_73 0 rfl <|
g_callv0 (g_I F dX2_winning_75 q1671 mc_X15_init (rm' := rmX15_init) ⟨Nat.le_of_ble_eq_true rfl, Nat.le_of_ble_eq_true rfl⟩ ⟨show cb + 0 + 1 + 1 + 0 ≤ 51 by omega, show kb + 0 + 1 + 1 + 0 ≤ 1411 by omega⟩ (As := [aI x22]) (rest := [aR (some q28)]) rfl rfl (Nat.le_of_ble_eq_true rfl) (m_X15_init F.ok q28 x22 h29 _ hk)) ⟨rfl, rfl⟩ fun h30 hk =>
g_astore F dX2_winning_78 (Nat.le_of_ble_eq_true rfl) rfl <|
g_aload_n F dX2_winning_80 rfl 4 rfl <|
g_aload F dX2_winning_81 0 rfl <|
g_callr0 (g_V F dX2_winning_83 q1679 mi_J30_get ct_J30 (rm' := rmJ30_get) ⟨Nat.le_of_ble_eq_true rfl, Nat.le_of_ble_eq_true rfl⟩ ⟨show cb + 0 + 1 + 1 + 0 ≤ 51 by omega, show kb + 0 + 1 + 1 + 0 ≤ 1411 by omega⟩ (As := [aR (some q28)]) (rest := []) rfl rfl (Nat.le_of_ble_eq_true rfl) hk (fun a33 hk => m_J30_get F.ok a33 (some q28) h30 _ hk)) ⟨rfl, rfl⟩ fun x32 h31 hk =>
g_castS F dX2_winning_86 q1797 ct_X16 hk fun hk =>
g_astore F dX2_winning_89 (Nat.le_of_ble_eq_true rfl) rfl <|
g_aload F dX2_winning_91 0 rfl <|
g_ifnonnull F dX2_winning_93 (tgt := 128) rfl (fun hc => have hk := hk.2 hc
G.fewer [3, 4, 5, 6, 7, 8, 0] rfl <| G.widen (show cb + 0 + 1 + 1 ≤ cb + 7 by omega) (show kb + 0 + 1 + 1 ≤ kb + 200 by omega) <| s_X2_winning_j128 F hM hM2 hS hS2 l1 l2 l3 l4 l5 x32 h31 hk (fun l1 l2 l3 l4 l5 h hk => ih l1 l2 l3 l4 l5 h (cb + 7) (kb + 200) (by omega) (by omega) hk)) (fun hc => have hk := hk.1 hc
g_new (fs := [.int 0, .int 0]) F dX2_winning_96 ck_X16 ct_X16 q1797 q1798 q162 df_X16 (show cb + 0 + 1 + 1 + 1 ≤ 51 by omega) (show kb + 0 + 1 + 1 + 2 ≤ 1411 by omega) hk fun q34 h35 hk =>
g_dup F dX2_winning_99 rfl <|
g_iload F dX2_winning_100 8 rfl <|
g_callv0 (g_I F dX2_winning_102 q1799 mc_X16_init (rm' := rmX16_init) ⟨Nat.le_of_ble_eq_true rfl, Nat.le_of_ble_eq_true rfl⟩ ⟨show cb + 0 + 1 + 1 + 1 + 0 ≤ 51 by omega, show kb + 0 + 1 + 1 + 2 + 0 ≤ 1411 by omega⟩ (As := [aI l5]) (rest := [aR (some q34)]) rfl rfl (Nat.le_of_ble_eq_true rfl) (m_X16_init F.ok q34 l5 h35 _ hk)) ⟨rfl, rfl⟩ fun h36 hk =>
g_astore F dX2_winning_105 (Nat.le_of_ble_eq_true rfl) rfl <|
g_aload_n F dX2_winning_107 rfl 5 rfl <|
g_aload F dX2_winning_108 1 rfl <|
g_aload F dX2_winning_110 0 rfl <|
g_callr (g_V F dX2_winning_112 q1811 mi_J30_put ct_J30 (rm' := rmJ30_put) ⟨Nat.le_of_ble_eq_true rfl, Nat.le_of_ble_eq_true rfl⟩ ⟨show cb + 0 + 1 + 1 + 1 + 3 ≤ 51 by omega, show kb + 0 + 1 + 1 + 2 + 132 ≤ 1411 by omega⟩ (As := [aR (some q28), aR (some q34)]) (rest := []) rfl rfl (Nat.le_of_ble_eq_true rfl) hk (fun a39 hk => m_J30_put F.ok a39 (some q28) (some q34) h36 _ hk)) fun x38 h37 hk =>
g_castS F dX2_winning_115 q1797 ct_X16 hk fun hk =>
g_astore F dX2_winning_118 (Nat.le_of_ble_eq_true rfl) rfl <|
g_aload F dX2_winning_120 8 rfl <|
g_aload F dX2_winning_122 1 rfl <|
g_calli (g_V F dX2_winning_124 q1315 mi_J2_add ct_J2 (rm' := rmJ2_add) ⟨Nat.le_of_ble_eq_true rfl, Nat.le_of_ble_eq_true rfl⟩ ⟨show cb + 0 + 1 + 1 + 1 + 3 + 1 ≤ 51 by omega, show kb + 0 + 1 + 1 + 2 + 132 + 64 ≤ 1411 by omega⟩ (As := [aR (some q34)]) (rest := []) rfl rfl (Nat.le_of_ble_eq_true rfl) hk (fun a42 hk => m_J2_add F.ok a42 (some q34) h37 _ hk)) fun x41 h40 hk =>
g_pop F dX2_winning_127 rfl <|
G.fewer [4, 5, 6, 7, 8, 9, 1] rfl <| G.widen (show cb + 0 + 1 + 1 + 1 + 3 + 1 ≤ cb + 7 by omega) (show kb + 0 + 1 + 1 + 2 + 132 + 64 ≤ kb + 200 by omega) <| s_X2_winning_j128 F hM hM2 hS hS2 l1 l2 l3 l4 l5 (some q34) h40 hk (fun l1 l2 l3 l4 l5 h hk => ih l1 l2 l3 l4 l5 h (cb + 7) (kb + 200) (by omega) (by omega) hk))) (fun hc => have hk := hk.1 hc
g_goto F dX2_winning_66 (tgt := 139) rfl <|
g_iinc (v := (l5 + (1:Int32))) F dX2_winning_139 (j := 6) rfl (iinc_1 l5) (Nat.le_of_ble_eq_true rfl) rfl <|
g_goto F dX2_winning_142 (tgt := 24) rfl <|
G.fewer [2, 3, 4, 5, 6, 0] rfl <| G.widen (show cb + 0 + 1 ≤ cb + 7 by omega) (show kb + 0 + 1 ≤ kb + 200 by omega) <| (fun l1 l2 l3 l4 l5 h hk => ih l1 l2 l3 l4 l5 h (cb + 7) (kb + 200) (by omega) (by omega) hk) l1 l2 l3 l4 (l5 + (1:Int32)) h24 hk)))
theorem s_X2_winning_j220 {x : Cx} (F : Fx x cX2_winning "LockstepRoom$Room" 10 (some (.object "LockstepRoom$Group")) rmX2_winning) {v0 : Nat} {Q : Option Nat → hH → Prop} {cb kb : Nat} (hM : cb + 51 ≤ 51) (hS : kb + 1411 ≤ 1411) (h : hH) (hk : f_X2_winning_j220 x.S.E v0 Q h) : G x (xQ x rmX2_winning (qR Q)) 220 [] [] h (cb + 51) (kb + 1411) := by
  unfold f_X2_winning_j220 at hk
  exact g_null F dX2_winning_220 <|
g_goto F dX2_winning_221 (tgt := 225) rfl <|
g_aret F (Or.inl ⟨_, rfl⟩) dX2_winning_225 (show cb + 51 ≤ 51 by omega) (show kb + 1411 ≤ 1411 by omega) hk
theorem m_X2_winning {S : Sx} (hS0 : Sok S) (v0 : Nat) (v1 : Int32) (h : hH) (Q : Option Nat → hH → Prop) (hk : f_X2_winning S.E v0 v1 h Q) : Ct S yX2_winning (ws_ yX2_winning cX2_winning 10 (some (.object "LockstepRoom$Group"))) rmX2_winning ([aR (some v0), aI v1].map vv) h (qR Q) := by
  refine Ct.of hS0 (by decide +kernel) rfl (Nat.le_of_ble_eq_true rfl) fun x hxS F hnm => ?_
  subst hxS
  unfold f_X2_winning at hk
  have hM : 0 + 51 ≤ 51 := by omega
  have hS : 0 + 1411 ≤ 1411 := by omega
  refine G.widen (c' := 0 + 0) (k' := 0 + 0) (Nat.le_refl 0) (Nat.le_refl 0) ?_
  exact g_new (fs := [va_rf none, va_rf none, va_rf none, va_rf none, .int 0, .int 0, .int 0, .float 0]) F dX2_winning_0 ck_J30 ct_J30 q1609 q1610 q159 df_J30 (show 0 + 0 + 1 ≤ 51 by omega) (show 0 + 0 + 8 ≤ 1411 by omega) hk fun q43 h44 hk =>
g_dup F dX2_winning_3 rfl <|
g_bipush F dX2_winning_4 bp_64 <|
g_callv0 (g_I F dX2_winning_6 q1611 mc_J30_init (rm' := rmJ30_init) ⟨Nat.le_of_ble_eq_true rfl, Nat.le_of_ble_eq_true rfl⟩ ⟨show 0 + 0 + 1 + 0 ≤ 51 by omega, show 0 + 0 + 8 + 0 ≤ 1411 by omega⟩ (As := [aI (64:Int32)]) (rest := [aR (some q43)]) rfl rfl (Nat.le_of_ble_eq_true rfl) (m_J30_init F.ok q43 (64:Int32) h44 _ hk)) ⟨rfl, rfl⟩ fun h45 hk =>
g_astore_n F dX2_winning_9 rfl (Nat.le_of_ble_eq_true rfl) rfl <|
g_null F dX2_winning_10 <|
g_astore_n F dX2_winning_11 rfl (Nat.le_of_ble_eq_true rfl) rfl <|
g_new (fs := [.int 0, va_rf none, .int 0]) F dX2_winning_12 ck_J2 ct_J2 q230 q231 q116 df_J2 (show 0 + 0 + 1 + 1 ≤ 51 by omega) (show 0 + 0 + 8 + 3 ≤ 1411 by omega) hk fun q46 h47 hk =>
g_dup F dX2_winning_15 rfl <|
g_callv0 (g_I F dX2_winning_16 q232 mc_J2_init (rm' := rmJ2_init) ⟨Nat.le_of_ble_eq_true rfl, Nat.le_of_ble_eq_true rfl⟩ ⟨show 0 + 0 + 1 + 1 + 0 ≤ 51 by omega, show 0 + 0 + 8 + 3 + 0 ≤ 1411 by omega⟩ (As := []) (rest := [aR (some q46)]) rfl rfl (Nat.le_of_ble_eq_true rfl) (m_J2_init F.ok q46 h47 _ hk)) ⟨rfl, rfl⟩ fun h48 hk =>
g_astore F dX2_winning_19 (Nat.le_of_ble_eq_true rfl) rfl <|
g_iconst F dX2_winning_21 ic_0 <|
g_istore F dX2_winning_22 (Nat.le_of_ble_eq_true rfl) rfl <|
G.fewer [4, 5, 3, 2, 1, 0] rfl <| G.widen (show 0 + 0 + 1 + 1 ≤ 0 + 2 by omega) (show 0 + 0 + 8 + 3 ≤ 0 + 11 by omega) <| s_X2_winning_l24 F (ce := 0 + 51) (ke := 0 + 1411) (show 0 + 51 ≤ 51 by omega) (show 0 + 1411 ≤ 1411 by omega) 7 v1 (some q43) none (some q46) (0:Int32) h48 (0 + 2) (0 + 11) (show 0 + 2 + 7 * 7 ≤ 0 + 51 by omega) (show 0 + 11 + 7 * 200 ≤ 0 + 1411 by omega) hk ((fun l3 l4 h hk => g_iconst F dX2_winning_145 ic_0 <|
g_istore F dX2_winning_146 (Nat.le_of_ble_eq_true rfl) rfl <|
G.fewer [1, 2, 3, 0] rfl <| s_X2_winning_l148 F (ce := 0 + 51) (ke := 0 + 1411) (show 0 + 51 ≤ 51 by omega) (show 0 + 1411 ≤ 1411 by omega) 1000000 l3 l4 (0:Int32) h (0 + 51) (0 + 1411) (show 0 + 51 + 1000000 * 0 ≤ 0 + 51 by omega) (show 0 + 1411 + 1000000 * 0 ≤ 0 + 1411 by omega) hk ((fun l3 h hk => g_aload_n F dX2_winning_203 rfl 1 rfl <|
g_ifnull F dX2_winning_204 (tgt := 220) rfl (fun hc => have hk := hk.1 hc
G.fewer [] rfl <| s_X2_winning_j220 F hM hS h hk ) (fun hc => have hk := hk.2 hc
g_aload_n F dX2_winning_207 rfl 1 rfl <|
g_getI F dX2_winning_208 fo_X16_1_LockstepRoom_Group in_X16 fl_LockstepRoom_Room_184_X16 hk fun x49 hk =>
g_aload_n F dX2_winning_211 rfl 0 rfl <|
g_getR F dX2_winning_212 fo_X2_2_LockstepRoom_Room in_X2 fl_LockstepRoom_Room_30_X2 hk fun x50 hk =>
g_iconst F dX2_winning_215 ic_1 <|
g_iald F dX2_winning_216 hk fun x51 hk =>
g_icmp_ge F dX2_winning_217 (tgt := 224) rfl (fun hc => have hk := hk.1 hc
g_aload_n F dX2_winning_224 rfl 1 rfl <|
g_aret F (Or.inl ⟨_, rfl⟩) dX2_winning_225 (show 0 + 51 ≤ 51 by omega) (show 0 + 1411 ≤ 1411 by omega) hk) (fun hc => have hk := hk.2 hc
G.fewer [] rfl <| s_X2_winning_j220 F hM hS h hk ))))))
abbrev rmX2_winner : Room := { frames := 9, cells := 51, slots := 1411, locals := 200 }
theorem m_X2_winner {S : Sx} (hS0 : Sok S) (v0 : Nat) (v1 : Int32) (h : hH) (Q : Int32 → hH → Prop) (hk : f_X2_winner S.E v0 v1 h Q) : Ct S yX2_winner (ws_ yX2_winner cX2_winner 3 (some .int)) rmX2_winner ([aR (some v0), aI v1].map vv) h (qI Q) := by
  refine Ct.of hS0 (by decide +kernel) rfl (Nat.le_of_ble_eq_true rfl) fun x hxS F hnm => ?_
  subst hxS
  unfold f_X2_winner at hk
  have hM : 0 + 51 ≤ 51 := by omega
  have hS : 0 + 1411 ≤ 1411 := by omega
  refine G.widen (c' := 0 + 0) (k' := 0 + 0) (Nat.le_refl 0) (Nat.le_refl 0) ?_
  exact g_aload_n F dX2_winner_0 rfl 0 rfl <|
g_iload_n F dX2_winner_1 rfl 1 rfl <|
g_callr (g_V F dX2_winner_2 q1605 mi_X2_winning ct_X2 (rm' := rmX2_winning) ⟨Nat.le_of_ble_eq_true rfl, Nat.le_of_ble_eq_true rfl⟩ ⟨show 0 + 0 + 51 ≤ 51 by omega, show 0 + 0 + 1411 ≤ 1411 by omega⟩ (As := [aI v1]) (rest := []) rfl rfl (Nat.le_of_ble_eq_true rfl) hk (fun a3 hk => m_X2_winning F.ok a3 v1 h _ hk)) fun x2 h1 hk =>
g_astore_n F dX2_winner_5 rfl (Nat.le_of_ble_eq_true rfl) rfl <|
g_aload_n F dX2_winner_6 rfl 0 rfl <|
g_ifnonnull F dX2_winner_7 (tgt := 14) rfl (fun hc => have hk := hk.2 hc
g_aload_n F dX2_winner_14 rfl 0 rfl <|
g_getI F dX2_winner_15 fo_X16_0_LockstepRoom_Group in_X16 fl_LockstepRoom_Room_190_X16 hk fun x4 hk =>
g_iret F dX2_winner_18 (show 0 + 0 + 51 ≤ 51 by omega) (show 0 + 0 + 1411 ≤ 1411 by omega) hk) (fun hc => have hk := hk.1 hc
g_iconst F dX2_winner_10 ic_m1 <|
g_goto F dX2_winner_11 (tgt := 18) rfl <|
g_iret F dX2_winner_18 (show 0 + 0 + 51 ≤ 51 by omega) (show 0 + 0 + 1411 ≤ 1411 by omega) hk)
abbrev rmX2_isWrong : Room := { frames := 10, cells := 53, slots := 1413, locals := 222 }
theorem m_X2_isWrong {S : Sx} (hS0 : Sok S) (v0 : Nat) (v1 : Option Nat) (h : hH) (Q : Int32 → hH → Prop) (hk : f_X2_isWrong S.E v0 v1 h Q) : Ct S yX2_isWrong (ws_ yX2_isWrong cX2_isWrong 3 (some .boolean)) rmX2_isWrong ([aR (some v0), aR v1].map vv) h (qI Q) := by
  refine Ct.of hS0 (by decide +kernel) rfl (Nat.le_of_ble_eq_true rfl) fun x hxS F hnm => ?_
  subst hxS
  unfold f_X2_isWrong at hk
  have hM : 0 + 53 ≤ 53 := by omega
  have hS : 0 + 1413 ≤ 1413 := by omega
  refine G.widen (c' := 0 + 0) (k' := 0 + 0) (Nat.le_refl 0) (Nat.le_refl 0) ?_
  exact g_aload_n F dX2_isWrong_0 rfl 0 rfl <|
g_aload_n F dX2_isWrong_1 rfl 1 rfl <|
g_getI F dX2_isWrong_2 fo_X10_4_LockstepRoom_Member in_X10 fl_LockstepRoom_Room_122_X10 hk fun x1 hk =>
g_calli (g_V F dX2_isWrong_5 q1959 mi_X2_winner ct_X2 (rm' := rmX2_winner) ⟨Nat.le_of_ble_eq_true rfl, Nat.le_of_ble_eq_true rfl⟩ ⟨show 0 + 0 + 51 ≤ 53 by omega, show 0 + 0 + 1411 ≤ 1413 by omega⟩ (As := [aI x1]) (rest := []) rfl rfl (Nat.le_of_ble_eq_true rfl) hk (fun a4 hk => m_X2_winner F.ok a4 x1 h _ hk)) fun x3 h2 hk =>
g_istore_n F dX2_isWrong_8 rfl (Nat.le_of_ble_eq_true rfl) rfl <|
g_aload_n F dX2_isWrong_9 rfl 2 rfl <|
g_getI F dX2_isWrong_10 fo_X10_5_LockstepRoom_Member in_X10 fl_LockstepRoom_Room_118_X10 hk fun x5 hk =>
g_if_eq F dX2_isWrong_13 (tgt := 48) rfl (fun hc => have hk := hk.1 hc
g_iconst F dX2_isWrong_48 ic_0 <|
g_zret F dX2_isWrong_49 (show 0 + 0 + 51 ≤ 53 by omega) (show 0 + 0 + 1411 ≤ 1413 by omega) rfl hk) (fun hc => have hk := hk.2 hc
g_iload_n F dX2_isWrong_16 rfl 0 rfl <|
g_iconst F dX2_isWrong_17 ic_m1 <|
g_icmp_eq F dX2_isWrong_18 (tgt := 48) rfl (fun hc => have hk := hk.1 hc
g_iconst F dX2_isWrong_48 ic_0 <|
g_zret F dX2_isWrong_49 (show 0 + 0 + 51 ≤ 53 by omega) (show 0 + 0 + 1411 ≤ 1413 by omega) rfl hk) (fun hc => have hk := hk.2 hc
g_aload_n F dX2_isWrong_21 rfl 1 rfl <|
g_iload_n F dX2_isWrong_22 rfl 0 rfl <|
g_callr0 (g_V F dX2_isWrong_23 q1651 mi_X2_member ct_X2 (rm' := rmX2_member) ⟨Nat.le_of_ble_eq_true rfl, Nat.le_of_ble_eq_true rfl⟩ ⟨show 0 + 0 + 51 + 0 ≤ 53 by omega, show 0 + 0 + 1411 + 0 ≤ 1413 by omega⟩ (As := [aI x3]) (rest := []) rfl rfl (Nat.le_of_ble_eq_true rfl) hk (fun a8 hk => m_X2_member F.ok a8 x3 h2 _ hk)) ⟨rfl, rfl⟩ fun x7 h6 hk =>
g_aload_n F dX2_isWrong_26 rfl 2 rfl <|
g_getI F dX2_isWrong_27 fo_X10_4_LockstepRoom_Member in_X10 fl_LockstepRoom_Room_122_X10 hk fun x9 hk =>
g_calli (g_V F dX2_isWrong_30 q1652 mi_X10_rootAt ct_X10 (rm' := rmX10_rootAt) ⟨Nat.le_of_ble_eq_true rfl, Nat.le_of_ble_eq_true rfl⟩ ⟨show 0 + 0 + 51 + 1 ≤ 53 by omega, show 0 + 0 + 1411 + 1 ≤ 1413 by omega⟩ (As := [aI x9]) (rest := []) rfl rfl (Nat.le_of_ble_eq_true rfl) hk (fun a12 hk => m_X10_rootAt F.ok a12 x9 h6 _ hk)) fun x11 h10 hk =>
g_aload_n F dX2_isWrong_33 rfl 2 rfl <|
g_aload_n F dX2_isWrong_34 rfl 2 rfl <|
g_getI F dX2_isWrong_35 fo_X10_4_LockstepRoom_Member in_X10 fl_LockstepRoom_Room_122_X10 hk fun x13 hk =>
g_calli (g_V F dX2_isWrong_38 q1652 mi_X10_rootAt ct_X10 (rm' := rmX10_rootAt) ⟨Nat.le_of_ble_eq_true rfl, Nat.le_of_ble_eq_true rfl⟩ ⟨show 0 + 0 + 51 + 1 + 1 ≤ 53 by omega, show 0 + 0 + 1411 + 1 + 1 ≤ 1413 by omega⟩ (As := [aI x13]) (rest := [aI x11]) rfl rfl (Nat.le_of_ble_eq_true rfl) hk (fun a16 hk => m_X10_rootAt F.ok a16 x13 h10 _ hk)) fun x15 h14 hk =>
g_icmp_eq F dX2_isWrong_41 (tgt := 48) rfl (fun hc => have hk := hk.1 hc
g_iconst F dX2_isWrong_48 ic_0 <|
g_zret F dX2_isWrong_49 (show 0 + 0 + 51 + 1 + 1 ≤ 53 by omega) (show 0 + 0 + 1411 + 1 + 1 ≤ 1413 by omega) rfl hk) (fun hc => have hk := hk.2 hc
g_iconst F dX2_isWrong_44 ic_1 <|
g_goto F dX2_isWrong_45 (tgt := 49) rfl <|
g_zret F dX2_isWrong_49 (show 0 + 0 + 51 + 1 + 1 ≤ 53 by omega) (show 0 + 0 + 1411 + 1 + 1 ≤ 1413 by omega) rfl hk)))
abbrev rmX2_greatest : Room := { frames := 6, cells := 0, slots := 0, locals := 125 }
theorem s_X2_greatest_l4 {x : Cx} (F : Fx x cX2_greatest "LockstepRoom$Room" 3 (some .int) rmX2_greatest) {v0 : Nat} {Q : Int32 → hH → Prop} {K49 : Int32 → hH → Prop} (n : Nat) (l1 : Int32) (l2 : Int32) (h : hH) (hk : f_X2_greatest_l4 x.S.E v0 Q K49 n l1 l2 h) (hK49 : ∀ (l1 : Int32) (h : hH), K49 l1 h → G x (xQ x rmX2_greatest (qI Q)) 49 [(1, aI l1)] [] h 0 0) : G x (xQ x rmX2_greatest (qI Q)) 4 [(0, aR (some v0)), (1, aI l1), (2, aI l2)] [] h 0 0 := by
  induction n generalizing l1 l2 h with
  | zero => exact False.elim hk
  | succ n ih =>
    unfold f_X2_greatest_l4 at hk
    exact g_iload_n F dX2_greatest_4 rfl 2 rfl <|
g_aload_n F dX2_greatest_5 rfl 0 rfl <|
g_getR F dX2_greatest_6 fo_X2_3_LockstepRoom_Room in_X2 fl_LockstepRoom_Room_36_X2 hk fun x1 hk =>
g_calli0 (g_V F dX2_greatest_9 q1316 mi_J2_size ct_J2 (rm' := rmJ2_size) ⟨Nat.le_of_ble_eq_true rfl, Nat.le_of_ble_eq_true rfl⟩ ⟨Nat.le_refl 0, Nat.le_refl 0⟩ (As := []) (rest := [aI l2]) rfl rfl (Nat.le_of_ble_eq_true rfl) hk (fun a4 hk => m_J2_size F.ok a4 h _ hk)) ⟨rfl, rfl⟩ fun x3 h2 hk =>
g_icmp_ge F dX2_greatest_12 (tgt := 49) rfl (fun hc => have hk := hk.1 hc
G.fewer [1] rfl <| hK49 l1 h2 hk) (fun hc => have hk := hk.2 hc
g_aload_n F dX2_greatest_15 rfl 0 rfl <|
g_iload_n F dX2_greatest_16 rfl 2 rfl <|
g_callr0 (g_V F dX2_greatest_17 q1651 mi_X2_member ct_X2 (rm' := rmX2_member) ⟨Nat.le_of_ble_eq_true rfl, Nat.le_of_ble_eq_true rfl⟩ ⟨Nat.le_refl 0, Nat.le_refl 0⟩ (As := [aI l2]) (rest := []) rfl rfl (Nat.le_of_ble_eq_true rfl) hk (fun a7 hk => m_X2_member F.ok a7 l2 h2 _ hk)) ⟨rfl, rfl⟩ fun x6 h5 hk =>
g_getI F dX2_greatest_20 fo_X10_5_LockstepRoom_Member in_X10 fl_LockstepRoom_Room_118_X10 hk fun x8 hk =>
g_if_eq F dX2_greatest_23 (tgt := 41) rfl (fun hc => have hk := hk.1 hc
g_iload_n F dX2_greatest_41 rfl 1 rfl <|
g_istore_n F dX2_greatest_42 rfl (Nat.le_of_ble_eq_true rfl) rfl <|
g_iinc (v := (l2 + (1:Int32))) F dX2_greatest_43 (j := 2) rfl (iinc_1 l2) (Nat.le_of_ble_eq_true rfl) rfl <|
g_goto F dX2_greatest_46 (tgt := 4) rfl <|
G.fewer [2, 1, 0] rfl <| ih l1 (l2 + (1:Int32)) h5 hk) (fun hc => have hk := hk.2 hc
g_iload_n F dX2_greatest_26 rfl 1 rfl <|
g_aload_n F dX2_greatest_27 rfl 0 rfl <|
g_iload_n F dX2_greatest_28 rfl 2 rfl <|
g_callr0 (g_V F dX2_greatest_29 q1651 mi_X2_member ct_X2 (rm' := rmX2_member) ⟨Nat.le_of_ble_eq_true rfl, Nat.le_of_ble_eq_true rfl⟩ ⟨Nat.le_refl 0, Nat.le_refl 0⟩ (As := [aI l2]) (rest := [aI l1]) rfl rfl (Nat.le_of_ble_eq_true rfl) hk (fun a11 hk => m_X2_member F.ok a11 l2 h5 _ hk)) ⟨rfl, rfl⟩ fun x10 h9 hk =>
g_getI F dX2_greatest_32 fo_X10_4_LockstepRoom_Member in_X10 fl_LockstepRoom_Room_122_X10 hk fun x12 hk =>
g_mmax (rest := []) F dX2_greatest_35 q1968 q540 q130 q541 (Nat.le_of_ble_eq_true rfl) (Nat.le_of_ble_eq_true rfl) (Nat.le_refl 0) (Nat.le_refl 0) <|
g_goto F dX2_greatest_38 (tgt := 42) rfl <|
g_istore_n F dX2_greatest_42 rfl (Nat.le_of_ble_eq_true rfl) rfl <|
g_iinc (v := (l2 + (1:Int32))) F dX2_greatest_43 (j := 2) rfl (iinc_1 l2) (Nat.le_of_ble_eq_true rfl) rfl <|
g_goto F dX2_greatest_46 (tgt := 4) rfl <|
G.fewer [2, 1, 0] rfl <| ih (iMax l1 x12) (l2 + (1:Int32)) h9 hk))
theorem m_X2_greatest {S : Sx} (hS0 : Sok S) (v0 : Nat) (h : hH) (Q : Int32 → hH → Prop) (hk : f_X2_greatest S.E v0 h Q) : Ct S yX2_greatest (ws_ yX2_greatest cX2_greatest 3 (some .int)) rmX2_greatest ([aR (some v0)].map vv) h (qI Q) := by
  refine Ct.of hS0 (by decide +kernel) rfl (Nat.le_of_ble_eq_true rfl) fun x hxS F hnm => ?_
  subst hxS
  unfold f_X2_greatest at hk
  exact g_iconst F dX2_greatest_0 ic_m1 <|
g_istore_n F dX2_greatest_1 rfl (Nat.le_of_ble_eq_true rfl) rfl <|
g_iconst F dX2_greatest_2 ic_0 <|
g_istore_n F dX2_greatest_3 rfl (Nat.le_of_ble_eq_true rfl) rfl <|
G.fewer [2, 1, 0] rfl <| s_X2_greatest_l4 F 1000000 (-1:Int32) (0:Int32) h hk ((fun l1 h hk => g_iload_n F dX2_greatest_49 rfl 0 rfl <|
g_iret F dX2_greatest_50 (Nat.le_refl 0) (Nat.le_refl 0) hk))
abbrev rmX2_least : Room := { frames := 6, cells := 0, slots := 0, locals := 125 }
theorem s_X2_least_j48 {x : Cx} (F : Fx x cX2_least "LockstepRoom$Room" 4 (some .int) rmX2_least) {v0 : Nat} {Q : Int32 → hH → Prop} {K4 : Int32 → Int32 → hH → Prop} (l1 : Int32) (l2 : Int32) (h : hH) (hk : f_X2_least_j48 x.S.E v0 Q K4 l1 l2 h) (hK4 : ∀ (l1 : Int32) (l2 : Int32) (h : hH), K4 l1 l2 h → G x (xQ x rmX2_least (qI Q)) 4 [(0, aR (some v0)), (1, aI l1), (2, aI l2)] [] h 0 0) : G x (xQ x rmX2_least (qI Q)) 48 [(0, aR (some v0)), (1, aI l1), (2, aI l2)] [] h 0 0 := by
  unfold f_X2_least_j48 at hk
  exact g_iload_n F dX2_least_48 rfl 1 rfl <|
g_istore_n F dX2_least_49 rfl (Nat.le_of_ble_eq_true rfl) rfl <|
g_iinc (v := (l2 + (1:Int32))) F dX2_least_50 (j := 2) rfl (iinc_1 l2) (Nat.le_of_ble_eq_true rfl) rfl <|
g_goto F dX2_least_53 (tgt := 4) rfl <|
G.fewer [2, 1, 0] rfl <| hK4 l1 (l2 + (1:Int32)) h hk
theorem s_X2_least_j41 {x : Cx} (F : Fx x cX2_least "LockstepRoom$Room" 4 (some .int) rmX2_least) {v0 : Nat} {Q : Int32 → hH → Prop} {K4 : Int32 → Int32 → hH → Prop} (l2 : Int32) (l3 : Option Nat) (h : hH) (hk : f_X2_least_j41 x.S.E v0 Q K4 l2 l3 h) (hK4 : ∀ (l1 : Int32) (l2 : Int32) (h : hH), K4 l1 l2 h → G x (xQ x rmX2_least (qI Q)) 4 [(0, aR (some v0)), (1, aI l1), (2, aI l2)] [] h 0 0) : G x (xQ x rmX2_least (qI Q)) 41 [(0, aR (some v0)), (2, aI l2), (3, aR l3)] [] h 0 0 := by
  unfold f_X2_least_j41 at hk
  exact g_aload_n F dX2_least_41 rfl 2 rfl <|
g_getI F dX2_least_42 fo_X10_4_LockstepRoom_Member in_X10 fl_LockstepRoom_Room_122_X10 hk fun x1 hk =>
g_goto F dX2_least_45 (tgt := 49) rfl <|
g_istore_n F dX2_least_49 rfl (Nat.le_of_ble_eq_true rfl) rfl <|
g_iinc (v := (l2 + (1:Int32))) F dX2_least_50 (j := 2) rfl (iinc_1 l2) (Nat.le_of_ble_eq_true rfl) rfl <|
g_goto F dX2_least_53 (tgt := 4) rfl <|
G.fewer [2, 1, 0] rfl <| hK4 x1 (l2 + (1:Int32)) h hk
theorem s_X2_least_l4 {x : Cx} (F : Fx x cX2_least "LockstepRoom$Room" 4 (some .int) rmX2_least) {v0 : Nat} {Q : Int32 → hH → Prop} {K56 : Int32 → hH → Prop} (n : Nat) (l1 : Int32) (l2 : Int32) (h : hH) (hk : f_X2_least_l4 x.S.E v0 Q K56 n l1 l2 h) (hK56 : ∀ (l1 : Int32) (h : hH), K56 l1 h → G x (xQ x rmX2_least (qI Q)) 56 [(1, aI l1)] [] h 0 0) : G x (xQ x rmX2_least (qI Q)) 4 [(0, aR (some v0)), (1, aI l1), (2, aI l2)] [] h 0 0 := by
  induction n generalizing l1 l2 h with
  | zero => exact False.elim hk
  | succ n ih =>
    unfold f_X2_least_l4 at hk
    exact g_iload_n F dX2_least_4 rfl 2 rfl <|
g_aload_n F dX2_least_5 rfl 0 rfl <|
g_getR F dX2_least_6 fo_X2_3_LockstepRoom_Room in_X2 fl_LockstepRoom_Room_36_X2 hk fun x2 hk =>
g_calli0 (g_V F dX2_least_9 q1316 mi_J2_size ct_J2 (rm' := rmJ2_size) ⟨Nat.le_of_ble_eq_true rfl, Nat.le_of_ble_eq_true rfl⟩ ⟨Nat.le_refl 0, Nat.le_refl 0⟩ (As := []) (rest := [aI l2]) rfl rfl (Nat.le_of_ble_eq_true rfl) hk (fun a5 hk => m_J2_size F.ok a5 h _ hk)) ⟨rfl, rfl⟩ fun x4 h3 hk =>
g_icmp_ge F dX2_least_12 (tgt := 56) rfl (fun hc => have hk := hk.1 hc
G.fewer [1] rfl <| hK56 l1 h3 hk) (fun hc => have hk := hk.2 hc
g_aload_n F dX2_least_15 rfl 0 rfl <|
g_iload_n F dX2_least_16 rfl 2 rfl <|
g_callr0 (g_V F dX2_least_17 q1651 mi_X2_member ct_X2 (rm' := rmX2_member) ⟨Nat.le_of_ble_eq_true rfl, Nat.le_of_ble_eq_true rfl⟩ ⟨Nat.le_refl 0, Nat.le_refl 0⟩ (As := [aI l2]) (rest := []) rfl rfl (Nat.le_of_ble_eq_true rfl) hk (fun a8 hk => m_X2_member F.ok a8 l2 h3 _ hk)) ⟨rfl, rfl⟩ fun x7 h6 hk =>
g_astore_n F dX2_least_20 rfl (Nat.le_of_ble_eq_true rfl) rfl <|
g_aload_n F dX2_least_21 rfl 0 rfl <|
g_getI F dX2_least_22 fo_X10_5_LockstepRoom_Member in_X10 fl_LockstepRoom_Room_118_X10 hk fun x9 hk =>
g_if_eq F dX2_least_25 (tgt := 48) rfl (fun hc => have hk := hk.1 hc
G.fewer [1, 2, 3] rfl <| s_X2_least_j48 F l1 l2 h6 hk ih) (fun hc => have hk := hk.2 hc
g_iload_n F dX2_least_28 rfl 2 rfl <|
g_iconst F dX2_least_29 ic_m1 <|
g_icmp_eq F dX2_least_30 (tgt := 41) rfl (fun hc => have hk := hk.1 hc
G.fewer [1, 3, 0] rfl <| s_X2_least_j41 F l2 x7 h6 hk ih) (fun hc => have hk := hk.2 hc
g_aload_n F dX2_least_33 rfl 0 rfl <|
g_getI F dX2_least_34 fo_X10_4_LockstepRoom_Member in_X10 fl_LockstepRoom_Room_122_X10 hk fun x10 hk =>
g_iload_n F dX2_least_37 rfl 2 rfl <|
g_icmp_ge F dX2_least_38 (tgt := 48) rfl (fun hc => have hk := hk.1 hc
G.fewer [1, 2, 3] rfl <| s_X2_least_j48 F l1 l2 h6 hk ih) (fun hc => have hk := hk.2 hc
G.fewer [1, 3, 0] rfl <| s_X2_least_j41 F l2 x7 h6 hk ih))))
theorem m_X2_least {S : Sx} (hS0 : Sok S) (v0 : Nat) (h : hH) (Q : Int32 → hH → Prop) (hk : f_X2_least S.E v0 h Q) : Ct S yX2_least (ws_ yX2_least cX2_least 4 (some .int)) rmX2_least ([aR (some v0)].map vv) h (qI Q) := by
  refine Ct.of hS0 (by decide +kernel) rfl (Nat.le_of_ble_eq_true rfl) fun x hxS F hnm => ?_
  subst hxS
  unfold f_X2_least at hk
  exact g_iconst F dX2_least_0 ic_m1 <|
g_istore_n F dX2_least_1 rfl (Nat.le_of_ble_eq_true rfl) rfl <|
g_iconst F dX2_least_2 ic_0 <|
g_istore_n F dX2_least_3 rfl (Nat.le_of_ble_eq_true rfl) rfl <|
G.fewer [2, 1, 0] rfl <| s_X2_least_l4 F 1000000 (-1:Int32) (0:Int32) h hk ((fun l1 h hk => g_iload_n F dX2_least_56 rfl 0 rfl <|
g_iret F dX2_least_57 (Nat.le_refl 0) (Nat.le_refl 0) hk))
abbrev rmX2_active : Room := { frames := 6, cells := 0, slots := 0, locals := 125 }
theorem s_X2_active_j32 {x : Cx} (F : Fx x cX2_active "LockstepRoom$Room" 3 (some .int) rmX2_active) {v0 : Nat} {Q : Int32 → hH → Prop} {K4 : Int32 → Int32 → hH → Prop} (s0 : Int32) (s1 : Int32) (l2 : Int32) (h : hH) (hk : f_X2_active_j32 x.S.E v0 Q K4 s0 s1 l2 h) (hK4 : ∀ (l1 : Int32) (l2 : Int32) (h : hH), K4 l1 l2 h → G x (xQ x rmX2_active (qI Q)) 4 [(0, aR (some v0)), (1, aI l1), (2, aI l2)] [] h 0 0) : G x (xQ x rmX2_active (qI Q)) 32 [(0, aR (some v0)), (2, aI l2)] [aI s1, aI s0] h 0 0 := by
  unfold f_X2_active_j32 at hk
  exact g_iadd F dX2_active_32 <|
g_istore_n F dX2_active_33 rfl (Nat.le_of_ble_eq_true rfl) rfl <|
g_iinc (v := (l2 + (1:Int32))) F dX2_active_34 (j := 2) rfl (iinc_1 l2) (Nat.le_of_ble_eq_true rfl) rfl <|
g_goto F dX2_active_37 (tgt := 4) rfl <|
G.fewer [2, 1, 0] rfl <| hK4 (s0 + s1) (l2 + (1:Int32)) h hk
theorem s_X2_active_l4 {x : Cx} (F : Fx x cX2_active "LockstepRoom$Room" 3 (some .int) rmX2_active) {v0 : Nat} {Q : Int32 → hH → Prop} {K40 : Int32 → hH → Prop} (n : Nat) (l1 : Int32) (l2 : Int32) (h : hH) (hk : f_X2_active_l4 x.S.E v0 Q K40 n l1 l2 h) (hK40 : ∀ (l1 : Int32) (h : hH), K40 l1 h → G x (xQ x rmX2_active (qI Q)) 40 [(1, aI l1)] [] h 0 0) : G x (xQ x rmX2_active (qI Q)) 4 [(0, aR (some v0)), (1, aI l1), (2, aI l2)] [] h 0 0 := by
  induction n generalizing l1 l2 h with
  | zero => exact False.elim hk
  | succ n ih =>
    unfold f_X2_active_l4 at hk
    exact g_iload_n F dX2_active_4 rfl 2 rfl <|
g_aload_n F dX2_active_5 rfl 0 rfl <|
g_getR F dX2_active_6 fo_X2_3_LockstepRoom_Room in_X2 fl_LockstepRoom_Room_36_X2 hk fun x1 hk =>
g_calli0 (g_V F dX2_active_9 q1316 mi_J2_size ct_J2 (rm' := rmJ2_size) ⟨Nat.le_of_ble_eq_true rfl, Nat.le_of_ble_eq_true rfl⟩ ⟨Nat.le_refl 0, Nat.le_refl 0⟩ (As := []) (rest := [aI l2]) rfl rfl (Nat.le_of_ble_eq_true rfl) hk (fun a4 hk => m_J2_size F.ok a4 h _ hk)) ⟨rfl, rfl⟩ fun x3 h2 hk =>
g_icmp_ge F dX2_active_12 (tgt := 40) rfl (fun hc => have hk := hk.1 hc
G.fewer [1] rfl <| hK40 l1 h2 hk) (fun hc => have hk := hk.2 hc
g_iload_n F dX2_active_15 rfl 1 rfl <|
g_aload_n F dX2_active_16 rfl 0 rfl <|
g_iload_n F dX2_active_17 rfl 2 rfl <|
g_callr0 (g_V F dX2_active_18 q1651 mi_X2_member ct_X2 (rm' := rmX2_member) ⟨Nat.le_of_ble_eq_true rfl, Nat.le_of_ble_eq_true rfl⟩ ⟨Nat.le_refl 0, Nat.le_refl 0⟩ (As := [aI l2]) (rest := [aI l1]) rfl rfl (Nat.le_of_ble_eq_true rfl) hk (fun a7 hk => m_X2_member F.ok a7 l2 h2 _ hk)) ⟨rfl, rfl⟩ fun x6 h5 hk =>
g_getI F dX2_active_21 fo_X10_5_LockstepRoom_Member in_X10 fl_LockstepRoom_Room_118_X10 hk fun x8 hk =>
g_if_eq F dX2_active_24 (tgt := 31) rfl (fun hc => have hk := hk.1 hc
g_iconst F dX2_active_31 ic_0 <|
G.fewer [0, 2] rfl <| s_X2_active_j32 F l1 (0:Int32) l2 h5 hk ih) (fun hc => have hk := hk.2 hc
g_iconst F dX2_active_27 ic_1 <|
g_goto F dX2_active_28 (tgt := 32) rfl <|
G.fewer [0, 2] rfl <| s_X2_active_j32 F l1 (1:Int32) l2 h5 hk ih))
theorem m_X2_active {S : Sx} (hS0 : Sok S) (v0 : Nat) (h : hH) (Q : Int32 → hH → Prop) (hk : f_X2_active S.E v0 h Q) : Ct S yX2_active (ws_ yX2_active cX2_active 3 (some .int)) rmX2_active ([aR (some v0)].map vv) h (qI Q) := by
  refine Ct.of hS0 (by decide +kernel) rfl (Nat.le_of_ble_eq_true rfl) fun x hxS F hnm => ?_
  subst hxS
  unfold f_X2_active at hk
  exact g_iconst F dX2_active_0 ic_0 <|
g_istore_n F dX2_active_1 rfl (Nat.le_of_ble_eq_true rfl) rfl <|
g_iconst F dX2_active_2 ic_0 <|
g_istore_n F dX2_active_3 rfl (Nat.le_of_ble_eq_true rfl) rfl <|
G.fewer [2, 1, 0] rfl <| s_X2_active_l4 F 1000000 (0:Int32) (0:Int32) h hk ((fun l1 h hk => g_iload_n F dX2_active_40 rfl 0 rfl <|
g_iret F dX2_active_41 (Nat.le_refl 0) (Nat.le_refl 0) hk))
abbrev rmX2_truth : Room := { frames := 5, cells := 1, slots := 16, locals := 113 }
theorem s_X2_truth_l13 {x : Cx} (F : Fx x cX2_truth "LockstepRoom$Room" 4 (some (.array .int)) rmX2_truth) {v0 : Nat} {Q : Option Nat → hH → Prop} {K43 : Option Nat → hH → Prop} {ce ke : Nat} (hM2 : ce ≤ 1) (hS2 : ke ≤ 16) (n : Nat) (l1 : Int32) (l2 : Option Nat) (l3 : Int32) (h : hH) (cb kb : Nat) (hM0 : cb + n * 0 ≤ ce) (hS0 : kb + n * 0 ≤ ke) (hk : f_X2_truth_l13 x.S.E v0 Q K43 n l1 l2 l3 h) (hK43 : ∀ (l2 : Option Nat) (h : hH), K43 l2 h → G x (xQ x rmX2_truth (qR Q)) 43 [(2, aR l2)] [] h ce ke) : G x (xQ x rmX2_truth (qR Q)) 13 [(0, aR (some v0)), (1, aI l1), (2, aR l2), (3, aI l3)] [] h cb kb := by
  induction n generalizing l1 l2 l3 h cb kb with
  | zero => exact False.elim hk
  | succ n ih =>
    have hM : cb + 0 ≤ ce := by omega
    have hS : kb + 0 ≤ ke := by omega
    unfold f_X2_truth_l13 at hk
    exact G.widen (c' := cb + 0) (k' := kb + 0) (Nat.le_refl _) (Nat.le_refl _) <| g_iload_n F dX2_truth_13 rfl 3 rfl <|
g_iload_n F dX2_truth_14 rfl 1 rfl <|
g_icmp_ge F dX2_truth_15 (tgt := 43) rfl (fun hc => have hk := hk.1 hc
G.fewer [2] rfl <| G.widen (show cb + 0 ≤ ce by omega) (show kb + 0 ≤ ke by omega) <| hK43 l2 h hk) (fun hc => have hk := hk.2 hc
g_aload_n F dX2_truth_18 rfl 0 rfl <|
g_getR F dX2_truth_19 fo_X2_0_LockstepRoom_Room in_X2 fl_LockstepRoom_Room_12_X2 hk fun x1 hk =>
g_aload_n F dX2_truth_22 rfl 0 rfl <|
g_getR F dX2_truth_23 fo_X2_4_LockstepRoom_Room in_X2 fl_LockstepRoom_Room_40_X2 hk fun x2 hk =>
g_iload_n F dX2_truth_26 rfl 3 rfl <|
g_callr0 (g_V F dX2_truth_27 q1589 mi_J2_get ct_J2 (rm' := rmJ2_get) ⟨Nat.le_of_ble_eq_true rfl, Nat.le_of_ble_eq_true rfl⟩ ⟨show cb + 0 + 0 ≤ 1 by omega, show kb + 0 + 0 ≤ 16 by omega⟩ (As := [aI l3]) (rest := [aR x1]) rfl rfl (Nat.le_of_ble_eq_true rfl) hk (fun a5 hk => m_J2_get F.ok a5 l3 h _ hk)) ⟨rfl, rfl⟩ fun x4 h3 hk =>
g_castA (t := 5) F dX2_truth_30 q1989 F.arr5 hk fun hk =>
g_aload_n F dX2_truth_33 rfl 2 rfl <|
g_callv0 (g_V F dX2_truth_34 q1990 mi_X3_execute ct_X3 (rm' := rmX3_execute) ⟨Nat.le_of_ble_eq_true rfl, Nat.le_of_ble_eq_true rfl⟩ ⟨show cb + 0 + 0 ≤ 1 by omega, show kb + 0 + 0 ≤ 16 by omega⟩ (As := [aR x4, aR l2]) (rest := []) rfl rfl (Nat.le_of_ble_eq_true rfl) hk (fun a7 hk => m_X3_execute F.ok a7 x4 l2 h3 _ hk)) ⟨rfl, rfl⟩ fun h6 hk =>
g_iinc (v := (l3 + (1:Int32))) F dX2_truth_37 (j := 3) rfl (iinc_1 l3) (Nat.le_of_ble_eq_true rfl) rfl <|
g_goto F dX2_truth_40 (tgt := 13) rfl <|
G.fewer [1, 2, 3, 0] rfl <| (fun l1 l2 l3 h hk => ih l1 l2 l3 h (cb + 0) (kb + 0) (by omega) (by omega) hk) l1 l2 (l3 + (1:Int32)) h6 hk)
theorem m_X2_truth {S : Sx} (hS0 : Sok S) (v0 : Nat) (v1 : Int32) (h : hH) (Q : Option Nat → hH → Prop) (hk : f_X2_truth S.E v0 v1 h Q) : Ct S yX2_truth (ws_ yX2_truth cX2_truth 4 (some (.array .int))) rmX2_truth ([aR (some v0), aI v1].map vv) h (qR Q) := by
  refine Ct.of hS0 (by decide +kernel) rfl (Nat.le_of_ble_eq_true rfl) fun x hxS F hnm => ?_
  subst hxS
  unfold f_X2_truth at hk
  have hM : 0 + 1 ≤ 1 := by omega
  have hS : 0 + 16 ≤ 16 := by omega
  refine G.widen (c' := 0 + 0) (k' := 0 + 0) (Nat.le_refl 0) (Nat.le_refl 0) ?_
  exact g_aload_n F dX2_truth_0 rfl 0 rfl <|
g_getR F dX2_truth_1 fo_X2_1_LockstepRoom_Room in_X2 fl_LockstepRoom_Room_18_X2 hk fun x8 hk =>
g_clI (rest := []) F dX2_truth_4 q223 q224 q225 q226 q227 q228 (Nat.le_of_ble_eq_true rfl) (Nat.le_of_ble_eq_true rfl) (show 0 + 0 + 1 ≤ 1 by omega) (show 0 + 0 + 16 ≤ 16 by omega) hk fun q9 h10 hk =>
g_castA (t := 0) F dX2_truth_7 q229 F.arr0 hk fun hk =>
g_astore_n F dX2_truth_10 rfl (Nat.le_of_ble_eq_true rfl) rfl <|
g_iconst F dX2_truth_11 ic_0 <|
g_istore_n F dX2_truth_12 rfl (Nat.le_of_ble_eq_true rfl) rfl <|
G.fewer [2, 3, 1, 0] rfl <| G.widen (show 0 + 0 + 1 ≤ 0 + 1 by omega) (show 0 + 0 + 16 ≤ 0 + 16 by omega) <| s_X2_truth_l13 F (ce := 0 + 1) (ke := 0 + 16) (show 0 + 1 ≤ 1 by omega) (show 0 + 16 ≤ 16 by omega) 1000000 v1 (some q9) (0:Int32) h10 (0 + 1) (0 + 16) (show 0 + 1 + 1000000 * 0 ≤ 0 + 1 by omega) (show 0 + 16 + 1000000 * 0 ≤ 0 + 16 by omega) hk ((fun l2 h hk => g_aload_n F dX2_truth_43 rfl 0 rfl <|
g_aret F (Or.inr ⟨_, rfl⟩) dX2_truth_44 (show 0 + 1 ≤ 1 by omega) (show 0 + 16 ≤ 16 by omega) hk))
abbrev rmX2_copy : Room := { frames := 17, cells := 1000, slots := 9457, locals := 3140 }
theorem s_X2_copy_l150 {x : Cx} (F : Fx x cX2_copy "LockstepRoom$Room" 4 (some (.object "LockstepRoom$Room")) rmX2_copy) {v0 : Nat} {Q : Option Nat → hH → Prop} {K186 : Option Nat → hH → Prop} {ce ke : Nat} (hM2 : ce ≤ 1000) (hS2 : ke ≤ 9457) (n : Nat) (l1 : Option Nat) (l2 : Int32) (h : hH) (cb kb : Nat) (hM0 : cb + n * 1 ≤ ce) (hS0 : kb + n * 64 ≤ ke) (hk : f_X2_copy_l150 x.S.E v0 Q K186 n l1 l2 h) (hK186 : ∀ (l1 : Option Nat) (h : hH), K186 l1 h → G x (xQ x rmX2_copy (qR Q)) 186 [(0, aR (some v0)), (1, aR l1)] [] h ce ke) : G x (xQ x rmX2_copy (qR Q)) 150 [(0, aR (some v0)), (1, aR l1), (2, aI l2)] [] h cb kb := by
  induction n generalizing l1 l2 h cb kb with
  | zero => exact False.elim hk
  | succ n ih =>
    have hM : cb + 1 ≤ ce := by omega
    have hS : kb + 64 ≤ ke := by omega
    unfold f_X2_copy_l150 at hk
    exact G.widen (c' := cb + 0) (k' := kb + 0) (Nat.le_refl _) (Nat.le_refl _) <| g_iload_n F dX2_copy_150 rfl 2 rfl <|
g_aload_n F dX2_copy_151 rfl 0 rfl <|
g_getR F dX2_copy_152 fo_X2_6_LockstepRoom_Room in_X2 fl_LockstepRoom_Room_55_X2 hk fun x1 hk =>
g_calli0 (g_V F dX2_copy_155 q1316 mi_J2_size ct_J2 (rm' := rmJ2_size) ⟨Nat.le_of_ble_eq_true rfl, Nat.le_of_ble_eq_true rfl⟩ ⟨show cb + 0 + 0 ≤ 1000 by omega, show kb + 0 + 0 ≤ 9457 by omega⟩ (As := []) (rest := [aI l2]) rfl rfl (Nat.le_of_ble_eq_true rfl) hk (fun a4 hk => m_J2_size F.ok a4 h _ hk)) ⟨rfl, rfl⟩ fun x3 h2 hk =>
g_icmp_ge F dX2_copy_158 (tgt := 186) rfl (fun hc => have hk := hk.1 hc
G.fewer [0, 1] rfl <| G.widen (show cb + 0 ≤ ce by omega) (show kb + 0 ≤ ke by omega) <| hK186 l1 h2 hk) (fun hc => have hk := hk.2 hc
g_aload_n F dX2_copy_161 rfl 1 rfl <|
g_getR F dX2_copy_162 fo_X2_6_LockstepRoom_Room in_X2 fl_LockstepRoom_Room_55_X2 hk fun x5 hk =>
g_aload_n F dX2_copy_165 rfl 0 rfl <|
g_getR F dX2_copy_166 fo_X2_6_LockstepRoom_Room in_X2 fl_LockstepRoom_Room_55_X2 hk fun x6 hk =>
g_iload_n F dX2_copy_169 rfl 2 rfl <|
g_callr0 (g_V F dX2_copy_170 q1589 mi_J2_get ct_J2 (rm' := rmJ2_get) ⟨Nat.le_of_ble_eq_true rfl, Nat.le_of_ble_eq_true rfl⟩ ⟨show cb + 0 + 0 ≤ 1000 by omega, show kb + 0 + 0 ≤ 9457 by omega⟩ (As := [aI l2]) (rest := [aR x5]) rfl rfl (Nat.le_of_ble_eq_true rfl) hk (fun a9 hk => m_J2_get F.ok a9 l2 h2 _ hk)) ⟨rfl, rfl⟩ fun x8 h7 hk =>
g_castS F dX2_copy_173 q2432 ct_X9 hk fun hk =>
g_calli (g_V F dX2_copy_176 q1315 mi_J2_add ct_J2 (rm' := rmJ2_add) ⟨Nat.le_of_ble_eq_true rfl, Nat.le_of_ble_eq_true rfl⟩ ⟨show cb + 0 + 1 ≤ 1000 by omega, show kb + 0 + 64 ≤ 9457 by omega⟩ (As := [aR x8]) (rest := []) rfl rfl (Nat.le_of_ble_eq_true rfl) hk (fun a12 hk => m_J2_add F.ok a12 x8 h7 _ hk)) fun x11 h10 hk =>
g_pop F dX2_copy_179 rfl <|
g_iinc (v := (l2 + (1:Int32))) F dX2_copy_180 (j := 2) rfl (iinc_1 l2) (Nat.le_of_ble_eq_true rfl) rfl <|
g_goto F dX2_copy_183 (tgt := 150) rfl <|
G.fewer [1, 2, 0] rfl <| G.widen (show cb + 0 + 1 ≤ cb + 1 by omega) (show kb + 0 + 64 ≤ kb + 64 by omega) <| (fun l1 l2 h hk => ih l1 l2 h (cb + 1) (kb + 64) (by omega) (by omega) hk) l1 (l2 + (1:Int32)) h10 hk)
theorem s_X2_copy_l117 {x : Cx} (F : Fx x cX2_copy "LockstepRoom$Room" 4 (some (.object "LockstepRoom$Room")) rmX2_copy) {v0 : Nat} {Q : Option Nat → hH → Prop} {K148 : Option Nat → hH → Prop} {ce ke : Nat} (hM2 : ce ≤ 1000) (hS2 : ke ≤ 9457) (n : Nat) (l1 : Option Nat) (l2 : Option Nat) (h : hH) (cb kb : Nat) (hM0 : cb + n * 0 ≤ ce) (hS0 : kb + n * 0 ≤ ke) (hk : f_X2_copy_l117 x.S.E v0 Q K148 n l1 l2 h) (hK148 : ∀ (l1 : Option Nat) (h : hH), K148 l1 h → G x (xQ x rmX2_copy (qR Q)) 148 [(0, aR (some v0)), (1, aR l1)] [] h ce ke) : G x (xQ x rmX2_copy (qR Q)) 117 [(0, aR (some v0)), (1, aR l1), (2, aR l2)] [] h cb kb := by
  induction n generalizing l1 l2 h cb kb with
  | zero => exact False.elim hk
  | succ n ih =>
    have hM : cb + 0 ≤ ce := by omega
    have hS : kb + 0 ≤ ke := by omega
    unfold f_X2_copy_l117 at hk
    exact G.widen (c' := cb + 0) (k' := kb + 0) (Nat.le_refl _) (Nat.le_refl _) <| g_aload_n F dX2_copy_117 rfl 2 rfl <|
g_calli05 (g_F (y0 := ({ cls := "java/util/Iterator", name := "hasNext", desc := "()Z" } : MethodName)) F dX2_copy_118 q2429 q2377 q2375 q174 q2379 (F.face q2364 q2363 q2378 q2376 q2289 ⟨by decide, by decide⟩) moi_java_util_Iterator_hasNext___Z ct_J42 (rm' := rmJ42_hasNext) ⟨Nat.le_of_ble_eq_true rfl, Nat.le_of_ble_eq_true rfl⟩ ⟨show cb + 0 + 0 ≤ 1000 by omega, show kb + 0 + 0 ≤ 9457 by omega⟩ (As := []) (rest := []) rfl rfl (Nat.le_of_ble_eq_true rfl) hk (fun a22 hk => m_J42_hasNext F.ok a22 h _ hk)) ⟨rfl, rfl⟩ fun x14 h13 hk =>
g_if_eq F dX2_copy_123 (tgt := 148) rfl (fun hc => have hk := hk.1 hc
G.fewer [0, 1] rfl <| G.widen (show cb + 0 ≤ ce by omega) (show kb + 0 ≤ ke by omega) <| hK148 l1 h13 hk) (fun hc => have hk := hk.2 hc
g_aload_n F dX2_copy_126 rfl 2 rfl <|
g_callr05 (g_F (y0 := ({ cls := "java/util/Iterator", name := "next", desc := "()Ljava/lang/Object;" } : MethodName)) F dX2_copy_127 q2431 q2292 q2290 q174 q2294 (F.face q2200 q2199 q2293 q2291 q2289 ⟨by decide, by decide⟩) moi_java_util_Iterator_next___Ljava_lang_Object_ ct_J42 (rm' := rmJ42_next) ⟨Nat.le_of_ble_eq_true rfl, Nat.le_of_ble_eq_true rfl⟩ ⟨show cb + 0 + 0 ≤ 1000 by omega, show kb + 0 + 0 ≤ 9457 by omega⟩ (As := []) (rest := []) rfl rfl (Nat.le_of_ble_eq_true rfl) hk (fun a21 hk => m_J42_next F.ok a21 h13 _ hk)) ⟨rfl, rfl⟩ fun x16 h15 hk =>
g_castS F dX2_copy_132 q999 ct_X8 hk fun hk =>
g_astore_n F dX2_copy_135 rfl (Nat.le_of_ble_eq_true rfl) rfl <|
g_aload_n F dX2_copy_136 rfl 2 rfl <|
g_getR F dX2_copy_137 fo_X2_5_LockstepRoom_Room in_X2 fl_LockstepRoom_Room_51_X2 hk fun x17 hk =>
g_aload_n F dX2_copy_140 rfl 0 rfl <|
g_calli0 (g_V F dX2_copy_141 q1030 mi_J4_add ct_J4 (rm' := rmJ4_add) ⟨Nat.le_of_ble_eq_true rfl, Nat.le_of_ble_eq_true rfl⟩ ⟨show cb + 0 + 0 ≤ 1000 by omega, show kb + 0 + 0 ≤ 9457 by omega⟩ (As := [aR x16]) (rest := []) rfl rfl (Nat.le_of_ble_eq_true rfl) hk (fun a20 hk => m_J4_add F.ok a20 x16 h15 _ hk)) ⟨rfl, rfl⟩ fun x19 h18 hk =>
g_pop F dX2_copy_144 rfl <|
g_goto F dX2_copy_145 (tgt := 117) rfl <|
G.fewer [1, 2, 3] rfl <| (fun l1 l2 h hk => ih l1 l2 h (cb + 0) (kb + 0) (by omega) (by omega) hk) l1 l2 h18 hk)
theorem s_X2_copy_l73 {x : Cx} (F : Fx x cX2_copy "LockstepRoom$Room" 4 (some (.object "LockstepRoom$Room")) rmX2_copy) {v0 : Nat} {Q : Option Nat → hH → Prop} {K109 : Option Nat → hH → Prop} {ce ke : Nat} (hM2 : ce ≤ 1000) (hS2 : ke ≤ 9457) (n : Nat) (l1 : Option Nat) (l2 : Int32) (h : hH) (cb kb : Nat) (hM0 : cb + n * 1 ≤ ce) (hS0 : kb + n * 64 ≤ ke) (hk : f_X2_copy_l73 x.S.E v0 Q K109 n l1 l2 h) (hK109 : ∀ (l1 : Option Nat) (h : hH), K109 l1 h → G x (xQ x rmX2_copy (qR Q)) 109 [(0, aR (some v0)), (1, aR l1)] [] h ce ke) : G x (xQ x rmX2_copy (qR Q)) 73 [(0, aR (some v0)), (1, aR l1), (2, aI l2)] [] h cb kb := by
  induction n generalizing l1 l2 h cb kb with
  | zero => exact False.elim hk
  | succ n ih =>
    have hM : cb + 1 ≤ ce := by omega
    have hS : kb + 64 ≤ ke := by omega
    unfold f_X2_copy_l73 at hk
    exact G.widen (c' := cb + 0) (k' := kb + 0) (Nat.le_refl _) (Nat.le_refl _) <| g_iload_n F dX2_copy_73 rfl 2 rfl <|
g_aload_n F dX2_copy_74 rfl 0 rfl <|
g_getR F dX2_copy_75 fo_X2_4_LockstepRoom_Room in_X2 fl_LockstepRoom_Room_40_X2 hk fun x23 hk =>
g_calli0 (g_V F dX2_copy_78 q1316 mi_J2_size ct_J2 (rm' := rmJ2_size) ⟨Nat.le_of_ble_eq_true rfl, Nat.le_of_ble_eq_true rfl⟩ ⟨show cb + 0 + 0 ≤ 1000 by omega, show kb + 0 + 0 ≤ 9457 by omega⟩ (As := []) (rest := [aI l2]) rfl rfl (Nat.le_of_ble_eq_true rfl) hk (fun a26 hk => m_J2_size F.ok a26 h _ hk)) ⟨rfl, rfl⟩ fun x25 h24 hk =>
g_icmp_ge F dX2_copy_81 (tgt := 109) rfl (fun hc => have hk := hk.1 hc
G.fewer [0, 1] rfl <| G.widen (show cb + 0 ≤ ce by omega) (show kb + 0 ≤ ke by omega) <| hK109 l1 h24 hk) (fun hc => have hk := hk.2 hc
g_aload_n F dX2_copy_84 rfl 1 rfl <|
g_getR F dX2_copy_85 fo_X2_4_LockstepRoom_Room in_X2 fl_LockstepRoom_Room_40_X2 hk fun x27 hk =>
g_aload_n F dX2_copy_88 rfl 0 rfl <|
g_getR F dX2_copy_89 fo_X2_4_LockstepRoom_Room in_X2 fl_LockstepRoom_Room_40_X2 hk fun x28 hk =>
g_iload_n F dX2_copy_92 rfl 2 rfl <|
g_callr0 (g_V F dX2_copy_93 q1589 mi_J2_get ct_J2 (rm' := rmJ2_get) ⟨Nat.le_of_ble_eq_true rfl, Nat.le_of_ble_eq_true rfl⟩ ⟨show cb + 0 + 0 ≤ 1000 by omega, show kb + 0 + 0 ≤ 9457 by omega⟩ (As := [aI l2]) (rest := [aR x27]) rfl rfl (Nat.le_of_ble_eq_true rfl) hk (fun a31 hk => m_J2_get F.ok a31 l2 h24 _ hk)) ⟨rfl, rfl⟩ fun x30 h29 hk =>
g_castA (t := 5) F dX2_copy_96 q1989 F.arr5 hk fun hk =>
g_calli (g_V F dX2_copy_99 q1315 mi_J2_add ct_J2 (rm' := rmJ2_add) ⟨Nat.le_of_ble_eq_true rfl, Nat.le_of_ble_eq_true rfl⟩ ⟨show cb + 0 + 1 ≤ 1000 by omega, show kb + 0 + 64 ≤ 9457 by omega⟩ (As := [aR x30]) (rest := []) rfl rfl (Nat.le_of_ble_eq_true rfl) hk (fun a34 hk => m_J2_add F.ok a34 x30 h29 _ hk)) fun x33 h32 hk =>
g_pop F dX2_copy_102 rfl <|
g_iinc (v := (l2 + (1:Int32))) F dX2_copy_103 (j := 2) rfl (iinc_1 l2) (Nat.le_of_ble_eq_true rfl) rfl <|
g_goto F dX2_copy_106 (tgt := 73) rfl <|
G.fewer [1, 2, 0] rfl <| G.widen (show cb + 0 + 1 ≤ cb + 1 by omega) (show kb + 0 + 64 ≤ kb + 64 by omega) <| (fun l1 l2 h hk => ih l1 l2 h (cb + 1) (kb + 64) (by omega) (by omega) hk) l1 (l2 + (1:Int32)) h32 hk)
theorem s_X2_copy_l32 {x : Cx} (F : Fx x cX2_copy "LockstepRoom$Room" 4 (some (.object "LockstepRoom$Room")) rmX2_copy) {v0 : Nat} {Q : Option Nat → hH → Prop} {K71 : Option Nat → hH → Prop} {ce ke : Nat} (hM2 : ce ≤ 1000) (hS2 : ke ≤ 9457) (n : Nat) (l1 : Option Nat) (l2 : Int32) (h : hH) (cb kb : Nat) (hM0 : cb + n * 133 ≤ ce) (hS0 : kb + n * 866 ≤ ke) (hk : f_X2_copy_l32 x.S.E v0 Q K71 n l1 l2 h) (hK71 : ∀ (l1 : Option Nat) (h : hH), K71 l1 h → G x (xQ x rmX2_copy (qR Q)) 71 [(0, aR (some v0)), (1, aR l1)] [] h ce ke) : G x (xQ x rmX2_copy (qR Q)) 32 [(0, aR (some v0)), (1, aR l1), (2, aI l2)] [] h cb kb := by
  induction n generalizing l1 l2 h cb kb with
  | zero => exact False.elim hk
  | succ n ih =>
    have hM : cb + 133 ≤ ce := by omega
    have hS : kb + 866 ≤ ke := by omega
    unfold f_X2_copy_l32 at hk
    exact G.widen (c' := cb + 0) (k' := kb + 0) (Nat.le_refl _) (Nat.le_refl _) <| g_iload_n F dX2_copy_32 rfl 2 rfl <|
g_aload_n F dX2_copy_33 rfl 0 rfl <|
g_getR F dX2_copy_34 fo_X2_3_LockstepRoom_Room in_X2 fl_LockstepRoom_Room_36_X2 hk fun x35 hk =>
g_calli0 (g_V F dX2_copy_37 q1316 mi_J2_size ct_J2 (rm' := rmJ2_size) ⟨Nat.le_of_ble_eq_true rfl, Nat.le_of_ble_eq_true rfl⟩ ⟨show cb + 0 + 0 ≤ 1000 by omega, show kb + 0 + 0 ≤ 9457 by omega⟩ (As := []) (rest := [aI l2]) rfl rfl (Nat.le_of_ble_eq_true rfl) hk (fun a38 hk => m_J2_size F.ok a38 h _ hk)) ⟨rfl, rfl⟩ fun x37 h36 hk =>
g_icmp_ge F dX2_copy_40 (tgt := 71) rfl (fun hc => have hk := hk.1 hc
G.fewer [0, 1] rfl <| G.widen (show cb + 0 ≤ ce by omega) (show kb + 0 ≤ ke by omega) <| hK71 l1 h36 hk) (fun hc => have hk := hk.2 hc
g_aload_n F dX2_copy_43 rfl 1 rfl <|
g_getR F dX2_copy_44 fo_X2_3_LockstepRoom_Room in_X2 fl_LockstepRoom_Room_36_X2 hk fun x39 hk =>
g_aload_n F dX2_copy_47 rfl 0 rfl <|
g_getR F dX2_copy_48 fo_X2_3_LockstepRoom_Room in_X2 fl_LockstepRoom_Room_36_X2 hk fun x40 hk =>
g_iload_n F dX2_copy_51 rfl 2 rfl <|
g_callr0 (g_V F dX2_copy_52 q1589 mi_J2_get ct_J2 (rm' := rmJ2_get) ⟨Nat.le_of_ble_eq_true rfl, Nat.le_of_ble_eq_true rfl⟩ ⟨show cb + 0 + 0 ≤ 1000 by omega, show kb + 0 + 0 ≤ 9457 by omega⟩ (As := [aI l2]) (rest := [aR x39]) rfl rfl (Nat.le_of_ble_eq_true rfl) hk (fun a43 hk => m_J2_get F.ok a43 l2 h36 _ hk)) ⟨rfl, rfl⟩ fun x42 h41 hk =>
g_castS F dX2_copy_55 q1360 ct_X10 hk fun hk =>
g_callr (g_V F dX2_copy_58 q2038 mi_X10_copy ct_X10 (rm' := rmX10_copy) ⟨Nat.le_of_ble_eq_true rfl, Nat.le_of_ble_eq_true rfl⟩ ⟨show cb + 0 + 132 ≤ 1000 by omega, show kb + 0 + 802 ≤ 9457 by omega⟩ (As := []) (rest := [aR x39]) rfl rfl (Nat.le_of_ble_eq_true rfl) hk (fun a46 hk => m_X10_copy F.ok a46 h41 _ hk)) fun x45 h44 hk =>
g_calli (g_V F dX2_copy_61 q1315 mi_J2_add ct_J2 (rm' := rmJ2_add) ⟨Nat.le_of_ble_eq_true rfl, Nat.le_of_ble_eq_true rfl⟩ ⟨show cb + 0 + 132 + 1 ≤ 1000 by omega, show kb + 0 + 802 + 64 ≤ 9457 by omega⟩ (As := [aR x45]) (rest := []) rfl rfl (Nat.le_of_ble_eq_true rfl) hk (fun a49 hk => m_J2_add F.ok a49 x45 h44 _ hk)) fun x48 h47 hk =>
g_pop F dX2_copy_64 rfl <|
g_iinc (v := (l2 + (1:Int32))) F dX2_copy_65 (j := 2) rfl (iinc_1 l2) (Nat.le_of_ble_eq_true rfl) rfl <|
g_goto F dX2_copy_68 (tgt := 32) rfl <|
G.fewer [1, 2, 0] rfl <| G.widen (show cb + 0 + 132 + 1 ≤ cb + 133 by omega) (show kb + 0 + 802 + 64 ≤ kb + 866 by omega) <| (fun l1 l2 h hk => ih l1 l2 h (cb + 133) (kb + 866) (by omega) (by omega) hk) l1 (l2 + (1:Int32)) h47 hk)
theorem m_X2_copy {S : Sx} (hS0 : Sok S) (v0 : Nat) (h : hH) (Q : Option Nat → hH → Prop) (hk : f_X2_copy S.E v0 h Q) : Ct S yX2_copy (ws_ yX2_copy cX2_copy 4 (some (.object "LockstepRoom$Room"))) rmX2_copy ([aR (some v0)].map vv) h (qR Q) := by
  refine Ct.of hS0 (by decide +kernel) rfl (Nat.le_of_ble_eq_true rfl) fun x hxS F hnm => ?_
  subst hxS
  unfold f_X2_copy at hk
  have hM : 0 + 1000 ≤ 1000 := by omega
  have hS : 0 + 9457 ≤ 9457 := by omega
  refine G.widen (c' := 0 + 0) (k' := 0 + 0) (Nat.le_refl 0) (Nat.le_refl 0) ?_
  exact g_new (fs := [va_rf none, va_rf none, va_rf none, va_rf none, va_rf none, va_rf none, va_rf none, .int 0]) F dX2_copy_0 ck_X2 ct_X2 q2036 q185 q112 df_X2 (show 0 + 0 + 1 ≤ 1000 by omega) (show 0 + 0 + 8 ≤ 9457 by omega) hk fun q50 h51 hk =>
g_dup F dX2_copy_3 rfl <|
g_callv (g_I F dX2_copy_4 q2037 mc_X2_init (rm' := rmX2_init) ⟨Nat.le_of_ble_eq_true rfl, Nat.le_of_ble_eq_true rfl⟩ ⟨show 0 + 0 + 1 + 14 ≤ 1000 by omega, show 0 + 0 + 8 + 51 ≤ 9457 by omega⟩ (As := []) (rest := [aR (some q50)]) rfl rfl (Nat.le_of_ble_eq_true rfl) (m_X2_init F.ok q50 h51 _ hk)) fun h52 hk =>
g_astore_n F dX2_copy_7 rfl (Nat.le_of_ble_eq_true rfl) rfl <|
g_aload_n F dX2_copy_8 rfl 0 rfl <|
g_aload_n F dX2_copy_9 rfl 1 rfl <|
g_getR F dX2_copy_10 fo_X2_1_LockstepRoom_Room in_X2 fl_LockstepRoom_Room_18_X2 hk fun x53 hk =>
g_putV F dX2_copy_13 fo_X2_1_LockstepRoom_Room ck_X2 fl_LockstepRoom_Room_18_X2 rfl (v := aR x53) (fit_ra .int x53) hk fun h54 hk =>
g_aload_n F dX2_copy_16 rfl 0 rfl <|
g_aload_n F dX2_copy_17 rfl 1 rfl <|
g_getR F dX2_copy_18 fo_X2_2_LockstepRoom_Room in_X2 fl_LockstepRoom_Room_30_X2 hk fun x55 hk =>
g_clI (rest := [aR (some q50)]) F dX2_copy_21 q223 q224 q225 q226 q227 q228 (Nat.le_of_ble_eq_true rfl) (Nat.le_of_ble_eq_true rfl) (show 0 + 0 + 1 + 14 + 1 ≤ 1000 by omega) (show 0 + 0 + 8 + 51 + 2 ≤ 9457 by omega) hk fun q56 h57 hk =>
g_castA (t := 0) F dX2_copy_24 q229 F.arr0 hk fun hk =>
g_putV F dX2_copy_27 fo_X2_2_LockstepRoom_Room ck_X2 fl_LockstepRoom_Room_30_X2 rfl (v := aR (some q56)) (fit_ra .int (some q56)) hk fun h58 hk =>
g_iconst F dX2_copy_30 ic_0 <|
g_istore_n F dX2_copy_31 rfl (Nat.le_of_ble_eq_true rfl) rfl <|
G.fewer [2, 1, 0] rfl <| G.widen (show 0 + 0 + 1 + 14 + 1 ≤ 0 + 16 by omega) (show 0 + 0 + 8 + 51 + 2 ≤ 0 + 61 by omega) <| s_X2_copy_l32 F (ce := 0 + 947) (ke := 0 + 6123) (show 0 + 947 ≤ 1000 by omega) (show 0 + 6123 ≤ 9457 by omega) 7 (some q50) (0:Int32) h58 (0 + 16) (0 + 61) (show 0 + 16 + 7 * 133 ≤ 0 + 947 by omega) (show 0 + 61 + 7 * 866 ≤ 0 + 6123 by omega) hk ((fun l1 h hk => g_iconst F dX2_copy_71 ic_0 <|
g_istore_n F dX2_copy_72 rfl (Nat.le_of_ble_eq_true rfl) rfl <|
G.fewer [1, 2, 0] rfl <| s_X2_copy_l73 F (ce := 0 + 988) (ke := 0 + 8747) (show 0 + 988 ≤ 1000 by omega) (show 0 + 8747 ≤ 9457 by omega) 41 l1 (0:Int32) h (0 + 947) (0 + 6123) (show 0 + 947 + 41 * 1 ≤ 0 + 988 by omega) (show 0 + 6123 + 41 * 64 ≤ 0 + 8747 by omega) hk ((fun l1 h hk => g_aload_n F dX2_copy_109 rfl 0 rfl <|
g_getR F dX2_copy_110 fo_X2_5_LockstepRoom_Room in_X2 fl_LockstepRoom_Room_51_X2 hk fun x59 hk =>
g_callr (g_V F dX2_copy_113 q2399 mi_J4_iterator ct_J4 (rm' := rmJ4_iterator) ⟨Nat.le_of_ble_eq_true rfl, Nat.le_of_ble_eq_true rfl⟩ ⟨show 0 + 988 + 1 ≤ 1000 by omega, show 0 + 8747 + 6 ≤ 9457 by omega⟩ (As := []) (rest := []) rfl rfl (Nat.le_of_ble_eq_true rfl) hk (fun a62 hk => m_J4_iterator F.ok a62 h _ hk)) fun x61 h60 hk =>
g_astore_n F dX2_copy_116 rfl (Nat.le_of_ble_eq_true rfl) rfl <|
G.fewer [1, 2, 0] rfl <| G.widen (show 0 + 988 + 1 ≤ 0 + 989 by omega) (show 0 + 8747 + 6 ≤ 0 + 8753 by omega) <| s_X2_copy_l117 F (ce := 0 + 989) (ke := 0 + 8753) (show 0 + 989 ≤ 1000 by omega) (show 0 + 8753 ≤ 9457 by omega) 9 l1 x61 h60 (0 + 989) (0 + 8753) (show 0 + 989 + 9 * 0 ≤ 0 + 989 by omega) (show 0 + 8753 + 9 * 0 ≤ 0 + 8753 by omega) hk ((fun l1 h hk => g_iconst F dX2_copy_148 ic_0 <|
g_istore_n F dX2_copy_149 rfl (Nat.le_of_ble_eq_true rfl) rfl <|
G.fewer [1, 2, 0] rfl <| s_X2_copy_l150 F (ce := 0 + 1000) (ke := 0 + 9457) (show 0 + 1000 ≤ 1000 by omega) (show 0 + 9457 ≤ 9457 by omega) 11 l1 (0:Int32) h (0 + 989) (0 + 8753) (show 0 + 989 + 11 * 1 ≤ 0 + 1000 by omega) (show 0 + 8753 + 11 * 64 ≤ 0 + 9457 by omega) hk ((fun l1 h hk => g_aload_n F dX2_copy_186 rfl 1 rfl <|
g_aload_n F dX2_copy_187 rfl 0 rfl <|
g_getI F dX2_copy_188 fo_X2_7_LockstepRoom_Room in_X2 fl_LockstepRoom_Room_97_X2 hk fun x63 hk =>
g_putV F dX2_copy_191 fo_X2_7_LockstepRoom_Room ck_X2 fl_LockstepRoom_Room_97_X2 rfl (v := aI x63) (fit_i x63) hk fun h64 hk =>
g_aload_n F dX2_copy_194 rfl 1 rfl <|
g_aret F (Or.inl ⟨_, rfl⟩) dX2_copy_195 (show 0 + 1000 ≤ 1000 by omega) (show 0 + 9457 ≤ 9457 by omega) hk))))))))
abbrev rmX2_mayRun : Room := { frames := 3, cells := 0, slots := 0, locals := 60 }
theorem m_X2_mayRun {S : Sx} (hS0 : Sok S) (v0 : Nat) (v1 : Option Nat) (v2 : Int32) (h : hH) (Q : Int32 → hH → Prop) (hk : f_X2_mayRun S.E v0 v1 v2 h Q) : Ct S yX2_mayRun (ws_ yX2_mayRun cX2_mayRun 3 (some .int)) rmX2_mayRun ([aR (some v0), aR v1, aI v2].map vv) h (qI Q) := by
  refine Ct.of hS0 (by decide +kernel) rfl (Nat.le_of_ble_eq_true rfl) fun x hxS F hnm => ?_
  subst hxS
  unfold f_X2_mayRun at hk
  exact g_aload_n F dX2_mayRun_0 rfl 1 rfl <|
g_getI F dX2_mayRun_1 fo_X10_5_LockstepRoom_Member in_X10 fl_LockstepRoom_Room_118_X10 hk fun x1 hk =>
g_if_eq F dX2_mayRun_4 (tgt := 37) rfl (fun hc => have hk := hk.1 hc
g_iconst F dX2_mayRun_37 ic_0 <|
g_iret F dX2_mayRun_38 (Nat.le_refl 0) (Nat.le_refl 0) hk) (fun hc => have hk := hk.2 hc
g_iconst F dX2_mayRun_7 ic_0 <|
g_aload_n F dX2_mayRun_8 rfl 0 rfl <|
g_getR F dX2_mayRun_9 fo_X2_4_LockstepRoom_Room in_X2 fl_LockstepRoom_Room_40_X2 hk fun x2 hk =>
g_calli0 (g_V F dX2_mayRun_12 q1316 mi_J2_size ct_J2 (rm' := rmJ2_size) ⟨Nat.le_of_ble_eq_true rfl, Nat.le_of_ble_eq_true rfl⟩ ⟨Nat.le_refl 0, Nat.le_refl 0⟩ (As := []) (rest := [aI (0:Int32)]) rfl rfl (Nat.le_of_ble_eq_true rfl) hk (fun a5 hk => m_J2_size F.ok a5 h _ hk)) ⟨rfl, rfl⟩ fun x4 h3 hk =>
g_iload_n F dX2_mayRun_15 rfl 2 rfl <|
g_aload_n F dX2_mayRun_16 rfl 0 rfl <|
g_getR F dX2_mayRun_17 fo_X2_2_LockstepRoom_Room in_X2 fl_LockstepRoom_Room_30_X2 hk fun x6 hk =>
g_iconst F dX2_mayRun_20 ic_0 <|
g_iald F dX2_mayRun_21 hk fun x7 hk =>
g_iadd F dX2_mayRun_22 <|
g_mmin (rest := [aI (0:Int32)]) F dX2_mayRun_23 q2452 q556 q130 q557 (Nat.le_of_ble_eq_true rfl) (Nat.le_of_ble_eq_true rfl) (Nat.le_refl 0) (Nat.le_refl 0) <|
g_aload_n F dX2_mayRun_26 rfl 1 rfl <|
g_getI F dX2_mayRun_27 fo_X10_4_LockstepRoom_Member in_X10 fl_LockstepRoom_Room_122_X10 hk fun x8 hk =>
g_isub F dX2_mayRun_30 <|
g_mmax (rest := []) F dX2_mayRun_31 q1968 q540 q130 q541 (Nat.le_of_ble_eq_true rfl) (Nat.le_of_ble_eq_true rfl) (Nat.le_refl 0) (Nat.le_refl 0) <|
g_goto F dX2_mayRun_34 (tgt := 38) rfl <|
g_iret F dX2_mayRun_38 (Nat.le_refl 0) (Nat.le_refl 0) hk)
abbrev rmX2_step : Room := { frames := 10, cells := 4, slots := 40, locals := 219 }
theorem s_X2_step_l29 {x : Cx} (F : Fx x cX2_step "LockstepRoom$Room" 6 none rmX2_step) {v0 : Nat} {Q : hH → Prop} {K126 : Option Nat → hH → Prop} {ce ke : Nat} (hM2 : ce ≤ 4) (hS2 : ke ≤ 40) (n : Nat) (l1 : Option Nat) (l2 : Int32) (l3 : Int32) (h : hH) (cb kb : Nat) (hM0 : cb + n * 0 ≤ ce) (hS0 : kb + n * 0 ≤ ke) (hk : f_X2_step_l29 x.S.E v0 Q K126 n l1 l2 l3 h) (hK126 : ∀ (l1 : Option Nat) (h : hH), K126 l1 h → G x (xQ x rmX2_step (qV Q)) 126 [(1, aR l1)] [] h ce ke) : G x (xQ x rmX2_step (qV Q)) 29 [(0, aR (some v0)), (1, aR l1), (2, aI l2), (3, aI l3)] [] h cb kb := by
  induction n generalizing l1 l2 l3 h cb kb with
  | zero => exact False.elim hk
  | succ n ih =>
    have hM : cb + 0 ≤ ce := by omega
    have hS : kb + 0 ≤ ke := by omega
    unfold f_X2_step_l29 at hk
    exact G.widen (c' := cb + 0) (k' := kb + 0) (Nat.le_refl _) (Nat.le_refl _) <| g_iload_n F dX2_step_29 rfl 3 rfl <|
g_aload_n F dX2_step_30 rfl 0 rfl <|
g_getR F dX2_step_31 fo_X2_6_LockstepRoom_Room in_X2 fl_LockstepRoom_Room_55_X2 hk fun x1 hk =>
g_calli0 (g_V F dX2_step_34 q1316 mi_J2_size ct_J2 (rm' := rmJ2_size) ⟨Nat.le_of_ble_eq_true rfl, Nat.le_of_ble_eq_true rfl⟩ ⟨show cb + 0 + 0 ≤ 4 by omega, show kb + 0 + 0 ≤ 40 by omega⟩ (As := []) (rest := [aI l3]) rfl rfl (Nat.le_of_ble_eq_true rfl) hk (fun a4 hk => m_J2_size F.ok a4 h _ hk)) ⟨rfl, rfl⟩ fun x3 h2 hk =>
g_icmp_ge F dX2_step_37 (tgt := 126) rfl (fun hc => have hk := hk.1 hc
G.fewer [1] rfl <| G.widen (show cb + 0 ≤ ce by omega) (show kb + 0 ≤ ke by omega) <| hK126 l1 h2 hk) (fun hc => have hk := hk.2 hc
g_aload_n F dX2_step_40 rfl 0 rfl <|
g_getR F dX2_step_41 fo_X2_6_LockstepRoom_Room in_X2 fl_LockstepRoom_Room_55_X2 hk fun x5 hk =>
g_iload_n F dX2_step_44 rfl 3 rfl <|
g_callr0 (g_V F dX2_step_45 q1589 mi_J2_get ct_J2 (rm' := rmJ2_get) ⟨Nat.le_of_ble_eq_true rfl, Nat.le_of_ble_eq_true rfl⟩ ⟨show cb + 0 + 0 ≤ 4 by omega, show kb + 0 + 0 ≤ 40 by omega⟩ (As := [aI l3]) (rest := []) rfl rfl (Nat.le_of_ble_eq_true rfl) hk (fun a8 hk => m_J2_get F.ok a8 l3 h2 _ hk)) ⟨rfl, rfl⟩ fun x7 h6 hk =>
g_castS F dX2_step_48 q2432 ct_X9 hk fun hk =>
g_astore F dX2_step_51 (Nat.le_of_ble_eq_true rfl) rfl <|
g_aload F dX2_step_53 0 rfl <|
g_getI F dX2_step_55 fo_X9_0_LockstepRoom_Fault in_X9 fl_LockstepRoom_Room_141_X9 hk fun x9 hk =>
g_aload_n F dX2_step_58 rfl 2 rfl <|
g_getI F dX2_step_59 fo_X10_0_LockstepRoom_Member in_X10 fl_LockstepRoom_Room_143_X10 hk fun x10 hk =>
g_icmp_ne F dX2_step_62 (tgt := 120) rfl (fun hc => have hk := hk.2 hc
g_iinc (v := (l3 + (1:Int32))) F dX2_step_120 (j := 4) rfl (iinc_1 l3) (Nat.le_of_ble_eq_true rfl) rfl <|
g_goto F dX2_step_123 (tgt := 29) rfl <|
G.fewer [2, 3, 4, 0] rfl <| (fun l1 l2 l3 h hk => ih l1 l2 l3 h (cb + 0) (kb + 0) (by omega) (by omega) hk) l1 l2 (l3 + (1:Int32)) h6 hk) (fun hc => have hk := hk.1 hc
g_aload F dX2_step_65 0 rfl <|
g_getI F dX2_step_67 fo_X9_1_LockstepRoom_Fault in_X9 fl_LockstepRoom_Room_146_X9 hk fun x11 hk =>
g_iload_n F dX2_step_70 rfl 3 rfl <|
g_icmp_ne F dX2_step_71 (tgt := 120) rfl (fun hc => have hk := hk.2 hc
g_iinc (v := (l3 + (1:Int32))) F dX2_step_120 (j := 4) rfl (iinc_1 l3) (Nat.le_of_ble_eq_true rfl) rfl <|
g_goto F dX2_step_123 (tgt := 29) rfl <|
G.fewer [2, 3, 4, 0] rfl <| (fun l1 l2 l3 h hk => ih l1 l2 l3 h (cb + 0) (kb + 0) (by omega) (by omega) hk) l1 l2 (l3 + (1:Int32)) h6 hk) (fun hc => have hk := hk.1 hc
g_aload_n F dX2_step_74 rfl 2 rfl <|
g_getR F dX2_step_75 fo_X10_3_LockstepRoom_Member in_X10 fl_LockstepRoom_Room_134_X10 hk fun x12 hk =>
g_aload F dX2_step_78 0 rfl <|
g_getI F dX2_step_80 fo_X9_2_LockstepRoom_Fault in_X9 fl_LockstepRoom_Room_149_X9 hk fun x13 hk =>
g_aload_n F dX2_step_83 rfl 2 rfl <|
g_getR F dX2_step_84 fo_X10_3_LockstepRoom_Member in_X10 fl_LockstepRoom_Room_134_X10 hk fun x14 hk =>
g_aload F dX2_step_87 0 rfl <|
g_getI F dX2_step_89 fo_X9_2_LockstepRoom_Fault in_X9 fl_LockstepRoom_Room_149_X9 hk fun x15 hk =>
g_iald F dX2_step_92 hk fun x16 hk =>
g_aload F dX2_step_93 0 rfl <|
g_getI F dX2_step_95 fo_X9_3_LockstepRoom_Fault in_X9 fl_LockstepRoom_Room_152_X9 hk fun x17 hk =>
g_iadd F dX2_step_98 <|
g_sipush F dX2_step_99 sp_10000 <|
g_irem F dX2_step_102 nz_10000_Int32 <|
g_iast F dX2_step_103 hk fun h18 hk =>
g_aload_n F dX2_step_104 rfl 1 rfl <|
g_getR F dX2_step_105 fo_X2_6_LockstepRoom_Room in_X2 fl_LockstepRoom_Room_55_X2 hk fun x19 hk =>
g_iload_n F dX2_step_108 rfl 4 rfl <|
g_callr0 (g_V F dX2_step_109 q2462 mi_J2_remove ct_J2 (rm' := rmJ2_remove) ⟨Nat.le_of_ble_eq_true rfl, Nat.le_of_ble_eq_true rfl⟩ ⟨show cb + 0 + 0 ≤ 4 by omega, show kb + 0 + 0 ≤ 40 by omega⟩ (As := [aI l3]) (rest := []) rfl rfl (Nat.le_of_ble_eq_true rfl) hk (fun a22 hk => m_J2_remove F.ok a22 l3 h18 _ hk)) ⟨rfl, rfl⟩ fun x21 h20 hk =>
g_castS F dX2_step_112 q2432 ct_X9 hk fun hk =>
g_astore F dX2_step_115 (Nat.le_of_ble_eq_true rfl) rfl <|
g_goto F dX2_step_117 (tgt := 123) rfl <|
g_goto F dX2_step_123 (tgt := 29) rfl <|
G.fewer [2, 3, 4, 5] rfl <| (fun l1 l2 l3 h hk => ih l1 l2 l3 h (cb + 0) (kb + 0) (by omega) (by omega) hk) l1 l2 l3 h20 hk)))
theorem m_X2_step {S : Sx} (hS0 : Sok S) (v0 : Nat) (v1 : Option Nat) (h : hH) (Q : hH → Prop) (hk : f_X2_step S.E v0 v1 h Q) : Ct S yX2_step (ws_ yX2_step cX2_step 6 none) rmX2_step ([aR (some v0), aR v1].map vv) h (qV Q) := by
  refine Ct.of hS0 (by decide +kernel) rfl (Nat.le_of_ble_eq_true rfl) fun x hxS F hnm => ?_
  subst hxS
  unfold f_X2_step at hk
  have hM : 0 + 4 ≤ 4 := by omega
  have hS : 0 + 40 ≤ 40 := by omega
  refine G.widen (c' := 0 + 0) (k' := 0 + 0) (Nat.le_refl 0) (Nat.le_refl 0) ?_
  exact g_aload_n F dX2_step_0 rfl 1 rfl <|
g_getI F dX2_step_1 fo_X10_4_LockstepRoom_Member in_X10 fl_LockstepRoom_Room_122_X10 hk fun x23 hk =>
g_istore_n F dX2_step_4 rfl (Nat.le_of_ble_eq_true rfl) rfl <|
g_aload_n F dX2_step_5 rfl 1 rfl <|
g_getR F dX2_step_6 fo_X2_0_LockstepRoom_Room in_X2 fl_LockstepRoom_Room_12_X2 hk fun x24 hk =>
g_aload_n F dX2_step_9 rfl 1 rfl <|
g_getR F dX2_step_10 fo_X2_4_LockstepRoom_Room in_X2 fl_LockstepRoom_Room_40_X2 hk fun x25 hk =>
g_iload_n F dX2_step_13 rfl 0 rfl <|
g_callr0 (g_V F dX2_step_14 q1589 mi_J2_get ct_J2 (rm' := rmJ2_get) ⟨Nat.le_of_ble_eq_true rfl, Nat.le_of_ble_eq_true rfl⟩ ⟨show 0 + 0 + 0 ≤ 4 by omega, show 0 + 0 + 0 ≤ 40 by omega⟩ (As := [aI x23]) (rest := [aR x24]) rfl rfl (Nat.le_of_ble_eq_true rfl) hk (fun a28 hk => m_J2_get F.ok a28 x23 h _ hk)) ⟨rfl, rfl⟩ fun x27 h26 hk =>
g_castA (t := 5) F dX2_step_17 q1989 F.arr5 hk fun hk =>
g_aload_n F dX2_step_20 rfl 2 rfl <|
g_getR F dX2_step_21 fo_X10_3_LockstepRoom_Member in_X10 fl_LockstepRoom_Room_134_X10 hk fun x29 hk =>
g_callv0 (g_V F dX2_step_24 q1990 mi_X3_execute ct_X3 (rm' := rmX3_execute) ⟨Nat.le_of_ble_eq_true rfl, Nat.le_of_ble_eq_true rfl⟩ ⟨show 0 + 0 + 0 ≤ 4 by omega, show 0 + 0 + 0 ≤ 40 by omega⟩ (As := [aR x27, aR x29]) (rest := []) rfl rfl (Nat.le_of_ble_eq_true rfl) hk (fun a31 hk => m_X3_execute F.ok a31 x27 x29 h26 _ hk)) ⟨rfl, rfl⟩ fun h30 hk =>
g_iconst F dX2_step_27 ic_0 <|
g_istore_n F dX2_step_28 rfl (Nat.le_of_ble_eq_true rfl) rfl <|
G.fewer [2, 3, 1, 0] rfl <| s_X2_step_l29 F (ce := 0 + 0) (ke := 0 + 0) (show 0 + 0 ≤ 4 by omega) (show 0 + 0 ≤ 40 by omega) 1000000 v1 x23 (0:Int32) h30 (0 + 0) (0 + 0) (show 0 + 0 + 1000000 * 0 ≤ 0 + 0 by omega) (show 0 + 0 + 1000000 * 0 ≤ 0 + 0 by omega) hk ((fun l1 h hk => g_aload_n F dX2_step_126 rfl 0 rfl <|
g_dup F dX2_step_127 rfl <|
g_getI F dX2_step_128 fo_X10_4_LockstepRoom_Member in_X10 fl_LockstepRoom_Room_122_X10 hk fun x32 hk =>
g_iconst F dX2_step_131 ic_1 <|
g_iadd F dX2_step_132 <|
g_putV F dX2_step_133 fo_X10_4_LockstepRoom_Member ck_X10 fl_LockstepRoom_Room_122_X10 rfl (v := aI (x32 + (1:Int32))) (fit_i (x32 + (1:Int32))) hk fun h33 hk =>
g_aload_n F dX2_step_136 rfl 0 rfl <|
g_callv (g_V F dX2_step_137 q1449 mi_X10_note ct_X10 (rm' := rmX10_note) ⟨Nat.le_of_ble_eq_true rfl, Nat.le_of_ble_eq_true rfl⟩ ⟨show 0 + 0 + 4 ≤ 4 by omega, show 0 + 0 + 40 ≤ 40 by omega⟩ (As := []) (rest := []) rfl rfl (Nat.le_of_ble_eq_true rfl) hk (fun a35 hk => m_X10_note F.ok a35 h33 _ hk)) fun h34 hk =>
g_vret F dX2_step_140 (show 0 + 0 + 4 ≤ 4 by omega) (show 0 + 0 + 40 ≤ 40 by omega) hk))
abbrev rmX2_run : Room := { frames := 11, cells := 164, slots := 1640, locals := 244 }
theorem s_X2_run_l2 {x : Cx} (F : Fx x cX2_run "LockstepRoom$Room" 4 (some .int) rmX2_run) {v0 : Nat} {Q : Int32 → hH → Prop} {K18 : Int32 → hH → Prop} {ce ke : Nat} (hM2 : ce ≤ 164) (hS2 : ke ≤ 1640) (n : Nat) (l1 : Option Nat) (l2 : Int32) (l3 : Int32) (h : hH) (cb kb : Nat) (hM0 : cb + n * 4 ≤ ce) (hS0 : kb + n * 40 ≤ ke) (hk : f_X2_run_l2 x.S.E v0 Q K18 n l1 l2 l3 h) (hK18 : ∀ (l2 : Int32) (h : hH), K18 l2 h → G x (xQ x rmX2_run (qI Q)) 18 [(2, aI l2)] [] h ce ke) : G x (xQ x rmX2_run (qI Q)) 2 [(0, aR (some v0)), (1, aR l1), (2, aI l2), (3, aI l3)] [] h cb kb := by
  induction n generalizing l1 l2 l3 h cb kb with
  | zero => exact False.elim hk
  | succ n ih =>
    have hM : cb + 4 ≤ ce := by omega
    have hS : kb + 40 ≤ ke := by omega
    unfold f_X2_run_l2 at hk
    exact G.widen (c' := cb + 0) (k' := kb + 0) (Nat.le_refl _) (Nat.le_refl _) <| g_iload_n F dX2_run_2 rfl 3 rfl <|
g_iload_n F dX2_run_3 rfl 2 rfl <|
g_icmp_ge F dX2_run_4 (tgt := 18) rfl (fun hc => have hk := hk.1 hc
G.fewer [2] rfl <| G.widen (show cb + 0 ≤ ce by omega) (show kb + 0 ≤ ke by omega) <| hK18 l2 h hk) (fun hc => have hk := hk.2 hc
g_aload_n F dX2_run_7 rfl 0 rfl <|
g_aload_n F dX2_run_8 rfl 1 rfl <|
g_callv (g_V F dX2_run_9 q2458 mi_X2_step ct_X2 (rm' := rmX2_step) ⟨Nat.le_of_ble_eq_true rfl, Nat.le_of_ble_eq_true rfl⟩ ⟨show cb + 0 + 4 ≤ 164 by omega, show kb + 0 + 40 ≤ 1640 by omega⟩ (As := [aR l1]) (rest := []) rfl rfl (Nat.le_of_ble_eq_true rfl) hk (fun a2 hk => m_X2_step F.ok a2 l1 h _ hk)) fun h1 hk =>
g_iinc (v := (l3 + (1:Int32))) F dX2_run_12 (j := 3) rfl (iinc_1 l3) (Nat.le_of_ble_eq_true rfl) rfl <|
g_goto F dX2_run_15 (tgt := 2) rfl <|
G.fewer [1, 2, 3, 0] rfl <| G.widen (show cb + 0 + 4 ≤ cb + 4 by omega) (show kb + 0 + 40 ≤ kb + 40 by omega) <| (fun l1 l2 l3 h hk => ih l1 l2 l3 h (cb + 4) (kb + 40) (by omega) (by omega) hk) l1 l2 (l3 + (1:Int32)) h1 hk)
theorem m_X2_run {S : Sx} (hS0 : Sok S) (v0 : Nat) (v1 : Option Nat) (v2 : Int32) (h : hH) (Q : Int32 → hH → Prop) (hk : f_X2_run S.E v0 v1 v2 h Q) : Ct S yX2_run (ws_ yX2_run cX2_run 4 (some .int)) rmX2_run ([aR (some v0), aR v1, aI v2].map vv) h (qI Q) := by
  refine Ct.of hS0 (by decide +kernel) rfl (Nat.le_of_ble_eq_true rfl) fun x hxS F hnm => ?_
  subst hxS
  unfold f_X2_run at hk
  have hM : 0 + 164 ≤ 164 := by omega
  have hS : 0 + 1640 ≤ 1640 := by omega
  refine G.widen (c' := 0 + 0) (k' := 0 + 0) (Nat.le_refl 0) (Nat.le_refl 0) ?_
  exact g_iconst F dX2_run_0 ic_0 <|
g_istore_n F dX2_run_1 rfl (Nat.le_of_ble_eq_true rfl) rfl <|
G.fewer [1, 2, 3, 0] rfl <| s_X2_run_l2 F (ce := 0 + 164) (ke := 0 + 1640) (show 0 + 164 ≤ 164 by omega) (show 0 + 1640 ≤ 1640 by omega) 41 v1 v2 (0:Int32) h (0 + 0) (0 + 0) (show 0 + 0 + 41 * 4 ≤ 0 + 164 by omega) (show 0 + 0 + 41 * 40 ≤ 0 + 1640 by omega) hk ((fun l2 h hk => g_iload_n F dX2_run_18 rfl 0 rfl <|
g_iret F dX2_run_19 (show 0 + 164 ≤ 164 by omega) (show 0 + 1640 ≤ 1640 by omega) hk))
abbrev rmX2_donorAt : Room := { frames := 10, cells := 68, slots := 1437, locals := 222 }
theorem s_X2_donorAt_l27 {x : Cx} (F : Fx x cX2_donorAt "LockstepRoom$Room" 7 (some .int) rmX2_donorAt) {v0 : Nat} {Q : Int32 → hH → Prop} {K107 : Option Nat → hH → Prop} {ce ke : Nat} (hM2 : ce ≤ 68) (hS2 : ke ≤ 1437) (n : Nat) (l1 : Int32) (l2 : Int32) (l3 : Int32) (l4 : Option Nat) (l5 : Int32) (h : hH) (cb kb : Nat) (hM0 : cb + n * 2 ≤ ce) (hS0 : kb + n * 2 ≤ ke) (hk : f_X2_donorAt_l27 x.S.E v0 Q K107 n l1 l2 l3 l4 l5 h) (hK107 : ∀ (l4 : Option Nat) (h : hH), K107 l4 h → G x (xQ x rmX2_donorAt (qI Q)) 107 [(4, aR l4)] [] h ce ke) : G x (xQ x rmX2_donorAt (qI Q)) 27 [(0, aR (some v0)), (1, aI l1), (2, aI l2), (3, aI l3), (4, aR l4), (5, aI l5)] [] h cb kb := by
  induction n generalizing l1 l2 l3 l4 l5 h cb kb with
  | zero => exact False.elim hk
  | succ n ih =>
    have hM : cb + 2 ≤ ce := by omega
    have hS : kb + 2 ≤ ke := by omega
    unfold f_X2_donorAt_l27 at hk
    exact G.widen (c' := cb + 0) (k' := kb + 0) (Nat.le_refl _) (Nat.le_refl _) <| g_iload F dX2_donorAt_27 5 rfl <|
g_aload_n F dX2_donorAt_29 rfl 0 rfl <|
g_getR F dX2_donorAt_30 fo_X2_3_LockstepRoom_Room in_X2 fl_LockstepRoom_Room_36_X2 hk fun x1 hk =>
g_calli0 (g_V F dX2_donorAt_33 q1316 mi_J2_size ct_J2 (rm' := rmJ2_size) ⟨Nat.le_of_ble_eq_true rfl, Nat.le_of_ble_eq_true rfl⟩ ⟨show cb + 0 + 0 ≤ 68 by omega, show kb + 0 + 0 ≤ 1437 by omega⟩ (As := []) (rest := [aI l5]) rfl rfl (Nat.le_of_ble_eq_true rfl) hk (fun a4 hk => m_J2_size F.ok a4 h _ hk)) ⟨rfl, rfl⟩ fun x3 h2 hk =>
g_icmp_ge F dX2_donorAt_36 (tgt := 107) rfl (fun hc => have hk := hk.1 hc
G.fewer [4] rfl <| G.widen (show cb + 0 ≤ ce by omega) (show kb + 0 ≤ ke by omega) <| hK107 l4 h2 hk) (fun hc => have hk := hk.2 hc
g_iload_n F dX2_donorAt_39 rfl 3 rfl <|
g_iconst F dX2_donorAt_40 ic_m1 <|
g_icmp_eq F dX2_donorAt_41 (tgt := 107) rfl (fun hc => have hk := hk.1 hc
G.fewer [4] rfl <| G.widen (show cb + 0 ≤ ce by omega) (show kb + 0 ≤ ke by omega) <| hK107 l4 h2 hk) (fun hc => have hk := hk.2 hc
g_aload_n F dX2_donorAt_44 rfl 0 rfl <|
g_iload F dX2_donorAt_45 5 rfl <|
g_callr0 (g_V F dX2_donorAt_47 q1651 mi_X2_member ct_X2 (rm' := rmX2_member) ⟨Nat.le_of_ble_eq_true rfl, Nat.le_of_ble_eq_true rfl⟩ ⟨show cb + 0 + 0 ≤ 68 by omega, show kb + 0 + 0 ≤ 1437 by omega⟩ (As := [aI l5]) (rest := []) rfl rfl (Nat.le_of_ble_eq_true rfl) hk (fun a7 hk => m_X2_member F.ok a7 l5 h2 _ hk)) ⟨rfl, rfl⟩ fun x6 h5 hk =>
g_astore F dX2_donorAt_50 (Nat.le_of_ble_eq_true rfl) rfl <|
g_iload F dX2_donorAt_52 6 rfl <|
g_iload_n F dX2_donorAt_54 rfl 3 rfl <|
g_icmp_eq F dX2_donorAt_55 (tgt := 101) rfl (fun hc => have hk := hk.1 hc
g_iinc (v := (l5 + (1:Int32))) F dX2_donorAt_101 (j := 6) rfl (iinc_1 l5) (Nat.le_of_ble_eq_true rfl) rfl <|
g_goto F dX2_donorAt_104 (tgt := 27) rfl <|
G.fewer [2, 3, 4, 5, 6, 0] rfl <| G.widen (show cb + 0 ≤ cb + 2 by omega) (show kb + 0 ≤ kb + 2 by omega) <| (fun l1 l2 l3 l4 l5 h hk => ih l1 l2 l3 l4 l5 h (cb + 2) (kb + 2) (by omega) (by omega) hk) l1 l2 l3 l4 (l5 + (1:Int32)) h5 hk) (fun hc => have hk := hk.2 hc
g_aload F dX2_donorAt_58 0 rfl <|
g_getI F dX2_donorAt_60 fo_X10_5_LockstepRoom_Member in_X10 fl_LockstepRoom_Room_118_X10 hk fun x8 hk =>
g_if_eq F dX2_donorAt_63 (tgt := 101) rfl (fun hc => have hk := hk.1 hc
g_iinc (v := (l5 + (1:Int32))) F dX2_donorAt_101 (j := 6) rfl (iinc_1 l5) (Nat.le_of_ble_eq_true rfl) rfl <|
g_goto F dX2_donorAt_104 (tgt := 27) rfl <|
G.fewer [2, 3, 4, 5, 6, 0] rfl <| G.widen (show cb + 0 ≤ cb + 2 by omega) (show kb + 0 ≤ kb + 2 by omega) <| (fun l1 l2 l3 l4 l5 h hk => ih l1 l2 l3 l4 l5 h (cb + 2) (kb + 2) (by omega) (by omega) hk) l1 l2 l3 l4 (l5 + (1:Int32)) h5 hk) (fun hc => have hk := hk.2 hc
g_aload F dX2_donorAt_66 0 rfl <|
g_getI F dX2_donorAt_68 fo_X10_4_LockstepRoom_Member in_X10 fl_LockstepRoom_Room_122_X10 hk fun x9 hk =>
g_iload_n F dX2_donorAt_71 rfl 2 rfl <|
g_icmp_ne F dX2_donorAt_72 (tgt := 101) rfl (fun hc => have hk := hk.2 hc
g_iinc (v := (l5 + (1:Int32))) F dX2_donorAt_101 (j := 6) rfl (iinc_1 l5) (Nat.le_of_ble_eq_true rfl) rfl <|
g_goto F dX2_donorAt_104 (tgt := 27) rfl <|
G.fewer [2, 3, 4, 5, 6, 0] rfl <| G.widen (show cb + 0 ≤ cb + 2 by omega) (show kb + 0 ≤ kb + 2 by omega) <| (fun l1 l2 l3 l4 l5 h hk => ih l1 l2 l3 l4 l5 h (cb + 2) (kb + 2) (by omega) (by omega) hk) l1 l2 l3 l4 (l5 + (1:Int32)) h5 hk) (fun hc => have hk := hk.1 hc
g_aload F dX2_donorAt_75 0 rfl <|
g_iload_n F dX2_donorAt_77 rfl 2 rfl <|
g_calli (g_V F dX2_donorAt_78 q1652 mi_X10_rootAt ct_X10 (rm' := rmX10_rootAt) ⟨Nat.le_of_ble_eq_true rfl, Nat.le_of_ble_eq_true rfl⟩ ⟨show cb + 0 + 1 ≤ 68 by omega, show kb + 0 + 1 ≤ 1437 by omega⟩ (As := [aI l1]) (rest := []) rfl rfl (Nat.le_of_ble_eq_true rfl) hk (fun a12 hk => m_X10_rootAt F.ok a12 l1 h5 _ hk)) fun x11 h10 hk =>
g_aload_n F dX2_donorAt_81 rfl 1 rfl <|
g_iload_n F dX2_donorAt_82 rfl 4 rfl <|
g_callr0 (g_V F dX2_donorAt_83 q1651 mi_X2_member ct_X2 (rm' := rmX2_member) ⟨Nat.le_of_ble_eq_true rfl, Nat.le_of_ble_eq_true rfl⟩ ⟨show cb + 0 + 1 + 0 ≤ 68 by omega, show kb + 0 + 1 + 0 ≤ 1437 by omega⟩ (As := [aI l3]) (rest := [aI x11]) rfl rfl (Nat.le_of_ble_eq_true rfl) hk (fun a15 hk => m_X2_member F.ok a15 l3 h10 _ hk)) ⟨rfl, rfl⟩ fun x14 h13 hk =>
g_iload_n F dX2_donorAt_86 rfl 2 rfl <|
g_calli (g_V F dX2_donorAt_87 q1652 mi_X10_rootAt ct_X10 (rm' := rmX10_rootAt) ⟨Nat.le_of_ble_eq_true rfl, Nat.le_of_ble_eq_true rfl⟩ ⟨show cb + 0 + 1 + 1 ≤ 68 by omega, show kb + 0 + 1 + 1 ≤ 1437 by omega⟩ (As := [aI l1]) (rest := [aI x11]) rfl rfl (Nat.le_of_ble_eq_true rfl) hk (fun a18 hk => m_X10_rootAt F.ok a18 l1 h13 _ hk)) fun x17 h16 hk =>
g_icmp_ne F dX2_donorAt_90 (tgt := 101) rfl (fun hc => have hk := hk.2 hc
g_iinc (v := (l5 + (1:Int32))) F dX2_donorAt_101 (j := 6) rfl (iinc_1 l5) (Nat.le_of_ble_eq_true rfl) rfl <|
g_goto F dX2_donorAt_104 (tgt := 27) rfl <|
G.fewer [2, 3, 4, 5, 6, 0] rfl <| G.widen (show cb + 0 + 1 + 1 ≤ cb + 2 by omega) (show kb + 0 + 1 + 1 ≤ kb + 2 by omega) <| (fun l1 l2 l3 l4 l5 h hk => ih l1 l2 l3 l4 l5 h (cb + 2) (kb + 2) (by omega) (by omega) hk) l1 l2 l3 l4 (l5 + (1:Int32)) h16 hk) (fun hc => have hk := hk.1 hc
g_aload F dX2_donorAt_93 5 rfl <|
g_aload F dX2_donorAt_95 0 rfl <|
g_calli0 (g_V F dX2_donorAt_97 q1030 mi_J4_add ct_J4 (rm' := rmJ4_add) ⟨Nat.le_of_ble_eq_true rfl, Nat.le_of_ble_eq_true rfl⟩ ⟨show cb + 0 + 1 + 1 + 0 ≤ 68 by omega, show kb + 0 + 1 + 1 + 0 ≤ 1437 by omega⟩ (As := [aR x6]) (rest := []) rfl rfl (Nat.le_of_ble_eq_true rfl) hk (fun a21 hk => m_J4_add F.ok a21 x6 h16 _ hk)) ⟨rfl, rfl⟩ fun x20 h19 hk =>
g_pop F dX2_donorAt_100 rfl <|
g_iinc (v := (l5 + (1:Int32))) F dX2_donorAt_101 (j := 6) rfl (iinc_1 l5) (Nat.le_of_ble_eq_true rfl) rfl <|
g_goto F dX2_donorAt_104 (tgt := 27) rfl <|
G.fewer [2, 3, 4, 5, 6, 0] rfl <| G.widen (show cb + 0 + 1 + 1 ≤ cb + 2 by omega) (show kb + 0 + 1 + 1 ≤ kb + 2 by omega) <| (fun l1 l2 l3 l4 l5 h hk => ih l1 l2 l3 l4 l5 h (cb + 2) (kb + 2) (by omega) (by omega) hk) l1 l2 l3 l4 (l5 + (1:Int32)) h19 hk))))))
theorem s_X2_donorAt_j107 {x : Cx} (F : Fx x cX2_donorAt "LockstepRoom$Room" 7 (some .int) rmX2_donorAt) {v0 : Nat} {Q : Int32 → hH → Prop} {cb kb : Nat} (hM : cb + 68 ≤ 68) (hS : kb + 1437 ≤ 1437) (l4 : Option Nat) (h : hH) (hk : f_X2_donorAt_j107 x.S.E v0 Q l4 h) : G x (xQ x rmX2_donorAt (qI Q)) 107 [(4, aR l4)] [] h (cb + 68) (kb + 1437) := by
  unfold f_X2_donorAt_j107 at hk
  exact g_aload F dX2_donorAt_107 0 rfl <|
g_callr0 (g_V F dX2_donorAt_109 q1305 mi_J4_poll ct_J4 (rm' := rmJ4_poll) ⟨Nat.le_of_ble_eq_true rfl, Nat.le_of_ble_eq_true rfl⟩ ⟨show cb + 68 + 0 ≤ 68 by omega, show kb + 1437 + 0 ≤ 1437 by omega⟩ (As := []) (rest := []) rfl rfl (Nat.le_of_ble_eq_true rfl) hk (fun a24 hk => m_J4_poll F.ok a24 h _ hk)) ⟨rfl, rfl⟩ fun x23 h22 hk =>
g_castS F dX2_donorAt_112 q1360 ct_X10 hk fun hk =>
g_astore F dX2_donorAt_115 (Nat.le_of_ble_eq_true rfl) rfl <|
g_aload F dX2_donorAt_117 0 rfl <|
g_ifnonnull F dX2_donorAt_119 (tgt := 126) rfl (fun hc => have hk := hk.2 hc
g_aload F dX2_donorAt_126 0 rfl <|
g_getI F dX2_donorAt_128 fo_X10_0_LockstepRoom_Member in_X10 fl_LockstepRoom_Room_143_X10 hk fun x25 hk =>
g_iret F dX2_donorAt_131 (show cb + 68 ≤ 68 by omega) (show kb + 1437 ≤ 1437 by omega) hk) (fun hc => have hk := hk.1 hc
g_iconst F dX2_donorAt_122 ic_m1 <|
g_goto F dX2_donorAt_123 (tgt := 131) rfl <|
g_iret F dX2_donorAt_131 (show cb + 68 ≤ 68 by omega) (show kb + 1437 ≤ 1437 by omega) hk)
theorem m_X2_donorAt {S : Sx} (hS0 : Sok S) (v0 : Nat) (v1 : Int32) (v2 : Int32) (h : hH) (Q : Int32 → hH → Prop) (hk : f_X2_donorAt S.E v0 v1 v2 h Q) : Ct S yX2_donorAt (ws_ yX2_donorAt cX2_donorAt 7 (some .int)) rmX2_donorAt ([aR (some v0), aI v1, aI v2].map vv) h (qI Q) := by
  refine Ct.of hS0 (by decide +kernel) rfl (Nat.le_of_ble_eq_true rfl) fun x hxS F hnm => ?_
  subst hxS
  unfold f_X2_donorAt at hk
  have hM : 0 + 68 ≤ 68 := by omega
  have hS : 0 + 1437 ≤ 1437 := by omega
  refine G.widen (c' := 0 + 0) (k' := 0 + 0) (Nat.le_refl 0) (Nat.le_refl 0) ?_
  exact g_aload_n F dX2_donorAt_0 rfl 0 rfl <|
g_iload_n F dX2_donorAt_1 rfl 1 rfl <|
g_calli (g_V F dX2_donorAt_2 q1959 mi_X2_winner ct_X2 (rm' := rmX2_winner) ⟨Nat.le_of_ble_eq_true rfl, Nat.le_of_ble_eq_true rfl⟩ ⟨show 0 + 0 + 51 ≤ 68 by omega, show 0 + 0 + 1411 ≤ 1437 by omega⟩ (As := [aI v1]) (rest := []) rfl rfl (Nat.le_of_ble_eq_true rfl) hk (fun a28 hk => m_X2_winner F.ok a28 v1 h _ hk)) fun x27 h26 hk =>
g_istore_n F dX2_donorAt_5 rfl (Nat.le_of_ble_eq_true rfl) rfl <|
g_new (fs := [va_rf none, .int 0, va_rf none, .int 0]) F dX2_donorAt_6 ck_J4 ct_J4 q257 q258 q118 df_J4 (show 0 + 0 + 51 + 1 ≤ 68 by omega) (show 0 + 0 + 1411 + 4 ≤ 1437 by omega) hk fun q29 h30 hk =>
g_dup F dX2_donorAt_9 rfl <|
g_bipush F dX2_donorAt_10 bp_6 <|
g_new (fs := []) F dX2_donorAt_12 ck_X17 ct_X17 q2497 q2498 q166 df_X17 (show 0 + 0 + 51 + 1 + 1 ≤ 68 by omega) (show 0 + 0 + 1411 + 4 + 0 ≤ 1437 by omega) hk fun q31 h32 hk =>
g_dup F dX2_donorAt_15 rfl <|
g_callv0 (g_IN F dX2_donorAt_16 q2499 mc_X17_init (rm' := rmX17_init) ⟨Nat.le_of_ble_eq_true rfl, Nat.le_of_ble_eq_true rfl⟩ ⟨show 0 + 0 + 51 + 1 + 1 + 0 ≤ 68 by omega, show 0 + 0 + 1411 + 4 + 0 + 0 ≤ 1437 by omega⟩ (As := []) (rest := [aR (some q31), aI (6:Int32), aR (some q29), aR (some q29)]) rfl rfl (Nat.le_of_ble_eq_true rfl) (m_X17_init F.ok q31 h32 _ hk)) ⟨rfl, rfl⟩ fun h33 hk =>
g_callv (g_I F dX2_donorAt_19 q266 mc_J4_init (rm' := rmJ4_init) ⟨Nat.le_of_ble_eq_true rfl, Nat.le_of_ble_eq_true rfl⟩ ⟨show 0 + 0 + 51 + 1 + 1 + 1 ≤ 68 by omega, show 0 + 0 + 1411 + 4 + 0 + 8 ≤ 1437 by omega⟩ (As := [aI (6:Int32), aR (some q31)]) (rest := [aR (some q29)]) rfl rfl (Nat.le_of_ble_eq_true rfl) (m_J4_init F.ok q29 (6:Int32) (some q31) h33 _ hk)) fun h34 hk =>
g_astore F dX2_donorAt_22 (Nat.le_of_ble_eq_true rfl) rfl <|
g_iconst F dX2_donorAt_24 ic_0 <|
g_istore F dX2_donorAt_25 (Nat.le_of_ble_eq_true rfl) rfl <|
G.fewer [3, 4, 5, 2, 1, 0] rfl <| G.widen (show 0 + 0 + 51 + 1 + 1 + 1 ≤ 0 + 54 by omega) (show 0 + 0 + 1411 + 4 + 0 + 8 ≤ 0 + 1423 by omega) <| s_X2_donorAt_l27 F (ce := 0 + 68) (ke := 0 + 1437) (show 0 + 68 ≤ 68 by omega) (show 0 + 1437 ≤ 1437 by omega) 7 v1 v2 x27 (some q29) (0:Int32) h34 (0 + 54) (0 + 1423) (show 0 + 54 + 7 * 2 ≤ 0 + 68 by omega) (show 0 + 1423 + 7 * 2 ≤ 0 + 1437 by omega) hk ((fun l4 h hk => s_X2_donorAt_j107 F hM hS l4 h hk ))
abbrev rmX2_whyNot : Room := { frames := 11, cells := 172, slots := 4261, locals := 248 }
theorem m_X2_whyNot {S : Sx} (hS0 : Sok S) (v0 : Nat) (v1 : Option Nat) (h : hH) (Q : Int32 → hH → Prop) (hk : f_X2_whyNot S.E v0 v1 h Q) : Ct S yX2_whyNot (ws_ yX2_whyNot cX2_whyNot 2 (some .int)) rmX2_whyNot ([aR (some v0), aR v1].map vv) h (qI Q) := by
  refine Ct.of hS0 (by decide +kernel) rfl (Nat.le_of_ble_eq_true rfl) fun x hxS F hnm => ?_
  subst hxS
  unfold f_X2_whyNot at hk
  have hM : 0 + 172 ≤ 172 := by omega
  have hS : 0 + 4261 ≤ 4261 := by omega
  refine G.widen (c' := 0 + 0) (k' := 0 + 0) (Nat.le_refl 0) (Nat.le_refl 0) ?_
  exact g_aload_n F dX2_whyNot_0 rfl 1 rfl <|
g_getI F dX2_whyNot_1 fo_X10_5_LockstepRoom_Member in_X10 fl_LockstepRoom_Room_118_X10 hk fun x1 hk =>
g_if_ne F dX2_whyNot_4 (tgt := 9) rfl (fun hc => have hk := hk.2 hc
g_aload_n F dX2_whyNot_9 rfl 0 rfl <|
g_aload_n F dX2_whyNot_10 rfl 1 rfl <|
g_getI F dX2_whyNot_11 fo_X10_4_LockstepRoom_Member in_X10 fl_LockstepRoom_Room_122_X10 hk fun x2 hk =>
g_calli (g_V F dX2_whyNot_14 q1959 mi_X2_winner ct_X2 (rm' := rmX2_winner) ⟨Nat.le_of_ble_eq_true rfl, Nat.le_of_ble_eq_true rfl⟩ ⟨show 0 + 0 + 51 ≤ 172 by omega, show 0 + 0 + 1411 ≤ 4261 by omega⟩ (As := [aI x2]) (rest := []) rfl rfl (Nat.le_of_ble_eq_true rfl) hk (fun a5 hk => m_X2_winner F.ok a5 x2 h _ hk)) fun x4 h3 hk =>
g_iconst F dX2_whyNot_17 ic_m1 <|
g_icmp_ne F dX2_whyNot_18 (tgt := 23) rfl (fun hc => have hk := hk.2 hc
g_aload_n F dX2_whyNot_23 rfl 0 rfl <|
g_aload_n F dX2_whyNot_24 rfl 1 rfl <|
g_calli (g_V F dX2_whyNot_25 q2492 mi_X2_isWrong ct_X2 (rm' := rmX2_isWrong) ⟨Nat.le_of_ble_eq_true rfl, Nat.le_of_ble_eq_true rfl⟩ ⟨show 0 + 0 + 51 + 53 ≤ 172 by omega, show 0 + 0 + 1411 + 1413 ≤ 4261 by omega⟩ (As := [aR v1]) (rest := []) rfl rfl (Nat.le_of_ble_eq_true rfl) hk (fun a8 hk => m_X2_isWrong F.ok a8 v1 h3 _ hk)) fun x7 h6 hk =>
g_if_ne F dX2_whyNot_28 (tgt := 35) rfl (fun hc => have hk := hk.2 hc
g_aload_n F dX2_whyNot_35 rfl 0 rfl <|
g_aload_n F dX2_whyNot_36 rfl 1 rfl <|
g_getI F dX2_whyNot_37 fo_X10_4_LockstepRoom_Member in_X10 fl_LockstepRoom_Room_122_X10 hk fun x9 hk =>
g_aload_n F dX2_whyNot_40 rfl 1 rfl <|
g_getI F dX2_whyNot_41 fo_X10_0_LockstepRoom_Member in_X10 fl_LockstepRoom_Room_143_X10 hk fun x10 hk =>
g_calli (g_V F dX2_whyNot_44 q2493 mi_X2_donorAt ct_X2 (rm' := rmX2_donorAt) ⟨Nat.le_of_ble_eq_true rfl, Nat.le_of_ble_eq_true rfl⟩ ⟨show 0 + 0 + 51 + 53 + 68 ≤ 172 by omega, show 0 + 0 + 1411 + 1413 + 1437 ≤ 4261 by omega⟩ (As := [aI x9, aI x10]) (rest := []) rfl rfl (Nat.le_of_ble_eq_true rfl) hk (fun a13 hk => m_X2_donorAt F.ok a13 x9 x10 h6 _ hk)) fun x12 h11 hk =>
g_iconst F dX2_whyNot_47 ic_m1 <|
g_icmp_ne F dX2_whyNot_48 (tgt := 55) rfl (fun hc => have hk := hk.2 hc
g_iconst F dX2_whyNot_55 ic_0 <|
g_iret F dX2_whyNot_56 (show 0 + 0 + 51 + 53 + 68 ≤ 172 by omega) (show 0 + 0 + 1411 + 1413 + 1437 ≤ 4261 by omega) hk) (fun hc => have hk := hk.1 hc
g_iconst F dX2_whyNot_51 ic_4 <|
g_goto F dX2_whyNot_52 (tgt := 56) rfl <|
g_iret F dX2_whyNot_56 (show 0 + 0 + 51 + 53 + 68 ≤ 172 by omega) (show 0 + 0 + 1411 + 1413 + 1437 ≤ 4261 by omega) hk)) (fun hc => have hk := hk.1 hc
g_iconst F dX2_whyNot_31 ic_3 <|
g_goto F dX2_whyNot_32 (tgt := 56) rfl <|
g_iret F dX2_whyNot_56 (show 0 + 0 + 51 + 53 ≤ 172 by omega) (show 0 + 0 + 1411 + 1413 ≤ 4261 by omega) hk)) (fun hc => have hk := hk.1 hc
g_iconst F dX2_whyNot_21 ic_2 <|
g_iret F dX2_whyNot_22 (show 0 + 0 + 51 ≤ 172 by omega) (show 0 + 0 + 1411 ≤ 4261 by omega) hk)) (fun hc => have hk := hk.1 hc
g_iconst F dX2_whyNot_7 ic_1 <|
g_iret F dX2_whyNot_8 (show 0 + 0 ≤ 172 by omega) (show 0 + 0 ≤ 4261 by omega) hk)
abbrev rmX2_heal : Room := { frames := 11, cells := 80, slots := 1569, locals := 248 }
theorem s_X2_heal_l39 {x : Cx} (F : Fx x cX2_heal "LockstepRoom$Room" 6 (some .int) rmX2_heal) {v0 : Nat} {Q : Int32 → hH → Prop} {K87 : Option Nat → Option Nat → Int32 → hH → Prop} {ce ke : Nat} (hM2 : ce ≤ 80) (hS2 : ke ≤ 1569) (n : Nat) (l1 : Option Nat) (l2 : Option Nat) (l3 : Int32) (l4 : Option Nat) (h : hH) (cb kb : Nat) (hM0 : cb + n * 0 ≤ ce) (hS0 : kb + n * 0 ≤ ke) (hk : f_X2_heal_l39 x.S.E v0 Q K87 n l1 l2 l3 l4 h) (hK87 : ∀ (l1 : Option Nat) (l2 : Option Nat) (l3 : Int32) (h : hH), K87 l1 l2 l3 h → G x (xQ x rmX2_heal (qI Q)) 87 [(1, aR l1), (2, aR l2), (3, aI l3)] [] h ce ke) : G x (xQ x rmX2_heal (qI Q)) 39 [(1, aR l1), (2, aR l2), (3, aI l3), (4, aR l4)] [] h cb kb := by
  induction n generalizing l1 l2 l3 l4 h cb kb with
  | zero => exact False.elim hk
  | succ n ih =>
    have hM : cb + 0 ≤ ce := by omega
    have hS : kb + 0 ≤ ke := by omega
    unfold f_X2_heal_l39 at hk
    exact G.widen (c' := cb + 0) (k' := kb + 0) (Nat.le_refl _) (Nat.le_refl _) <| g_aload F dX2_heal_39 3 rfl <|
g_calli05 (g_F (y0 := ({ cls := "java/util/Iterator", name := "hasNext", desc := "()Z" } : MethodName)) F dX2_heal_41 q2429 q2367 q2365 q157 q2369 (F.face q2364 q2363 q2368 q2366 q2201 ⟨by decide, by decide⟩) moi_java_util_Iterator_hasNext___Z ct_X14 (rm' := rmX14_hasNext) ⟨Nat.le_of_ble_eq_true rfl, Nat.le_of_ble_eq_true rfl⟩ ⟨show cb + 0 + 0 ≤ 80 by omega, show kb + 0 + 0 ≤ 1569 by omega⟩ (As := []) (rest := []) rfl rfl (Nat.le_of_ble_eq_true rfl) hk (fun a16 hk => m_X14_hasNext F.ok a16 h _ hk)) ⟨rfl, rfl⟩ fun x2 h1 hk =>
g_if_eq F dX2_heal_46 (tgt := 87) rfl (fun hc => have hk := hk.1 hc
G.fewer [0, 1, 2] rfl <| G.widen (show cb + 0 ≤ ce by omega) (show kb + 0 ≤ ke by omega) <| hK87 l1 l2 l3 h1 hk) (fun hc => have hk := hk.2 hc
g_aload F dX2_heal_49 3 rfl <|
g_callr05 (g_F (y0 := ({ cls := "java/util/Iterator", name := "next", desc := "()Ljava/lang/Object;" } : MethodName)) F dX2_heal_51 q2431 q2204 q2202 q157 q2206 (F.face q2200 q2199 q2205 q2203 q2201 ⟨by decide, by decide⟩) moi_java_util_Iterator_next___Ljava_lang_Object_ ct_X14 (rm' := rmX14_next) ⟨Nat.le_of_ble_eq_true rfl, Nat.le_of_ble_eq_true rfl⟩ ⟨show cb + 0 + 0 ≤ 80 by omega, show kb + 0 + 0 ≤ 1569 by omega⟩ (As := []) (rest := []) rfl rfl (Nat.le_of_ble_eq_true rfl) hk (fun a15 hk => m_X14_next F.ok a15 h1 _ hk)) ⟨rfl, rfl⟩ fun x4 h3 hk =>
g_castS F dX2_heal_56 q2546 ct_J20 hk fun hk =>
g_astore F dX2_heal_59 (Nat.le_of_ble_eq_true rfl) rfl <|
g_aload_n F dX2_heal_61 rfl 1 rfl <|
g_getR F dX2_heal_62 fo_X10_3_LockstepRoom_Member in_X10 fl_LockstepRoom_Room_134_X10 hk fun x5 hk =>
g_aload F dX2_heal_65 0 rfl <|
g_calli0 (g_V F dX2_heal_67 q2547 mi_J20_intValue ct_J20 (rm' := rmJ20_intValue) ⟨Nat.le_of_ble_eq_true rfl, Nat.le_of_ble_eq_true rfl⟩ ⟨show cb + 0 + 0 ≤ 80 by omega, show kb + 0 + 0 ≤ 1569 by omega⟩ (As := []) (rest := [aR x5]) rfl rfl (Nat.le_of_ble_eq_true rfl) hk (fun a8 hk => m_J20_intValue F.ok a8 h3 _ hk)) ⟨rfl, rfl⟩ fun x7 h6 hk =>
g_aload_n F dX2_heal_70 rfl 2 rfl <|
g_getR F dX2_heal_71 fo_X10_3_LockstepRoom_Member in_X10 fl_LockstepRoom_Room_134_X10 hk fun x9 hk =>
g_aload F dX2_heal_74 0 rfl <|
g_calli0 (g_V F dX2_heal_76 q2547 mi_J20_intValue ct_J20 (rm' := rmJ20_intValue) ⟨Nat.le_of_ble_eq_true rfl, Nat.le_of_ble_eq_true rfl⟩ ⟨show cb + 0 + 0 ≤ 80 by omega, show kb + 0 + 0 ≤ 1569 by omega⟩ (As := []) (rest := [aR x9, aI x7, aR x5]) rfl rfl (Nat.le_of_ble_eq_true rfl) hk (fun a12 hk => m_J20_intValue F.ok a12 h6 _ hk)) ⟨rfl, rfl⟩ fun x11 h10 hk =>
g_iald F dX2_heal_79 hk fun x13 hk =>
g_iast F dX2_heal_80 hk fun h14 hk =>
g_iinc (v := (l3 + (1:Int32))) F dX2_heal_81 (j := 3) rfl (iinc_1 l3) (Nat.le_of_ble_eq_true rfl) rfl <|
g_goto F dX2_heal_84 (tgt := 39) rfl <|
G.fewer [2, 3, 0, 4] rfl <| (fun l1 l2 l3 l4 h hk => ih l1 l2 l3 l4 h (cb + 0) (kb + 0) (by omega) (by omega) hk) l1 l2 (l3 + (1:Int32)) l4 h14 hk)
theorem m_X2_heal {S : Sx} (hS0 : Sok S) (v0 : Nat) (v1 : Option Nat) (h : hH) (Q : Int32 → hH → Prop) (hk : f_X2_heal S.E v0 v1 h Q) : Ct S yX2_heal (ws_ yX2_heal cX2_heal 6 (some .int)) rmX2_heal ([aR (some v0), aR v1].map vv) h (qI Q) := by
  refine Ct.of hS0 (by decide +kernel) rfl (Nat.le_of_ble_eq_true rfl) fun x hxS F hnm => ?_
  subst hxS
  unfold f_X2_heal at hk
  have hM : 0 + 80 ≤ 80 := by omega
  have hS : 0 + 1569 ≤ 1569 := by omega
  refine G.widen (c' := 0 + 0) (k' := 0 + 0) (Nat.le_refl 0) (Nat.le_refl 0) ?_
  exact g_aload_n F dX2_heal_0 rfl 0 rfl <|
g_aload_n F dX2_heal_1 rfl 0 rfl <|
g_aload_n F dX2_heal_2 rfl 1 rfl <|
g_getI F dX2_heal_3 fo_X10_4_LockstepRoom_Member in_X10 fl_LockstepRoom_Room_122_X10 hk fun x17 hk =>
g_aload_n F dX2_heal_6 rfl 1 rfl <|
g_getI F dX2_heal_7 fo_X10_0_LockstepRoom_Member in_X10 fl_LockstepRoom_Room_143_X10 hk fun x18 hk =>
g_calli (g_V F dX2_heal_10 q2493 mi_X2_donorAt ct_X2 (rm' := rmX2_donorAt) ⟨Nat.le_of_ble_eq_true rfl, Nat.le_of_ble_eq_true rfl⟩ ⟨show 0 + 0 + 68 ≤ 80 by omega, show 0 + 0 + 1437 ≤ 1569 by omega⟩ (As := [aI x17, aI x18]) (rest := [aR (some v0)]) rfl rfl (Nat.le_of_ble_eq_true rfl) hk (fun a21 hk => m_X2_donorAt F.ok a21 x17 x18 h _ hk)) fun x20 h19 hk =>
g_callr0 (g_V F dX2_heal_13 q1651 mi_X2_member ct_X2 (rm' := rmX2_member) ⟨Nat.le_of_ble_eq_true rfl, Nat.le_of_ble_eq_true rfl⟩ ⟨show 0 + 0 + 68 + 0 ≤ 80 by omega, show 0 + 0 + 1437 + 0 ≤ 1569 by omega⟩ (As := [aI x20]) (rest := []) rfl rfl (Nat.le_of_ble_eq_true rfl) hk (fun a24 hk => m_X2_member F.ok a24 x20 h19 _ hk)) ⟨rfl, rfl⟩ fun x23 h22 hk =>
g_astore_n F dX2_heal_16 rfl (Nat.le_of_ble_eq_true rfl) rfl <|
g_iconst F dX2_heal_17 ic_0 <|
g_istore_n F dX2_heal_18 rfl (Nat.le_of_ble_eq_true rfl) rfl <|
g_new (fs := [va_rf none, va_rf none, .int 0]) F dX2_heal_19 ck_X13 ct_X13 q2508 q2250 q156 df_X13 (show 0 + 0 + 68 + 1 ≤ 80 by omega) (show 0 + 0 + 1437 + 3 ≤ 1569 by omega) hk fun q25 h26 hk =>
g_dup F dX2_heal_22 rfl <|
g_aload_n F dX2_heal_23 rfl 3 rfl <|
g_callr (g_V F dX2_heal_24 q2509 mi_X10_tree ct_X10 (rm' := rmX10_tree) ⟨Nat.le_of_ble_eq_true rfl, Nat.le_of_ble_eq_true rfl⟩ ⟨show 0 + 0 + 68 + 1 + 2 ≤ 80 by omega, show 0 + 0 + 1437 + 3 + 33 ≤ 1569 by omega⟩ (As := []) (rest := [aR (some q25), aR (some q25)]) rfl rfl (Nat.le_of_ble_eq_true rfl) hk (fun a29 hk => m_X10_tree F.ok a29 h26 _ hk)) fun x28 h27 hk =>
g_aload_n F dX2_heal_27 rfl 1 rfl <|
g_callr (g_V F dX2_heal_28 q2509 mi_X10_tree ct_X10 (rm' := rmX10_tree) ⟨Nat.le_of_ble_eq_true rfl, Nat.le_of_ble_eq_true rfl⟩ ⟨show 0 + 0 + 68 + 1 + 2 + 2 ≤ 80 by omega, show 0 + 0 + 1437 + 3 + 33 + 33 ≤ 1569 by omega⟩ (As := []) (rest := [aR x28, aR (some q25), aR (some q25)]) rfl rfl (Nat.le_of_ble_eq_true rfl) hk (fun a32 hk => m_X10_tree F.ok a32 h27 _ hk)) fun x31 h30 hk =>
g_callv0 (g_I F dX2_heal_31 q2510 mc_X13_init (rm' := rmX13_init) ⟨Nat.le_of_ble_eq_true rfl, Nat.le_of_ble_eq_true rfl⟩ ⟨show 0 + 0 + 68 + 1 + 2 + 2 + 0 ≤ 80 by omega, show 0 + 0 + 1437 + 3 + 33 + 33 + 0 ≤ 1569 by omega⟩ (As := [aR x28, aR x31]) (rest := [aR (some q25)]) rfl rfl (Nat.le_of_ble_eq_true rfl) (m_X13_init F.ok q25 x28 x31 h30 _ hk)) ⟨rfl, rfl⟩ fun h33 hk =>
g_callr (g_V F dX2_heal_34 q2525 mi_X13_iterator ct_X13 (rm' := rmX13_iterator) ⟨Nat.le_of_ble_eq_true rfl, Nat.le_of_ble_eq_true rfl⟩ ⟨show 0 + 0 + 68 + 1 + 2 + 2 + 3 ≤ 80 by omega, show 0 + 0 + 1437 + 3 + 33 + 33 + 23 ≤ 1569 by omega⟩ (As := []) (rest := []) rfl rfl (Nat.le_of_ble_eq_true rfl) hk (fun a36 hk => m_X13_iterator F.ok a36 h33 _ hk)) fun x35 h34 hk =>
g_astore F dX2_heal_37 (Nat.le_of_ble_eq_true rfl) rfl <|
G.fewer [4, 2, 1, 0] rfl <| G.widen (show 0 + 0 + 68 + 1 + 2 + 2 + 3 ≤ 0 + 76 by omega) (show 0 + 0 + 1437 + 3 + 33 + 33 + 23 ≤ 0 + 1529 by omega) <| s_X2_heal_l39 F (ce := 0 + 76) (ke := 0 + 1529) (show 0 + 76 ≤ 80 by omega) (show 0 + 1529 ≤ 1569 by omega) 1000000 v1 x23 (0:Int32) x35 h34 (0 + 76) (0 + 1529) (show 0 + 76 + 1000000 * 0 ≤ 0 + 76 by omega) (show 0 + 1529 + 1000000 * 0 ≤ 0 + 1529 by omega) hk ((fun l1 l2 l3 h hk => g_aload_n F dX2_heal_87 rfl 1 rfl <|
g_dup F dX2_heal_88 rfl <|
g_getI F dX2_heal_89 fo_X10_6_LockstepRoom_Member in_X10 fl_LockstepRoom_Room_221_X10 hk fun x37 hk =>
g_iload_n F dX2_heal_92 rfl 2 rfl <|
g_iadd F dX2_heal_93 <|
g_putV F dX2_heal_94 fo_X10_6_LockstepRoom_Member ck_X10 fl_LockstepRoom_Room_221_X10 rfl (v := aI (x37 + l3)) (fit_i (x37 + l3)) hk fun h38 hk =>
g_aload_n F dX2_heal_97 rfl 0 rfl <|
g_dup F dX2_heal_98 rfl <|
g_getI F dX2_heal_99 fo_X10_7_LockstepRoom_Member in_X10 fl_LockstepRoom_Room_224_X10 hk fun x39 hk =>
g_iload_n F dX2_heal_102 rfl 2 rfl <|
g_iadd F dX2_heal_103 <|
g_putV F dX2_heal_104 fo_X10_7_LockstepRoom_Member ck_X10 fl_LockstepRoom_Room_224_X10 rfl (v := aI (x39 + l3)) (fit_i (x39 + l3)) hk fun h40 hk =>
g_aload_n F dX2_heal_107 rfl 0 rfl <|
g_dup F dX2_heal_108 rfl <|
g_getI F dX2_heal_109 fo_X10_8_LockstepRoom_Member in_X10 fl_LockstepRoom_Room_227_X10 hk fun x41 hk =>
g_iconst F dX2_heal_112 ic_1 <|
g_iadd F dX2_heal_113 <|
g_putV F dX2_heal_114 fo_X10_8_LockstepRoom_Member ck_X10 fl_LockstepRoom_Room_227_X10 rfl (v := aI (x41 + (1:Int32))) (fit_i (x41 + (1:Int32))) hk fun h42 hk =>
g_aload_n F dX2_heal_117 rfl 0 rfl <|
g_callv (g_V F dX2_heal_118 q1449 mi_X10_note ct_X10 (rm' := rmX10_note) ⟨Nat.le_of_ble_eq_true rfl, Nat.le_of_ble_eq_true rfl⟩ ⟨show 0 + 76 + 4 ≤ 80 by omega, show 0 + 1529 + 40 ≤ 1569 by omega⟩ (As := []) (rest := []) rfl rfl (Nat.le_of_ble_eq_true rfl) hk (fun a44 hk => m_X10_note F.ok a44 h42 _ hk)) fun h43 hk =>
g_iload_n F dX2_heal_121 rfl 2 rfl <|
g_iret F dX2_heal_122 (show 0 + 76 + 4 ≤ 80 by omega) (show 0 + 1529 + 40 ≤ 1569 by omega) hk))
abbrev rmX2_healAll : Room := { frames := 12, cells := 1764, slots := 40810, locals := 273 }
theorem s_X2_healAll_l4 {x : Cx} (F : Fx x cX2_healAll "LockstepRoom$Room" 4 (some .int) rmX2_healAll) {v0 : Nat} {Q : Int32 → hH → Prop} {K46 : Int32 → hH → Prop} {ce ke : Nat} (hM2 : ce ≤ 1764) (hS2 : ke ≤ 40810) (n : Nat) (l1 : Int32) (l2 : Int32) (h : hH) (cb kb : Nat) (hM0 : cb + n * 252 ≤ ce) (hS0 : kb + n * 5830 ≤ ke) (hk : f_X2_healAll_l4 x.S.E v0 Q K46 n l1 l2 h) (hK46 : ∀ (l1 : Int32) (h : hH), K46 l1 h → G x (xQ x rmX2_healAll (qI Q)) 46 [(1, aI l1)] [] h ce ke) : G x (xQ x rmX2_healAll (qI Q)) 4 [(0, aR (some v0)), (1, aI l1), (2, aI l2)] [] h cb kb := by
  induction n generalizing l1 l2 h cb kb with
  | zero => exact False.elim hk
  | succ n ih =>
    have hM : cb + 252 ≤ ce := by omega
    have hS : kb + 5830 ≤ ke := by omega
    unfold f_X2_healAll_l4 at hk
    exact G.widen (c' := cb + 0) (k' := kb + 0) (Nat.le_refl _) (Nat.le_refl _) <| g_iload_n F dX2_healAll_4 rfl 2 rfl <|
g_aload_n F dX2_healAll_5 rfl 0 rfl <|
g_getR F dX2_healAll_6 fo_X2_3_LockstepRoom_Room in_X2 fl_LockstepRoom_Room_36_X2 hk fun x1 hk =>
g_calli0 (g_V F dX2_healAll_9 q1316 mi_J2_size ct_J2 (rm' := rmJ2_size) ⟨Nat.le_of_ble_eq_true rfl, Nat.le_of_ble_eq_true rfl⟩ ⟨show cb + 0 + 0 ≤ 1764 by omega, show kb + 0 + 0 ≤ 40810 by omega⟩ (As := []) (rest := [aI l2]) rfl rfl (Nat.le_of_ble_eq_true rfl) hk (fun a4 hk => m_J2_size F.ok a4 h _ hk)) ⟨rfl, rfl⟩ fun x3 h2 hk =>
g_icmp_ge F dX2_healAll_12 (tgt := 46) rfl (fun hc => have hk := hk.1 hc
G.fewer [1] rfl <| G.widen (show cb + 0 ≤ ce by omega) (show kb + 0 ≤ ke by omega) <| hK46 l1 h2 hk) (fun hc => have hk := hk.2 hc
g_aload_n F dX2_healAll_15 rfl 0 rfl <|
g_aload_n F dX2_healAll_16 rfl 0 rfl <|
g_iload_n F dX2_healAll_17 rfl 2 rfl <|
g_callr0 (g_V F dX2_healAll_18 q1651 mi_X2_member ct_X2 (rm' := rmX2_member) ⟨Nat.le_of_ble_eq_true rfl, Nat.le_of_ble_eq_true rfl⟩ ⟨show cb + 0 + 0 ≤ 1764 by omega, show kb + 0 + 0 ≤ 40810 by omega⟩ (As := [aI l2]) (rest := [aR (some v0)]) rfl rfl (Nat.le_of_ble_eq_true rfl) hk (fun a7 hk => m_X2_member F.ok a7 l2 h2 _ hk)) ⟨rfl, rfl⟩ fun x6 h5 hk =>
g_calli (g_V F dX2_healAll_21 q2556 mi_X2_whyNot ct_X2 (rm' := rmX2_whyNot) ⟨Nat.le_of_ble_eq_true rfl, Nat.le_of_ble_eq_true rfl⟩ ⟨show cb + 0 + 172 ≤ 1764 by omega, show kb + 0 + 4261 ≤ 40810 by omega⟩ (As := [aR x6]) (rest := []) rfl rfl (Nat.le_of_ble_eq_true rfl) hk (fun a10 hk => m_X2_whyNot F.ok a10 x6 h5 _ hk)) fun x9 h8 hk =>
g_if_ne F dX2_healAll_24 (tgt := 40) rfl (fun hc => have hk := hk.2 hc
g_iinc (v := (l2 + (1:Int32))) F dX2_healAll_40 (j := 2) rfl (iinc_1 l2) (Nat.le_of_ble_eq_true rfl) rfl <|
g_goto F dX2_healAll_43 (tgt := 4) rfl <|
G.fewer [1, 2, 0] rfl <| G.widen (show cb + 0 + 172 ≤ cb + 252 by omega) (show kb + 0 + 4261 ≤ kb + 5830 by omega) <| (fun l1 l2 h hk => ih l1 l2 h (cb + 252) (kb + 5830) (by omega) (by omega) hk) l1 (l2 + (1:Int32)) h8 hk) (fun hc => have hk := hk.1 hc
g_aload_n F dX2_healAll_27 rfl 0 rfl <|
g_aload_n F dX2_healAll_28 rfl 0 rfl <|
g_iload_n F dX2_healAll_29 rfl 2 rfl <|
g_callr0 (g_V F dX2_healAll_30 q1651 mi_X2_member ct_X2 (rm' := rmX2_member) ⟨Nat.le_of_ble_eq_true rfl, Nat.le_of_ble_eq_true rfl⟩ ⟨show cb + 0 + 172 + 0 ≤ 1764 by omega, show kb + 0 + 4261 + 0 ≤ 40810 by omega⟩ (As := [aI l2]) (rest := [aR (some v0)]) rfl rfl (Nat.le_of_ble_eq_true rfl) hk (fun a13 hk => m_X2_member F.ok a13 l2 h8 _ hk)) ⟨rfl, rfl⟩ fun x12 h11 hk =>
g_calli (g_V F dX2_healAll_33 q2557 mi_X2_heal ct_X2 (rm' := rmX2_heal) ⟨Nat.le_of_ble_eq_true rfl, Nat.le_of_ble_eq_true rfl⟩ ⟨show cb + 0 + 172 + 80 ≤ 1764 by omega, show kb + 0 + 4261 + 1569 ≤ 40810 by omega⟩ (As := [aR x12]) (rest := []) rfl rfl (Nat.le_of_ble_eq_true rfl) hk (fun a16 hk => m_X2_heal F.ok a16 x12 h11 _ hk)) fun x15 h14 hk =>
g_istore_n F dX2_healAll_36 rfl (Nat.le_of_ble_eq_true rfl) rfl <|
g_iinc (v := (l1 + (1:Int32))) F dX2_healAll_37 (j := 2) rfl (iinc_1 l1) (Nat.le_of_ble_eq_true rfl) rfl <|
g_iinc (v := (l2 + (1:Int32))) F dX2_healAll_40 (j := 3) rfl (iinc_1 l2) (Nat.le_of_ble_eq_true rfl) rfl <|
g_goto F dX2_healAll_43 (tgt := 4) rfl <|
G.fewer [3, 1, 0] rfl <| G.widen (show cb + 0 + 172 + 80 ≤ cb + 252 by omega) (show kb + 0 + 4261 + 1569 ≤ kb + 5830 by omega) <| (fun l1 l2 h hk => ih l1 l2 h (cb + 252) (kb + 5830) (by omega) (by omega) hk) (l1 + (1:Int32)) (l2 + (1:Int32)) h14 hk))
theorem m_X2_healAll {S : Sx} (hS0 : Sok S) (v0 : Nat) (h : hH) (Q : Int32 → hH → Prop) (hk : f_X2_healAll S.E v0 h Q) : Ct S yX2_healAll (ws_ yX2_healAll cX2_healAll 4 (some .int)) rmX2_healAll ([aR (some v0)].map vv) h (qI Q) := by
  refine Ct.of hS0 (by decide +kernel) rfl (Nat.le_of_ble_eq_true rfl) fun x hxS F hnm => ?_
  subst hxS
  unfold f_X2_healAll at hk
  have hM : 0 + 1764 ≤ 1764 := by omega
  have hS : 0 + 40810 ≤ 40810 := by omega
  refine G.widen (c' := 0 + 0) (k' := 0 + 0) (Nat.le_refl 0) (Nat.le_refl 0) ?_
  exact g_iconst F dX2_healAll_0 ic_0 <|
g_istore_n F dX2_healAll_1 rfl (Nat.le_of_ble_eq_true rfl) rfl <|
g_iconst F dX2_healAll_2 ic_0 <|
g_istore_n F dX2_healAll_3 rfl (Nat.le_of_ble_eq_true rfl) rfl <|
G.fewer [2, 1, 0] rfl <| s_X2_healAll_l4 F (ce := 0 + 1764) (ke := 0 + 40810) (show 0 + 1764 ≤ 1764 by omega) (show 0 + 40810 ≤ 40810 by omega) 7 (0:Int32) (0:Int32) h (0 + 0) (0 + 0) (show 0 + 0 + 7 * 252 ≤ 0 + 1764 by omega) (show 0 + 0 + 7 * 5830 ≤ 0 + 40810 by omega) hk ((fun l1 h hk => g_iload_n F dX2_healAll_46 rfl 0 rfl <|
g_iret F dX2_healAll_47 (show 0 + 1764 ≤ 1764 by omega) (show 0 + 40810 ≤ 40810 by omega) hk))
abbrev rmX2_join : Room := { frames := 10, cells := 8, slots := 139, locals := 219 }
theorem m_X2_join {S : Sx} (hS0 : Sok S) (v0 : Nat) (v1 : Int32) (v2 : Int32) (h : hH) (Q : Int32 → hH → Prop) (hk : f_X2_join S.E v0 v1 v2 h Q) : Ct S yX2_join (ws_ yX2_join cX2_join 5 (some .int)) rmX2_join ([aR (some v0), aI v1, aI v2].map vv) h (qI Q) := by
  refine Ct.of hS0 (by decide +kernel) rfl (Nat.le_of_ble_eq_true rfl) fun x hxS F hnm => ?_
  subst hxS
  unfold f_X2_join at hk
  have hM : 0 + 8 ≤ 8 := by omega
  have hS : 0 + 139 ≤ 139 := by omega
  refine G.widen (c' := 0 + 0) (k' := 0 + 0) (Nat.le_refl 0) (Nat.le_refl 0) ?_
  exact g_aload_n F dX2_join_0 rfl 0 rfl <|
g_iload_n F dX2_join_1 rfl 2 rfl <|
g_callr0 (g_V F dX2_join_2 q1651 mi_X2_member ct_X2 (rm' := rmX2_member) ⟨Nat.le_of_ble_eq_true rfl, Nat.le_of_ble_eq_true rfl⟩ ⟨show 0 + 0 + 0 ≤ 8 by omega, show 0 + 0 + 0 ≤ 139 by omega⟩ (As := [aI v2]) (rest := []) rfl rfl (Nat.le_of_ble_eq_true rfl) hk (fun a3 hk => m_X2_member F.ok a3 v2 h _ hk)) ⟨rfl, rfl⟩ fun x2 h1 hk =>
g_astore_n F dX2_join_5 rfl (Nat.le_of_ble_eq_true rfl) rfl <|
g_new (fs := [.int 0, .int 0, .int 0, va_rf none, .int 0, .int 0, .int 0, .int 0, .int 0, va_rf none]) F dX2_join_6 ck_X10 ct_X10 q1360 q1361 q147 df_X10 (show 0 + 0 + 1 ≤ 8 by omega) (show 0 + 0 + 10 ≤ 139 by omega) hk fun q4 h5 hk =>
g_dup F dX2_join_9 rfl <|
g_aload_n F dX2_join_10 rfl 1 rfl <|
g_getR F dX2_join_11 fo_X2_3_LockstepRoom_Room in_X2 fl_LockstepRoom_Room_36_X2 hk fun x6 hk =>
g_calli0 (g_V F dX2_join_14 q1316 mi_J2_size ct_J2 (rm' := rmJ2_size) ⟨Nat.le_of_ble_eq_true rfl, Nat.le_of_ble_eq_true rfl⟩ ⟨show 0 + 0 + 1 + 0 ≤ 8 by omega, show 0 + 0 + 10 + 0 ≤ 139 by omega⟩ (As := []) (rest := [aR (some q4), aR (some q4)]) rfl rfl (Nat.le_of_ble_eq_true rfl) hk (fun a9 hk => m_J2_size F.ok a9 h5 _ hk)) ⟨rfl, rfl⟩ fun x8 h7 hk =>
g_iconst F dX2_join_17 ic_0 <|
g_iload_n F dX2_join_18 rfl 2 rfl <|
g_aload_n F dX2_join_19 rfl 0 rfl <|
g_getR F dX2_join_20 fo_X10_3_LockstepRoom_Member in_X10 fl_LockstepRoom_Room_134_X10 hk fun x10 hk =>
g_clI (rest := [aI v1, aI (0:Int32), aI x8, aR (some q4), aR (some q4)]) F dX2_join_23 q223 q224 q225 q226 q227 q228 (Nat.le_of_ble_eq_true rfl) (Nat.le_of_ble_eq_true rfl) (show 0 + 0 + 1 + 1 ≤ 8 by omega) (show 0 + 0 + 10 + 16 ≤ 139 by omega) hk fun q11 h12 hk =>
g_castA (t := 0) F dX2_join_26 q229 F.arr0 hk fun hk =>
g_aload_n F dX2_join_29 rfl 0 rfl <|
g_getI F dX2_join_30 fo_X10_4_LockstepRoom_Member in_X10 fl_LockstepRoom_Room_122_X10 hk fun x13 hk =>
g_callv (g_I F dX2_join_33 q1362 mc_X10_init (rm' := rmX10_init) ⟨Nat.le_of_ble_eq_true rfl, Nat.le_of_ble_eq_true rfl⟩ ⟨show 0 + 0 + 1 + 1 + 1 ≤ 8 by omega, show 0 + 0 + 10 + 16 + 9 ≤ 139 by omega⟩ (As := [aI x8, aI (0:Int32), aI v1, aR (some q11), aI x13]) (rest := [aR (some q4)]) rfl rfl (Nat.le_of_ble_eq_true rfl) (m_X10_init F.ok q4 x8 (0:Int32) v1 (some q11) x13 h12 _ hk)) fun h14 hk =>
g_astore F dX2_join_36 (Nat.le_of_ble_eq_true rfl) rfl <|
g_aload_n F dX2_join_38 rfl 1 rfl <|
g_dup F dX2_join_39 rfl <|
g_getI F dX2_join_40 fo_X10_6_LockstepRoom_Member in_X10 fl_LockstepRoom_Room_221_X10 hk fun x15 hk =>
g_bipush F dX2_join_43 bp_16 <|
g_iadd F dX2_join_45 <|
g_putV F dX2_join_46 fo_X10_6_LockstepRoom_Member ck_X10 fl_LockstepRoom_Room_221_X10 rfl (v := aI (x15 + (16:Int32))) (fit_i (x15 + (16:Int32))) hk fun h16 hk =>
g_aload F dX2_join_49 0 rfl <|
g_bipush F dX2_join_51 bp_16 <|
g_putV F dX2_join_53 fo_X10_7_LockstepRoom_Member ck_X10 fl_LockstepRoom_Room_224_X10 rfl (v := aI (16:Int32)) (fit_i (16:Int32)) hk fun h17 hk =>
g_aload F dX2_join_56 0 rfl <|
g_callv (g_V F dX2_join_58 q1449 mi_X10_note ct_X10 (rm' := rmX10_note) ⟨Nat.le_of_ble_eq_true rfl, Nat.le_of_ble_eq_true rfl⟩ ⟨show 0 + 0 + 1 + 1 + 1 + 4 ≤ 8 by omega, show 0 + 0 + 10 + 16 + 9 + 40 ≤ 139 by omega⟩ (As := []) (rest := []) rfl rfl (Nat.le_of_ble_eq_true rfl) hk (fun a19 hk => m_X10_note F.ok a19 h17 _ hk)) fun h18 hk =>
g_aload_n F dX2_join_61 rfl 2 rfl <|
g_getR F dX2_join_62 fo_X2_3_LockstepRoom_Room in_X2 fl_LockstepRoom_Room_36_X2 hk fun x20 hk =>
g_aload F dX2_join_65 0 rfl <|
g_calli (g_V F dX2_join_67 q1315 mi_J2_add ct_J2 (rm' := rmJ2_add) ⟨Nat.le_of_ble_eq_true rfl, Nat.le_of_ble_eq_true rfl⟩ ⟨show 0 + 0 + 1 + 1 + 1 + 4 + 1 ≤ 8 by omega, show 0 + 0 + 10 + 16 + 9 + 40 + 64 ≤ 139 by omega⟩ (As := [aR (some q4)]) (rest := []) rfl rfl (Nat.le_of_ble_eq_true rfl) hk (fun a23 hk => m_J2_add F.ok a23 (some q4) h18 _ hk)) fun x22 h21 hk =>
g_pop F dX2_join_70 rfl <|
g_aload F dX2_join_71 0 rfl <|
g_getI F dX2_join_73 fo_X10_0_LockstepRoom_Member in_X10 fl_LockstepRoom_Room_143_X10 hk fun x24 hk =>
g_iret F dX2_join_76 (show 0 + 0 + 1 + 1 + 1 + 4 + 1 ≤ 8 by omega) (show 0 + 0 + 10 + 16 + 9 + 40 + 64 ≤ 139 by omega) hk
abbrev rmX2_leave : Room := { frames := 5, cells := 0, slots := 0, locals := 106 }
theorem s_X2_leave_l7 {x : Cx} (F : Fx x cX2_leave "LockstepRoom$Room" 4 none rmX2_leave) {v0 : Nat} {Q : hH → Prop} {K60 : hH → Prop} (n : Nat) (l1 : Option Nat) (l2 : Int32) (h : hH) (hk : f_X2_leave_l7 x.S.E v0 Q K60 n l1 l2 h) (hK60 : ∀ (h : hH), K60 h → G x (xQ x rmX2_leave (qV Q)) 60 [] [] h 0 0) : G x (xQ x rmX2_leave (qV Q)) 7 [(0, aR (some v0)), (1, aR l1), (2, aI l2)] [] h 0 0 := by
  induction n generalizing l1 l2 h with
  | zero => exact False.elim hk
  | succ n ih =>
    unfold f_X2_leave_l7 at hk
    exact g_iload_n F dX2_leave_7 rfl 2 rfl <|
g_aload_n F dX2_leave_8 rfl 0 rfl <|
g_getR F dX2_leave_9 fo_X2_6_LockstepRoom_Room in_X2 fl_LockstepRoom_Room_55_X2 hk fun x1 hk =>
g_calli0 (g_V F dX2_leave_12 q1316 mi_J2_size ct_J2 (rm' := rmJ2_size) ⟨Nat.le_of_ble_eq_true rfl, Nat.le_of_ble_eq_true rfl⟩ ⟨Nat.le_refl 0, Nat.le_refl 0⟩ (As := []) (rest := [aI l2]) rfl rfl (Nat.le_of_ble_eq_true rfl) hk (fun a4 hk => m_J2_size F.ok a4 h _ hk)) ⟨rfl, rfl⟩ fun x3 h2 hk =>
g_icmp_ge F dX2_leave_15 (tgt := 60) rfl (fun hc => have hk := hk.1 hc
G.fewer [] rfl <| hK60 h2 hk) (fun hc => have hk := hk.2 hc
g_aload_n F dX2_leave_18 rfl 0 rfl <|
g_getR F dX2_leave_19 fo_X2_6_LockstepRoom_Room in_X2 fl_LockstepRoom_Room_55_X2 hk fun x5 hk =>
g_iload_n F dX2_leave_22 rfl 2 rfl <|
g_callr0 (g_V F dX2_leave_23 q1589 mi_J2_get ct_J2 (rm' := rmJ2_get) ⟨Nat.le_of_ble_eq_true rfl, Nat.le_of_ble_eq_true rfl⟩ ⟨Nat.le_refl 0, Nat.le_refl 0⟩ (As := [aI l2]) (rest := []) rfl rfl (Nat.le_of_ble_eq_true rfl) hk (fun a8 hk => m_J2_get F.ok a8 l2 h2 _ hk)) ⟨rfl, rfl⟩ fun x7 h6 hk =>
g_castS F dX2_leave_26 q2432 ct_X9 hk fun hk =>
g_getI F dX2_leave_29 fo_X9_0_LockstepRoom_Fault in_X9 fl_LockstepRoom_Room_141_X9 hk fun x9 hk =>
g_aload_n F dX2_leave_32 rfl 1 rfl <|
g_getI F dX2_leave_33 fo_X10_0_LockstepRoom_Member in_X10 fl_LockstepRoom_Room_143_X10 hk fun x10 hk =>
g_icmp_ne F dX2_leave_36 (tgt := 54) rfl (fun hc => have hk := hk.2 hc
g_iinc (v := (l2 + (1:Int32))) F dX2_leave_54 (j := 2) rfl (iinc_1 l2) (Nat.le_of_ble_eq_true rfl) rfl <|
g_goto F dX2_leave_57 (tgt := 7) rfl <|
G.fewer [1, 2, 0] rfl <| ih l1 (l2 + (1:Int32)) h6 hk) (fun hc => have hk := hk.1 hc
g_aload_n F dX2_leave_39 rfl 0 rfl <|
g_getR F dX2_leave_40 fo_X2_6_LockstepRoom_Room in_X2 fl_LockstepRoom_Room_55_X2 hk fun x11 hk =>
g_iload_n F dX2_leave_43 rfl 2 rfl <|
g_callr0 (g_V F dX2_leave_44 q2462 mi_J2_remove ct_J2 (rm' := rmJ2_remove) ⟨Nat.le_of_ble_eq_true rfl, Nat.le_of_ble_eq_true rfl⟩ ⟨Nat.le_refl 0, Nat.le_refl 0⟩ (As := [aI l2]) (rest := []) rfl rfl (Nat.le_of_ble_eq_true rfl) hk (fun a14 hk => m_J2_remove F.ok a14 l2 h6 _ hk)) ⟨rfl, rfl⟩ fun x13 h12 hk =>
g_castS F dX2_leave_47 q2432 ct_X9 hk fun hk =>
g_astore_n F dX2_leave_50 rfl (Nat.le_of_ble_eq_true rfl) rfl <|
g_goto F dX2_leave_51 (tgt := 7) rfl <|
G.fewer [1, 2, 3] rfl <| ih l1 l2 h12 hk))
theorem m_X2_leave {S : Sx} (hS0 : Sok S) (v0 : Nat) (v1 : Option Nat) (h : hH) (Q : hH → Prop) (hk : f_X2_leave S.E v0 v1 h Q) : Ct S yX2_leave (ws_ yX2_leave cX2_leave 4 none) rmX2_leave ([aR (some v0), aR v1].map vv) h (qV Q) := by
  refine Ct.of hS0 (by decide +kernel) rfl (Nat.le_of_ble_eq_true rfl) fun x hxS F hnm => ?_
  subst hxS
  unfold f_X2_leave at hk
  exact g_aload_n F dX2_leave_0 rfl 1 rfl <|
g_iconst F dX2_leave_1 ic_0 <|
g_putV F dX2_leave_2 fo_X10_5_LockstepRoom_Member ck_X10 fl_LockstepRoom_Room_118_X10 rfl (v := aI (0:Int32)) ⟨rfl, rfl⟩ hk fun h15 hk =>
g_iconst F dX2_leave_5 ic_0 <|
g_istore_n F dX2_leave_6 rfl (Nat.le_of_ble_eq_true rfl) rfl <|
G.fewer [1, 2, 0] rfl <| s_X2_leave_l7 F 1000000 v1 (0:Int32) h15 hk ((fun h hk => g_vret F dX2_leave_60 (Nat.le_refl 0) (Nat.le_refl 0) hk))
abbrev rmX2_foresee : Room := { frames := 5, cells := 1, slots := 16, locals := 113 }
theorem s_X2_foresee_l49 {x : Cx} (F : Fx x cX2_foresee "LockstepRoom$Room" 7 (some (.array .int)) rmX2_foresee) {v0 : Nat} {Q : Option Nat → hH → Prop} {K127 : Option Nat → Option Nat → Int32 → hH → Prop} {ce ke : Nat} (hM2 : ce ≤ 1) (hS2 : ke ≤ 16) (n : Nat) (l1 : Option Nat) (l3 : Option Nat) (l4 : Int32) (l5 : Int32) (h : hH) (cb kb : Nat) (hM0 : cb + n * 0 ≤ ce) (hS0 : kb + n * 0 ≤ ke) (hk : f_X2_foresee_l49 x.S.E v0 Q K127 n l1 l3 l4 l5 h) (hK127 : ∀ (l1 : Option Nat) (l3 : Option Nat) (l4 : Int32) (h : hH), K127 l1 l3 l4 h → G x (xQ x rmX2_foresee (qR Q)) 127 [(0, aR (some v0)), (1, aR l1), (3, aR l3), (4, aI l4)] [] h ce ke) : G x (xQ x rmX2_foresee (qR Q)) 49 [(0, aR (some v0)), (1, aR l1), (3, aR l3), (4, aI l4), (5, aI l5)] [] h cb kb := by
  induction n generalizing l1 l3 l4 l5 h cb kb with
  | zero => exact False.elim hk
  | succ n ih =>
    have hM : cb + 0 ≤ ce := by omega
    have hS : kb + 0 ≤ ke := by omega
    unfold f_X2_foresee_l49 at hk
    exact G.widen (c' := cb + 0) (k' := kb + 0) (Nat.le_refl _) (Nat.le_refl _) <| g_iload F dX2_foresee_49 4 rfl <|
g_aload_n F dX2_foresee_51 rfl 0 rfl <|
g_getR F dX2_foresee_52 fo_X2_6_LockstepRoom_Room in_X2 fl_LockstepRoom_Room_55_X2 hk fun x1 hk =>
g_calli0 (g_V F dX2_foresee_55 q1316 mi_J2_size ct_J2 (rm' := rmJ2_size) ⟨Nat.le_of_ble_eq_true rfl, Nat.le_of_ble_eq_true rfl⟩ ⟨show cb + 0 + 0 ≤ 1 by omega, show kb + 0 + 0 ≤ 16 by omega⟩ (As := []) (rest := [aI l5]) rfl rfl (Nat.le_of_ble_eq_true rfl) hk (fun a4 hk => m_J2_size F.ok a4 h _ hk)) ⟨rfl, rfl⟩ fun x3 h2 hk =>
g_icmp_ge F dX2_foresee_58 (tgt := 127) rfl (fun hc => have hk := hk.1 hc
G.fewer [0, 1, 2, 3] rfl <| G.widen (show cb + 0 ≤ ce by omega) (show kb + 0 ≤ ke by omega) <| hK127 l1 l3 l4 h2 hk) (fun hc => have hk := hk.2 hc
g_aload_n F dX2_foresee_61 rfl 0 rfl <|
g_getR F dX2_foresee_62 fo_X2_6_LockstepRoom_Room in_X2 fl_LockstepRoom_Room_55_X2 hk fun x5 hk =>
g_iload F dX2_foresee_65 4 rfl <|
g_callr0 (g_V F dX2_foresee_67 q1589 mi_J2_get ct_J2 (rm' := rmJ2_get) ⟨Nat.le_of_ble_eq_true rfl, Nat.le_of_ble_eq_true rfl⟩ ⟨show cb + 0 + 0 ≤ 1 by omega, show kb + 0 + 0 ≤ 16 by omega⟩ (As := [aI l5]) (rest := []) rfl rfl (Nat.le_of_ble_eq_true rfl) hk (fun a8 hk => m_J2_get F.ok a8 l5 h2 _ hk)) ⟨rfl, rfl⟩ fun x7 h6 hk =>
g_castS F dX2_foresee_70 q2432 ct_X9 hk fun hk =>
g_astore F dX2_foresee_73 (Nat.le_of_ble_eq_true rfl) rfl <|
g_aload F dX2_foresee_75 0 rfl <|
g_getI F dX2_foresee_77 fo_X9_0_LockstepRoom_Fault in_X9 fl_LockstepRoom_Room_141_X9 hk fun x9 hk =>
g_aload_n F dX2_foresee_80 rfl 2 rfl <|
g_getI F dX2_foresee_81 fo_X10_0_LockstepRoom_Member in_X10 fl_LockstepRoom_Room_143_X10 hk fun x10 hk =>
g_icmp_ne F dX2_foresee_84 (tgt := 121) rfl (fun hc => have hk := hk.2 hc
g_iinc (v := (l5 + (1:Int32))) F dX2_foresee_121 (j := 5) rfl (iinc_1 l5) (Nat.le_of_ble_eq_true rfl) rfl <|
g_goto F dX2_foresee_124 (tgt := 49) rfl <|
G.fewer [2, 3, 4, 5, 0] rfl <| (fun l1 l3 l4 l5 h hk => ih l1 l3 l4 l5 h (cb + 0) (kb + 0) (by omega) (by omega) hk) l1 l3 l4 (l5 + (1:Int32)) h6 hk) (fun hc => have hk := hk.1 hc
g_aload F dX2_foresee_87 0 rfl <|
g_getI F dX2_foresee_89 fo_X9_1_LockstepRoom_Fault in_X9 fl_LockstepRoom_Room_146_X9 hk fun x11 hk =>
g_iload F dX2_foresee_92 4 rfl <|
g_icmp_ne F dX2_foresee_94 (tgt := 121) rfl (fun hc => have hk := hk.2 hc
g_iinc (v := (l5 + (1:Int32))) F dX2_foresee_121 (j := 5) rfl (iinc_1 l5) (Nat.le_of_ble_eq_true rfl) rfl <|
g_goto F dX2_foresee_124 (tgt := 49) rfl <|
G.fewer [2, 3, 4, 5, 0] rfl <| (fun l1 l3 l4 l5 h hk => ih l1 l3 l4 l5 h (cb + 0) (kb + 0) (by omega) (by omega) hk) l1 l3 l4 (l5 + (1:Int32)) h6 hk) (fun hc => have hk := hk.1 hc
g_aload_n F dX2_foresee_97 rfl 3 rfl <|
g_aload F dX2_foresee_98 0 rfl <|
g_getI F dX2_foresee_100 fo_X9_2_LockstepRoom_Fault in_X9 fl_LockstepRoom_Room_149_X9 hk fun x12 hk =>
g_aload_n F dX2_foresee_103 rfl 3 rfl <|
g_aload F dX2_foresee_104 0 rfl <|
g_getI F dX2_foresee_106 fo_X9_2_LockstepRoom_Fault in_X9 fl_LockstepRoom_Room_149_X9 hk fun x13 hk =>
g_iald F dX2_foresee_109 hk fun x14 hk =>
g_aload F dX2_foresee_110 0 rfl <|
g_getI F dX2_foresee_112 fo_X9_3_LockstepRoom_Fault in_X9 fl_LockstepRoom_Room_152_X9 hk fun x15 hk =>
g_iadd F dX2_foresee_115 <|
g_sipush F dX2_foresee_116 sp_10000 <|
g_irem F dX2_foresee_119 nz_10000_Int32 <|
g_iast F dX2_foresee_120 hk fun h16 hk =>
g_iinc (v := (l5 + (1:Int32))) F dX2_foresee_121 (j := 5) rfl (iinc_1 l5) (Nat.le_of_ble_eq_true rfl) rfl <|
g_goto F dX2_foresee_124 (tgt := 49) rfl <|
G.fewer [2, 3, 4, 5, 0] rfl <| (fun l1 l3 l4 l5 h hk => ih l1 l3 l4 l5 h (cb + 0) (kb + 0) (by omega) (by omega) hk) l1 l3 l4 (l5 + (1:Int32)) h16 hk)))
theorem s_X2_foresee_l14 {x : Cx} (F : Fx x cX2_foresee "LockstepRoom$Room" 7 (some (.array .int)) rmX2_foresee) {v0 : Nat} {Q : Option Nat → hH → Prop} {K133 : Option Nat → hH → Prop} {ce ke : Nat} (hM2 : ce ≤ 1) (hS2 : ke ≤ 16) (n : Nat) (l1 : Option Nat) (l3 : Option Nat) (l4 : Int32) (h : hH) (cb kb : Nat) (hM0 : cb + n * 0 ≤ ce) (hS0 : kb + n * 0 ≤ ke) (hk : f_X2_foresee_l14 x.S.E v0 Q K133 n l1 l3 l4 h) (hK133 : ∀ (l3 : Option Nat) (h : hH), K133 l3 h → G x (xQ x rmX2_foresee (qR Q)) 133 [(3, aR l3)] [] h ce ke) : G x (xQ x rmX2_foresee (qR Q)) 14 [(0, aR (some v0)), (1, aR l1), (3, aR l3), (4, aI l4)] [] h cb kb := by
  induction n generalizing l1 l3 l4 h cb kb with
  | zero => exact False.elim hk
  | succ n ih =>
    have hM : cb + 0 ≤ ce := by omega
    have hS : kb + 0 ≤ ke := by omega
    unfold f_X2_foresee_l14 at hk
    exact G.widen (c' := cb + 0) (k' := kb + 0) (Nat.le_refl _) (Nat.le_refl _) <| g_iload F dX2_foresee_14 3 rfl <|
g_aload_n F dX2_foresee_16 rfl 0 rfl <|
g_getR F dX2_foresee_17 fo_X2_4_LockstepRoom_Room in_X2 fl_LockstepRoom_Room_40_X2 hk fun x17 hk =>
g_calli0 (g_V F dX2_foresee_20 q1316 mi_J2_size ct_J2 (rm' := rmJ2_size) ⟨Nat.le_of_ble_eq_true rfl, Nat.le_of_ble_eq_true rfl⟩ ⟨show cb + 0 + 0 ≤ 1 by omega, show kb + 0 + 0 ≤ 16 by omega⟩ (As := []) (rest := [aI l4]) rfl rfl (Nat.le_of_ble_eq_true rfl) hk (fun a20 hk => m_J2_size F.ok a20 h _ hk)) ⟨rfl, rfl⟩ fun x19 h18 hk =>
g_icmp_ge F dX2_foresee_23 (tgt := 133) rfl (fun hc => have hk := hk.1 hc
G.fewer [2] rfl <| G.widen (show cb + 0 ≤ ce by omega) (show kb + 0 ≤ ke by omega) <| hK133 l3 h18 hk) (fun hc => have hk := hk.2 hc
g_aload_n F dX2_foresee_26 rfl 0 rfl <|
g_getR F dX2_foresee_27 fo_X2_0_LockstepRoom_Room in_X2 fl_LockstepRoom_Room_12_X2 hk fun x21 hk =>
g_aload_n F dX2_foresee_30 rfl 0 rfl <|
g_getR F dX2_foresee_31 fo_X2_4_LockstepRoom_Room in_X2 fl_LockstepRoom_Room_40_X2 hk fun x22 hk =>
g_iload F dX2_foresee_34 3 rfl <|
g_callr0 (g_V F dX2_foresee_36 q1589 mi_J2_get ct_J2 (rm' := rmJ2_get) ⟨Nat.le_of_ble_eq_true rfl, Nat.le_of_ble_eq_true rfl⟩ ⟨show cb + 0 + 0 ≤ 1 by omega, show kb + 0 + 0 ≤ 16 by omega⟩ (As := [aI l4]) (rest := [aR x21]) rfl rfl (Nat.le_of_ble_eq_true rfl) hk (fun a25 hk => m_J2_get F.ok a25 l4 h18 _ hk)) ⟨rfl, rfl⟩ fun x24 h23 hk =>
g_castA (t := 5) F dX2_foresee_39 q1989 F.arr5 hk fun hk =>
g_aload_n F dX2_foresee_42 rfl 2 rfl <|
g_callv0 (g_V F dX2_foresee_43 q1990 mi_X3_execute ct_X3 (rm' := rmX3_execute) ⟨Nat.le_of_ble_eq_true rfl, Nat.le_of_ble_eq_true rfl⟩ ⟨show cb + 0 + 0 ≤ 1 by omega, show kb + 0 + 0 ≤ 16 by omega⟩ (As := [aR x24, aR l3]) (rest := []) rfl rfl (Nat.le_of_ble_eq_true rfl) hk (fun a27 hk => m_X3_execute F.ok a27 x24 l3 h23 _ hk)) ⟨rfl, rfl⟩ fun h26 hk =>
g_iconst F dX2_foresee_46 ic_0 <|
g_istore F dX2_foresee_47 (Nat.le_of_ble_eq_true rfl) rfl <|
G.fewer [1, 2, 3, 4, 0] rfl <| s_X2_foresee_l49 F (ce := cb + 0) (ke := kb + 0) (show cb + 0 ≤ 1 by omega) (show kb + 0 ≤ 16 by omega) 1000000 l1 l3 l4 (0:Int32) h26 (cb + 0) (kb + 0) (show cb + 0 + 1000000 * 0 ≤ cb + 0 by omega) (show kb + 0 + 1000000 * 0 ≤ kb + 0 by omega) hk ((fun l1 l3 l4 h hk => g_iinc (v := (l4 + (1:Int32))) F dX2_foresee_127 (j := 3) rfl (iinc_1 l4) (Nat.le_of_ble_eq_true rfl) rfl <|
g_goto F dX2_foresee_130 (tgt := 14) rfl <|
G.fewer [1, 2, 3, 0] rfl <| (fun l1 l3 l4 h hk => ih l1 l3 l4 h (cb + 0) (kb + 0) (by omega) (by omega) hk) l1 l3 (l4 + (1:Int32)) h hk)))
theorem m_X2_foresee {S : Sx} (hS0 : Sok S) (v0 : Nat) (v1 : Option Nat) (v2 : Int32) (h : hH) (Q : Option Nat → hH → Prop) (hk : f_X2_foresee S.E v0 v1 v2 h Q) : Ct S yX2_foresee (ws_ yX2_foresee cX2_foresee 7 (some (.array .int))) rmX2_foresee ([aR (some v0), aR v1, aI v2].map vv) h (qR Q) := by
  refine Ct.of hS0 (by decide +kernel) rfl (Nat.le_of_ble_eq_true rfl) fun x hxS F hnm => ?_
  subst hxS
  unfold f_X2_foresee at hk
  have hM : 0 + 1 ≤ 1 := by omega
  have hS : 0 + 16 ≤ 16 := by omega
  refine G.widen (c' := 0 + 0) (k' := 0 + 0) (Nat.le_refl 0) (Nat.le_refl 0) ?_
  exact g_aload_n F dX2_foresee_0 rfl 1 rfl <|
g_getR F dX2_foresee_1 fo_X10_3_LockstepRoom_Member in_X10 fl_LockstepRoom_Room_134_X10 hk fun x28 hk =>
g_clI (rest := []) F dX2_foresee_4 q223 q224 q225 q226 q227 q228 (Nat.le_of_ble_eq_true rfl) (Nat.le_of_ble_eq_true rfl) (show 0 + 0 + 1 ≤ 1 by omega) (show 0 + 0 + 16 ≤ 16 by omega) hk fun q29 h30 hk =>
g_castA (t := 0) F dX2_foresee_7 q229 F.arr0 hk fun hk =>
g_astore_n F dX2_foresee_10 rfl (Nat.le_of_ble_eq_true rfl) rfl <|
g_iload_n F dX2_foresee_11 rfl 3 rfl <|
g_istore F dX2_foresee_12 (Nat.le_of_ble_eq_true rfl) rfl <|
G.fewer [2, 3, 1, 0] rfl <| G.widen (show 0 + 0 + 1 ≤ 0 + 1 by omega) (show 0 + 0 + 16 ≤ 0 + 16 by omega) <| s_X2_foresee_l14 F (ce := 0 + 1) (ke := 0 + 16) (show 0 + 1 ≤ 1 by omega) (show 0 + 16 ≤ 16 by omega) 1000000 v1 (some q29) v2 h30 (0 + 1) (0 + 16) (show 0 + 1 + 1000000 * 0 ≤ 0 + 1 by omega) (show 0 + 16 + 1000000 * 0 ≤ 0 + 16 by omega) hk ((fun l3 h hk => g_aload_n F dX2_foresee_133 rfl 0 rfl <|
g_aret F (Or.inr ⟨_, rfl⟩) dX2_foresee_134 (show 0 + 1 ≤ 1 by omega) (show 0 + 16 ≤ 16 by omega) hk))
